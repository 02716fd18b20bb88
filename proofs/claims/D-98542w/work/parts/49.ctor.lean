/-! THE SMALL CONSTRUCTORS; printed by gen/ctor.py -/
set_option maxRecDepth 100000
theorem m7_init {l : Launch} {d : gD} {ws : va_W} {b : Nat} : Mt l d yX7_init cX7_init 1 none (1, 0, 0) 20 ws [.ref b] (fun v w => v = none ∧ w = ws) := by
  refine Mt.ofI (by decide +kernel) (Nat.le_of_ble_eq_true rfl) rfl ?_
  intro Γ hl hd hN hI C hE
  subst hl; subst hd
  show Go Γ 0 0 ws 0 [(0, .ref b)] []
  refine go_aload_n (pc := 0) C dX7_init_0 rfl 0 rfl ?_
  refine go_objInit (pc := 1) C q765 q170 q171 (by decide) (by decide) dX7_init_1 ?_
  exact (hE 0 0 _ 4 [(0, .ref b)] (Nat.le_refl _) (Nat.le_refl _)).2.2.2.1 rfl dX7_init_4 ⟨rfl, rfl⟩
theorem m11_init {l : Launch} {d : gD} {ws : va_W} {b : Nat} : Mt l d yX11_init cX11_init 1 none (1, 0, 0) 20 ws [.ref b] (fun v w => v = none ∧ w = ws) := by
  refine Mt.ofI (by decide +kernel) (Nat.le_of_ble_eq_true rfl) rfl ?_
  intro Γ hl hd hN hI C hE
  subst hl; subst hd
  show Go Γ 0 0 ws 0 [(0, .ref b)] []
  refine go_aload_n (pc := 0) C dX11_init_0 rfl 0 rfl ?_
  refine go_objInit (pc := 1) C q826 q170 q171 (by decide) (by decide) dX11_init_1 ?_
  exact (hE 0 0 _ 4 [(0, .ref b)] (Nat.le_refl _) (Nat.le_refl _)).2.2.2.1 rfl dX11_init_4 ⟨rfl, rfl⟩
theorem m6_init {l : Launch} {d : gD} {ws : va_W} {b : Nat} : Mt l d yX6_init cX6_init 1 none (1, 0, 0) 20 ws [.ref b] (fun v w => v = none ∧ w = ws) := by
  refine Mt.ofI (by decide +kernel) (Nat.le_of_ble_eq_true rfl) rfl ?_
  intro Γ hl hd hN hI C hE
  subst hl; subst hd
  show Go Γ 0 0 ws 0 [(0, .ref b)] []
  refine go_aload_n (pc := 0) C dX6_init_0 rfl 0 rfl ?_
  refine go_objInit (pc := 1) C q730 q170 q171 (by decide) (by decide) dX6_init_1 ?_
  exact (hE 0 0 _ 4 [(0, .ref b)] (Nat.le_refl _) (Nat.le_refl _)).2.2.2.1 rfl dX6_init_4 ⟨rfl, rfl⟩
theorem m8_init {l : Launch} {d : gD} {b : Nat} {v1 : Int64} : Mt l d yX8_init cX8_init 3 none (2, 0, 0) 50 [(b, .inr (7, [.long 0]))] [.ref b, .long v1] (fun v w => v = none ∧ w = [(b, .inr (7, [.long v1]))]) := by
  refine Mt.ofI (by decide +kernel) (Nat.le_of_ble_eq_true rfl) rfl ?_
  intro Γ hl hd hN hI C hE
  subst hl; subst hd
  show Go Γ 0 0 [(b, .inr (7, [.long 0]))] 0 [(0, .ref b), (1, .long v1)] []
  refine go_aload_n (pc := 0) C dX8_init_0 rfl 0 rfl ?_
  refine go_callIN (pc := 1) C [] (m7_init (ws := [(b, .inr (7, [.long 0]))])) q762 q763 q154 q764 rfl (by decide +kernel) ⟨by decide, by decide⟩ rfl (by decide) ⟨by decide, by decide⟩ dX8_init_1 rfl (fun v9 w9 h9 => ?_)
  obtain ⟨rfl, rfl⟩ := h9
  show Go Γ 0 0 [(b, .inr (7, [.long 0]))] 4 [(0, .ref b), (1, .long v1)] []
  refine go_aload_n (pc := 4) C dX8_init_4 rfl 0 rfl ?_
  refine go_lload_n (pc := 5) C dX8_init_5 rfl 1 rfl ?_
  refine go_putF (pc := 6) (v := .long v1) (ty := .long) (ws' := [(b, .inr (7, [.long v1]))]) C hI 0 ⟨0, rfl, rfl⟩ (ci := 7) rfl in_X8 tyX8 tyX8_ok nmX8 (by decide) q766 rfl rfl rfl rfl rfl (Nat.le_of_ble_eq_true rfl) dX8_init_6 ?_
  exact (hE 0 0 _ 9 [(0, .ref b), (1, .long v1)] (Nat.le_refl _) (Nat.le_refl _)).2.2.2.1 rfl dX8_init_9 ⟨rfl, rfl⟩
theorem m9_init {l : Launch} {d : gD} {b : Nat} {v1 : Int32} : Mt l d yX9_init cX9_init 2 none (2, 0, 0) 50 [(b, .inr (8, [.int 0]))] [.ref b, .int v1] (fun v w => v = none ∧ w = [(b, .inr (8, [.int v1]))]) := by
  refine Mt.ofI (by decide +kernel) (Nat.le_of_ble_eq_true rfl) rfl ?_
  intro Γ hl hd hN hI C hE
  subst hl; subst hd
  show Go Γ 0 0 [(b, .inr (8, [.int 0]))] 0 [(0, .ref b), (1, .int v1)] []
  refine go_aload_n (pc := 0) C dX9_init_0 rfl 0 rfl ?_
  refine go_callIN (pc := 1) C [] (m7_init (ws := [(b, .inr (8, [.int 0]))])) q775 q763 q154 q764 rfl (by decide +kernel) ⟨by decide, by decide⟩ rfl (by decide) ⟨by decide, by decide⟩ dX9_init_1 rfl (fun v9 w9 h9 => ?_)
  obtain ⟨rfl, rfl⟩ := h9
  show Go Γ 0 0 [(b, .inr (8, [.int 0]))] 4 [(0, .ref b), (1, .int v1)] []
  refine go_aload_n (pc := 4) C dX9_init_4 rfl 0 rfl ?_
  refine go_iload_n (pc := 5) C dX9_init_5 rfl 1 rfl ?_
  refine go_putF (pc := 6) (v := .int v1) (ty := .int) (ws' := [(b, .inr (8, [.int v1]))]) C hI 0 ⟨0, rfl, rfl⟩ (ci := 8) rfl in_X9 tyX9 tyX9_ok nmX9 (by decide) q776 rfl rfl rfl rfl rfl (Nat.le_of_ble_eq_true rfl) dX9_init_6 ?_
  exact (hE 0 0 _ 9 [(0, .ref b), (1, .int v1)] (Nat.le_refl _) (Nat.le_refl _)).2.2.2.1 rfl dX9_init_9 ⟨rfl, rfl⟩
theorem m10_init {l : Launch} {d : gD} {b : Nat} {v1 : Nat} {v2 : Int32} {v3 : Nat} : Mt l d yX10_init cX10_init 4 none (2, 0, 0) 50 [(b, .inr (9, [.null, .null, .int 0]))] [.ref b, .ref v1, .int v2, .ref v3] (fun v w => v = none ∧ w = [(b, .inr (9, [.ref v1, .ref v3, .int v2]))]) := by
  refine Mt.ofI (by decide +kernel) (Nat.le_of_ble_eq_true rfl) rfl ?_
  intro Γ hl hd hN hI C hE
  subst hl; subst hd
  show Go Γ 0 0 [(b, .inr (9, [.null, .null, .int 0]))] 0 [(0, .ref b), (1, .ref v1), (2, .int v2), (3, .ref v3)] []
  refine go_aload_n (pc := 0) C dX10_init_0 rfl 0 rfl ?_
  refine go_callIN (pc := 1) C [] (m7_init (ws := [(b, .inr (9, [.null, .null, .int 0]))])) q785 q763 q154 q764 rfl (by decide +kernel) ⟨by decide, by decide⟩ rfl (by decide) ⟨by decide, by decide⟩ dX10_init_1 rfl (fun v9 w9 h9 => ?_)
  obtain ⟨rfl, rfl⟩ := h9
  show Go Γ 0 0 [(b, .inr (9, [.null, .null, .int 0]))] 4 [(0, .ref b), (1, .ref v1), (2, .int v2), (3, .ref v3)] []
  refine go_aload_n (pc := 4) C dX10_init_4 rfl 0 rfl ?_
  refine go_aload_n (pc := 5) C dX10_init_5 rfl 1 rfl ?_
  refine go_putF (pc := 6) (v := .ref v1) (ty := .object "PartyRaft$Value") (ws' := [(b, .inr (9, [.ref v1, .null, .int 0]))]) C hI 0 ⟨0, rfl, rfl⟩ (ci := 9) rfl in_X10 tyX10 tyX10_ok nmX10 (by decide) q786 rfl rfl rfl rfl rfl (Nat.le_of_ble_eq_true rfl) dX10_init_6 ?_
  refine go_aload_n (pc := 9) C dX10_init_9 rfl 0 rfl ?_
  refine go_iload_n (pc := 10) C dX10_init_10 rfl 2 rfl ?_
  refine go_putF (pc := 11) (v := .int v2) (ty := .int) (ws' := [(b, .inr (9, [.ref v1, .null, .int v2]))]) C hI 2 ⟨0, rfl, rfl⟩ (ci := 9) rfl in_X10 tyX10 tyX10_ok nmX10 (by decide) q788 rfl rfl rfl rfl rfl (Nat.le_of_ble_eq_true rfl) dX10_init_11 ?_
  refine go_aload_n (pc := 14) C dX10_init_14 rfl 0 rfl ?_
  refine go_aload_n (pc := 15) C dX10_init_15 rfl 3 rfl ?_
  refine go_putF (pc := 16) (v := .ref v3) (ty := .object "PartyRaft$Value") (ws' := [(b, .inr (9, [.ref v1, .ref v3, .int v2]))]) C hI 1 ⟨0, rfl, rfl⟩ (ci := 9) rfl in_X10 tyX10 tyX10_ok nmX10 (by decide) q787 rfl rfl rfl rfl rfl (Nat.le_of_ble_eq_true rfl) dX10_init_16 ?_
  exact (hE 0 0 _ 19 [(0, .ref b), (1, .ref v1), (2, .int v2), (3, .ref v3)] (Nat.le_refl _) (Nat.le_refl _)).2.2.2.1 rfl dX10_init_19 ⟨rfl, rfl⟩
theorem m12_init {l : Launch} {d : gD} {b : Nat} {v1 : Nat} : Mt l d yX12_init cX12_init 2 none (2, 0, 0) 50 [(b, .inr (10, [.null]))] [.ref b, .ref v1] (fun v w => v = none ∧ w = [(b, .inr (10, [.ref v1]))]) := by
  refine Mt.ofI (by decide +kernel) (Nat.le_of_ble_eq_true rfl) rfl ?_
  intro Γ hl hd hN hI C hE
  subst hl; subst hd
  show Go Γ 0 0 [(b, .inr (10, [.null]))] 0 [(0, .ref b), (1, .ref v1)] []
  refine go_aload_n (pc := 0) C dX12_init_0 rfl 0 rfl ?_
  refine go_callIN (pc := 1) C [] (m11_init (ws := [(b, .inr (10, [.null]))])) q823 q824 q158 q825 rfl (by decide +kernel) ⟨by decide, by decide⟩ rfl (by decide) ⟨by decide, by decide⟩ dX12_init_1 rfl (fun v9 w9 h9 => ?_)
  obtain ⟨rfl, rfl⟩ := h9
  show Go Γ 0 0 [(b, .inr (10, [.null]))] 4 [(0, .ref b), (1, .ref v1)] []
  refine go_aload_n (pc := 4) C dX12_init_4 rfl 0 rfl ?_
  refine go_aload_n (pc := 5) C dX12_init_5 rfl 1 rfl ?_
  refine go_putF (pc := 6) (v := .ref v1) (ty := .object "PartyRaft$Test") (ws' := [(b, .inr (10, [.ref v1]))]) C hI 0 ⟨0, rfl, rfl⟩ (ci := 10) rfl in_X12 tyX12 tyX12_ok nmX12 (by decide) q827 rfl rfl rfl rfl rfl (Nat.le_of_ble_eq_true rfl) dX12_init_6 ?_
  exact (hE 0 0 _ 9 [(0, .ref b), (1, .ref v1)] (Nat.le_refl _) (Nat.le_refl _)).2.2.2.1 rfl dX12_init_9 ⟨rfl, rfl⟩
theorem m13_init {l : Launch} {d : gD} {b : Nat} {v1 : Nat} {v2 : Int32} {v3 : Nat} : Mt l d yX13_init cX13_init 4 none (2, 0, 0) 50 [(b, .inr (11, [.null, .null, .int 0]))] [.ref b, .ref v1, .int v2, .ref v3] (fun v w => v = none ∧ w = [(b, .inr (11, [.ref v1, .ref v3, .int v2]))]) := by
  refine Mt.ofI (by decide +kernel) (Nat.le_of_ble_eq_true rfl) rfl ?_
  intro Γ hl hd hN hI C hE
  subst hl; subst hd
  show Go Γ 0 0 [(b, .inr (11, [.null, .null, .int 0]))] 0 [(0, .ref b), (1, .ref v1), (2, .int v2), (3, .ref v3)] []
  refine go_aload_n (pc := 0) C dX13_init_0 rfl 0 rfl ?_
  refine go_callIN (pc := 1) C [] (m11_init (ws := [(b, .inr (11, [.null, .null, .int 0]))])) q840 q824 q158 q825 rfl (by decide +kernel) ⟨by decide, by decide⟩ rfl (by decide) ⟨by decide, by decide⟩ dX13_init_1 rfl (fun v9 w9 h9 => ?_)
  obtain ⟨rfl, rfl⟩ := h9
  show Go Γ 0 0 [(b, .inr (11, [.null, .null, .int 0]))] 4 [(0, .ref b), (1, .ref v1), (2, .int v2), (3, .ref v3)] []
  refine go_aload_n (pc := 4) C dX13_init_4 rfl 0 rfl ?_
  refine go_aload_n (pc := 5) C dX13_init_5 rfl 1 rfl ?_
  refine go_putF (pc := 6) (v := .ref v1) (ty := .object "PartyRaft$Value") (ws' := [(b, .inr (11, [.ref v1, .null, .int 0]))]) C hI 0 ⟨0, rfl, rfl⟩ (ci := 11) rfl in_X13 tyX13 tyX13_ok nmX13 (by decide) q841 rfl rfl rfl rfl rfl (Nat.le_of_ble_eq_true rfl) dX13_init_6 ?_
  refine go_aload_n (pc := 9) C dX13_init_9 rfl 0 rfl ?_
  refine go_iload_n (pc := 10) C dX13_init_10 rfl 2 rfl ?_
  refine go_putF (pc := 11) (v := .int v2) (ty := .int) (ws' := [(b, .inr (11, [.ref v1, .null, .int v2]))]) C hI 2 ⟨0, rfl, rfl⟩ (ci := 11) rfl in_X13 tyX13 tyX13_ok nmX13 (by decide) q843 rfl rfl rfl rfl rfl (Nat.le_of_ble_eq_true rfl) dX13_init_11 ?_
  refine go_aload_n (pc := 14) C dX13_init_14 rfl 0 rfl ?_
  refine go_aload_n (pc := 15) C dX13_init_15 rfl 3 rfl ?_
  refine go_putF (pc := 16) (v := .ref v3) (ty := .object "PartyRaft$Value") (ws' := [(b, .inr (11, [.ref v1, .ref v3, .int v2]))]) C hI 1 ⟨0, rfl, rfl⟩ (ci := 11) rfl in_X13 tyX13 tyX13_ok nmX13 (by decide) q842 rfl rfl rfl rfl rfl (Nat.le_of_ble_eq_true rfl) dX13_init_16 ?_
  exact (hE 0 0 _ 19 [(0, .ref b), (1, .ref v1), (2, .int v2), (3, .ref v3)] (Nat.le_refl _) (Nat.le_refl _)).2.2.2.1 rfl dX13_init_19 ⟨rfl, rfl⟩
theorem m14_init {l : Launch} {d : gD} {b : Nat} {v1 : Nat} {v2 : Int32} {v3 : Nat} (hz : isB v2 = true) : Mt l d yX14_init cX14_init 4 none (2, 0, 0) 50 [(b, .inr (12, [.null, .null, .int 0]))] [.ref b, .ref v1, .int v2, .ref v3] (fun v w => v = none ∧ w = [(b, .inr (12, [.ref v1, .ref v3, .int v2]))]) := by
  refine Mt.ofI (by decide +kernel) (Nat.le_of_ble_eq_true rfl) rfl ?_
  intro Γ hl hd hN hI C hE
  subst hl; subst hd
  show Go Γ 0 0 [(b, .inr (12, [.null, .null, .int 0]))] 0 [(0, .ref b), (1, .ref v1), (2, .int v2), (3, .ref v3)] []
  refine go_aload_n (pc := 0) C dX14_init_0 rfl 0 rfl ?_
  refine go_callIN (pc := 1) C [] (m11_init (ws := [(b, .inr (12, [.null, .null, .int 0]))])) q857 q824 q158 q825 rfl (by decide +kernel) ⟨by decide, by decide⟩ rfl (by decide) ⟨by decide, by decide⟩ dX14_init_1 rfl (fun v9 w9 h9 => ?_)
  obtain ⟨rfl, rfl⟩ := h9
  show Go Γ 0 0 [(b, .inr (12, [.null, .null, .int 0]))] 4 [(0, .ref b), (1, .ref v1), (2, .int v2), (3, .ref v3)] []
  refine go_aload_n (pc := 4) C dX14_init_4 rfl 0 rfl ?_
  refine go_aload_n (pc := 5) C dX14_init_5 rfl 1 rfl ?_
  refine go_putF (pc := 6) (v := .ref v1) (ty := .object "PartyRaft$Test") (ws' := [(b, .inr (12, [.ref v1, .null, .int 0]))]) C hI 0 ⟨0, rfl, rfl⟩ (ci := 12) rfl in_X14 tyX14 tyX14_ok nmX14 (by decide) q858 rfl rfl rfl rfl rfl (Nat.le_of_ble_eq_true rfl) dX14_init_6 ?_
  refine go_aload_n (pc := 9) C dX14_init_9 rfl 0 rfl ?_
  refine go_iload_n (pc := 10) C dX14_init_10 rfl 2 rfl ?_
  refine go_putF (pc := 11) (v := .int v2) (ty := .boolean) (ws' := [(b, .inr (12, [.ref v1, .null, .int v2]))]) C hI 2 ⟨0, rfl, rfl⟩ (ci := 12) rfl in_X14 tyX14 tyX14_ok nmX14 (by decide) q860 rfl rfl rfl (isB_n hz) (isB_f hz) (Nat.le_of_ble_eq_true rfl) dX14_init_11 ?_
  refine go_aload_n (pc := 14) C dX14_init_14 rfl 0 rfl ?_
  refine go_aload_n (pc := 15) C dX14_init_15 rfl 3 rfl ?_
  refine go_putF (pc := 16) (v := .ref v3) (ty := .object "PartyRaft$Test") (ws' := [(b, .inr (12, [.ref v1, .ref v3, .int v2]))]) C hI 1 ⟨0, rfl, rfl⟩ (ci := 12) rfl in_X14 tyX14 tyX14_ok nmX14 (by decide) q859 rfl rfl rfl rfl rfl (Nat.le_of_ble_eq_true rfl) dX14_init_16 ?_
  exact (hE 0 0 _ 19 [(0, .ref b), (1, .ref v1), (2, .int v2), (3, .ref v3)] (Nat.le_refl _) (Nat.le_refl _)).2.2.2.1 rfl dX14_init_19 ⟨rfl, rfl⟩

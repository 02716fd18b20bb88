/-! walks of the raft, printed by gen/raft.py -/
set_option maxRecDepth 100000
set_option maxHeartbeats 4000000
theorem w0_four_3 {Γ : Gam} {A : XA} {L : List Nat} {E : va_W} {v1 : Int32} {s9 : (Nat → Bl)} (hN : Γ.nL = 3) (C : Cx Γ cX0_four RX0 (0, 0, 0) 0) (hE : Rets Γ cX0_four none 0 0 (fun v w => v = none ∧ w = (XW Γ.d A L E s9))) (hL : xOK L) : ∀ (n : Nat) (s : (Nat → Bl) × Int32), loop (g0_four_3 v1) n s = some s9 → (fun s : (Nat → Bl) × Int32 => Go Γ 0 0 (XW Γ.d A L E s.1) 3 [(0, .ref (A.1 0 0)), (1, .int v1), (2, .int s.2)] []) s := by
  refine loop_walk (P := fun s : (Nat → Bl) × Int32 => Go Γ 0 0 (XW Γ.d A L E s.1) 3 [(0, .ref (A.1 0 0)), (1, .int v1), (2, .int s.2)] []) ?_
  intro K3 hK3 s h
  obtain ⟨s0, v2⟩ := s
  dsimp only [g0_four_3] at h
  show Go Γ 0 0 (XW Γ.d A L E s0) 3 [(0, .ref (A.1 0 0)), (1, .int v1), (2, .int v2)] []
  refine go_iload_n (pc := 3) C dX0_four_3 rfl 2 rfl ?_
  refine go_if_lt (pc := 4) (tgt := 36) C dX0_four_4 (by decide) h (fun h => ?_) (fun h => ?_)
  · exact (hE 0 0 _ _ _ (Nat.zero_le _) (Nat.zero_le _)).2.2.2.1 rfl dX0_four_36 ⟨rfl, congrArg (fun z => (XW Γ.d A L E z)) (some1 h)⟩
  · refine go_aload_n (pc := 7) C dX0_four_7 rfl 0 rfl ?_
    refine X0g_0_7 (pc := 8) C hL dX0_four_8 ?_
    refine go_aload_n (pc := 11) C dX0_four_11 rfl 0 rfl ?_
    refine X0g_0_8 (pc := 12) C hL dX0_four_12 ?_
    refine go_iload_n (pc := 15) C dX0_four_15 rfl 1 rfl ?_
    refine go_iload_n (pc := 16) C dX0_four_16 rfl 2 rfl ?_
    refine go_ishr (pc := 17) C dX0_four_17 ?_
    refine go_i2b (pc := 18) C dX0_four_18 ?_
    refine go_bast (pc := 19) C (xpa_0_7 hL) h dX0_four_19 (fun h => ?_)
    refine go_aload_n (pc := 20) C dX0_four_20 rfl 0 rfl ?_
    refine go_dup (pc := 21) C dX0_four_21 rfl ?_
    refine X0g_0_8 (pc := 22) C hL dX0_four_22 ?_
    refine go_iconst (pc := 25) (v := (1 : Int32)) C dX0_four_25 (by decide) ?_
    refine go_iadd (pc := 26) C dX0_four_26 ?_
    refine X0p_0_8 (pc := 27) C hL dX0_four_27 ?_
    refine go_nm (pc := 30) (fun z9 => (XW Γ.d A L E z9)) (fun s1 es1 => ?_)
    have h := ltv_eq es1 h
    refine go_iinc (pc := 30) (v := (v2 + (-8 : Int32))) C hN dX0_four_30 (q := 2) rfl rfl (by decide) rfl ?_
    refine go_goto (pc := 33) (tgt := 3) C dX0_four_33 (by decide) ?_
    refine go_sub [1, 2, 0] rfl ?_
    exact hK3 (s1, (v2 + (-8 : Int32))) h
theorem m0_four {l : Launch} {d : gD} {A : XA} {L : List Nat} {E : va_W} {s0 : (Nat → Bl)} {v1 : Int32} {s9 : (Nat → Bl)} (hL : xOK L) (h : f0_four s0 v1 = some s9) : Mt l d yX0_four cX0_four 3 none (0, 0, 0) 0 (XW d A L E s0) [.ref (A.1 0 0), .int v1] (fun v w => v = none ∧ w = (XW d A L E s9)) := by
  refine Mt.of x0pn (Nat.le_of_ble_eq_true rfl) ?_
  intro Γ hl hd hN C hE
  subst hl; subst hd
  show Go Γ 0 0 (XW Γ.d A L E s0) 0 [(0, .ref (A.1 0 0)), (1, .int v1)] []
  dsimp only [f0_four] at h
  refine go_bipush (pc := 0) (v := (24 : Int32)) C dX0_four_0 (by decide) ?_
  refine go_istore_n (pc := 2) C hN dX0_four_2 rfl (by decide) rfl ?_
  refine go_sub [1, 2, 0] rfl ?_
  exact w0_four_3 hN C hE hL FU (s0, (24 : Int32)) h
theorem m0_feed {l : Launch} {d : gD} {A : XA} {L : List Nat} {E : va_W} {s0 : (Nat → Bl)} {v1 : Int32} {v2 : Int32} {v3 : Int32} {v4 : Int32} {v5 : Int32} {r9 : Int32} {s9 : (Nat → Bl)} (hL : xOK L) (h : f0_feed s0 v1 v2 v3 v4 v5 = some (r9, s9)) : Mt l d yX0_feed cX0_feed 6 (some .int) (1, 0, 0) 22 (XW d A L E s0) [.ref (A.1 0 0), .int v1, .int v2, .int v3, .int v4, .int v5] (fun v w => v = some (.int r9) ∧ w = (XW d A L E s9)) := by
  refine Mt.of x0pn (Nat.le_of_ble_eq_true rfl) ?_
  intro Γ hl hd hN C hE
  subst hl; subst hd
  show Go Γ 0 0 (XW Γ.d A L E s0) 0 [(0, .ref (A.1 0 0)), (1, .int v1), (2, .int v2), (3, .int v3), (4, .int v4), (5, .int v5)] []
  dsimp only [f0_feed] at h
  refine go_aload_n (pc := 0) C dX0_feed_0 rfl 0 rfl ?_
  refine X0g_0_8 (pc := 1) C hL dX0_feed_1 ?_
  refine go_bipush (pc := 4) (v := (20 : Int32)) C dX0_feed_4 (by decide) ?_
  refine go_iadd (pc := 6) C dX0_feed_6 ?_
  refine go_sipush (pc := 7) (v := (400 : Int32)) C dX0_feed_7 (by decide) ?_
  refine go_icmp_le (pc := 10) (tgt := 15) C dX0_feed_10 (by decide) h (fun h => ?_) (fun h => ?_)
  · refine go_aload_n (pc := 15) C dX0_feed_15 rfl 0 rfl ?_
    refine go_iload_n (pc := 16) C dX0_feed_16 rfl 1 rfl ?_
    obtain ⟨s1, e1, h⟩ := bnd_some h
    refine go_callVv (pc := 17) C [.int v1] (m0_four hL e1) q507 q509 qs1 q138 q510 x0pd_four (by decide) (by decide) (xO (hL.2 0 (by decide)) hL.1) xc0 rfl (Nat.le_of_ble_eq_true rfl) ⟨Nat.zero_le _, Nat.zero_le _⟩ dX0_feed_17 rfl ?_
    refine go_aload_n (pc := 20) C dX0_feed_20 rfl 0 rfl ?_
    refine go_iload_n (pc := 21) C dX0_feed_21 rfl 2 rfl ?_
    obtain ⟨s2, e2, h⟩ := bnd_some h
    refine go_callVv (pc := 22) C [.int v2] (m0_four hL e2) q507 q509 qs1 q138 q510 x0pd_four (by decide) (by decide) (xO (hL.2 0 (by decide)) hL.1) xc0 rfl (Nat.le_of_ble_eq_true rfl) ⟨Nat.zero_le _, Nat.zero_le _⟩ dX0_feed_22 rfl ?_
    refine go_aload_n (pc := 25) C dX0_feed_25 rfl 0 rfl ?_
    refine go_iload_n (pc := 26) C dX0_feed_26 rfl 3 rfl ?_
    obtain ⟨s3, e3, h⟩ := bnd_some h
    refine go_callVv (pc := 27) C [.int v3] (m0_four hL e3) q507 q509 qs1 q138 q510 x0pd_four (by decide) (by decide) (xO (hL.2 0 (by decide)) hL.1) xc0 rfl (Nat.le_of_ble_eq_true rfl) ⟨Nat.zero_le _, Nat.zero_le _⟩ dX0_feed_27 rfl ?_
    refine go_aload_n (pc := 30) C dX0_feed_30 rfl 0 rfl ?_
    refine go_iload (pc := 31) C dX0_feed_31 4 rfl ?_
    obtain ⟨s4, e4, h⟩ := bnd_some h
    refine go_callVv (pc := 33) C [.int v4] (m0_four hL e4) q507 q509 qs1 q138 q510 x0pd_four (by decide) (by decide) (xO (hL.2 0 (by decide)) hL.1) xc0 rfl (Nat.le_of_ble_eq_true rfl) ⟨Nat.zero_le _, Nat.zero_le _⟩ dX0_feed_33 rfl ?_
    refine go_aload_n (pc := 36) C dX0_feed_36 rfl 0 rfl ?_
    refine go_iload (pc := 37) C dX0_feed_37 5 rfl ?_
    obtain ⟨s5, e5, h⟩ := bnd_some h
    refine go_callVv (pc := 39) C [.int v5] (m0_four hL e5) q507 q509 qs1 q138 q510 x0pd_four (by decide) (by decide) (xO (hL.2 0 (by decide)) hL.1) xc0 rfl (Nat.le_of_ble_eq_true rfl) ⟨Nat.zero_le _, Nat.zero_le _⟩ dX0_feed_39 rfl ?_
    refine go_aload_n (pc := 42) C dX0_feed_42 rfl 0 rfl ?_
    refine X0g_0_8 (pc := 43) C hL dX0_feed_43 ?_
    exact (hE 0 0 _ _ _ (Nat.zero_le _) (Nat.zero_le _)).1 _ rfl dX0_feed_46 ⟨congrArg (fun z => some (Value.int z)) (some2 h).1, congrArg (fun z => (XW Γ.d A L E z)) (some2 h).2⟩
  · refine go_iconst (pc := 13) (v := (-1 : Int32)) C dX0_feed_13 (by decide) ?_
    exact (hE 0 0 _ _ _ (Nat.zero_le _) (Nat.zero_le _)).1 _ rfl dX0_feed_14 ⟨congrArg (fun z => some (Value.int z)) (some2 h).1, congrArg (fun z => (XW Γ.d A L E z)) (some2 h).2⟩
theorem m0_end {l : Launch} {d : gD} {A : XA} {L : List Nat} {E : va_W} {s0 : (Nat → Bl)} {v1 : Int32} {r9 : Int32} {s9 : (Nat → Bl)} (hL : xOK L) (h : f0_end s0 v1 = some (r9, s9)) : Mt l d yX0_end cX0_end 2 (some .int) (0, 0, 0) 0 (XW d A L E s0) [.ref (A.1 0 0), .int v1] (fun v w => v = some (.int r9) ∧ w = (XW d A L E s9)) := by
  refine Mt.of x0pn (Nat.le_of_ble_eq_true rfl) ?_
  intro Γ hl hd hN C hE
  subst hl; subst hd
  show Go Γ 0 0 (XW Γ.d A L E s0) 0 [(0, .ref (A.1 0 0)), (1, .int v1)] []
  dsimp only [f0_end] at h
  refine go_iload_n (pc := 0) C dX0_end_0 rfl 1 rfl ?_
  refine go_if_lt (pc := 1) (tgt := 12) C dX0_end_1 (by decide) h (fun h => ?_) (fun h => ?_)
  · refine go_iconst (pc := 12) (v := (-1 : Int32)) C dX0_end_12 (by decide) ?_
    exact (hE 0 0 _ _ _ (Nat.zero_le _) (Nat.zero_le _)).1 _ rfl dX0_end_13 ⟨congrArg (fun z => some (Value.int z)) (some2 h).1, congrArg (fun z => (XW Γ.d A L E z)) (some2 h).2⟩
  · refine go_iload_n (pc := 4) C dX0_end_4 rfl 1 rfl ?_
    refine go_aload_n (pc := 5) C dX0_end_5 rfl 0 rfl ?_
    refine X0g_0_8 (pc := 6) C hL dX0_end_6 ?_
    refine go_icmp_le (pc := 9) (tgt := 14) C dX0_end_9 (by decide) h (fun h => ?_) (fun h => ?_)
    · refine go_aload_n (pc := 14) C dX0_end_14 rfl 0 rfl ?_
      refine go_iload_n (pc := 15) C dX0_end_15 rfl 1 rfl ?_
      refine X0p_0_8 (pc := 16) C hL dX0_end_16 ?_
      refine go_iload_n (pc := 19) C dX0_end_19 rfl 1 rfl ?_
      exact (hE 0 0 _ _ _ (Nat.zero_le _) (Nat.zero_le _)).1 _ rfl dX0_end_20 ⟨congrArg (fun z => some (Value.int z)) (some2 h).1, congrArg (fun z => (XW Γ.d A L E z)) (some2 h).2⟩
    · refine go_iconst (pc := 12) (v := (-1 : Int32)) C dX0_end_12 (by decide) ?_
      exact (hE 0 0 _ _ _ (Nat.zero_le _) (Nat.zero_le _)).1 _ rfl dX0_end_13 ⟨congrArg (fun z => some (Value.int z)) (some2 h).1, congrArg (fun z => (XW Γ.d A L E z)) (some2 h).2⟩
theorem m0_isOwner {l : Launch} {d : gD} {A : XA} {L : List Nat} {E : va_W} {s0 : (Nat → Bl)} {v1 : Int32} {r9 : Int32} (hL : xOK L) (h : f0_isOwner s0 v1 = some r9) : Mt l d yX0_isOwner cX0_isOwner 2 (some .boolean) (0, 0, 0) 0 (XW d A L E s0) [.ref (A.1 0 0), .int v1] (fun v w => v = some (.int r9) ∧ w = (XW d A L E s0)) := by
  refine Mt.of x0pn (Nat.le_of_ble_eq_true rfl) ?_
  intro Γ hl hd hN C hE
  subst hl; subst hd
  show Go Γ 0 0 (XW Γ.d A L E s0) 0 [(0, .ref (A.1 0 0)), (1, .int v1)] []
  dsimp only [f0_isOwner] at h
  refine go_aload_n (pc := 0) C dX0_isOwner_0 rfl 0 rfl ?_
  by_cases c4n : (s0 0).1 0 = 0
  · have h := (if_pos c4n).symm.trans h
    refine X0g_0_0N (pc := 1) C hL c4n dX0_isOwner_1 ?_
    refine go_ifnullN (pc := 4) (tgt := 26) C dX0_isOwner_4 (by decide) ?_
    refine go_iconst (pc := 26) (v := (0 : Int32)) C dX0_isOwner_26 (by decide) ?_
    exact (hE 0 0 _ _ _ (Nat.zero_le _) (Nat.zero_le _)).2.1 _ rfl (Or.inl rfl) dX0_isOwner_27 ⟨congrArg (fun z => some (Value.int z)) (some1 h), rfl⟩
  · have h := (if_neg c4n).symm.trans h
    refine X0g_0_0 (pc := 1) C hL c4n dX0_isOwner_1 ?_
    refine go_ifnull (pc := 4) C dX0_isOwner_4 ?_
    refine go_iload_n (pc := 7) C dX0_isOwner_7 rfl 1 rfl ?_
    refine go_if_lt (pc := 8) (tgt := 26) C dX0_isOwner_8 (by decide) h (fun h => ?_) (fun h => ?_)
    · refine go_iconst (pc := 26) (v := (0 : Int32)) C dX0_isOwner_26 (by decide) ?_
      exact (hE 0 0 _ _ _ (Nat.zero_le _) (Nat.zero_le _)).2.1 _ rfl (Or.inl rfl) dX0_isOwner_27 ⟨congrArg (fun z => some (Value.int z)) (some1 h), rfl⟩
    · refine go_iload_n (pc := 11) C dX0_isOwner_11 rfl 1 rfl ?_
      refine go_aload_n (pc := 12) C dX0_isOwner_12 rfl 0 rfl ?_
      obtain ⟨hz9, h⟩ := chk_some h
      refine X0g_0_0 (pc := 13) C hL (of_decide_eq_true hz9) dX0_isOwner_13 ?_
      refine X0g_1_1 (pc := 16) C hL dX0_isOwner_16 ?_
      refine go_icmp_ge (pc := 19) (tgt := 26) C dX0_isOwner_19 (by decide) h (fun h => ?_) (fun h => ?_)
      · refine go_iconst (pc := 26) (v := (0 : Int32)) C dX0_isOwner_26 (by decide) ?_
        exact (hE 0 0 _ _ _ (Nat.zero_le _) (Nat.zero_le _)).2.1 _ rfl (Or.inl rfl) dX0_isOwner_27 ⟨congrArg (fun z => some (Value.int z)) (some1 h), rfl⟩
      · refine go_iconst (pc := 22) (v := (1 : Int32)) C dX0_isOwner_22 (by decide) ?_
        refine go_goto (pc := 23) (tgt := 27) C dX0_isOwner_23 (by decide) ?_
        exact (hE 0 0 _ _ _ (Nat.zero_le _) (Nat.zero_le _)).2.1 _ rfl (Or.inr rfl) dX0_isOwner_27 ⟨congrArg (fun z => some (Value.int z)) (some1 h), rfl⟩
theorem m0_owner {l : Launch} {d : gD} {A : XA} {L : List Nat} {E : va_W} {s0 : (Nat → Bl)} {v1 : Int32} {v2 : Int32} {r9 : Int32} {s9 : (Nat → Bl)} (hL : xOK L) (h : f0_owner s0 v1 v2 = some (r9, s9)) : Mt l d yX0_owner cX0_owner 3 (some .int) (3, 0, 0) 68 (XW d A L E s0) [.ref (A.1 0 0), .int v1, .int v2] (fun v w => v = some (.int r9) ∧ w = (XW d A L E s9)) := by
  refine Mt.of x0pn (Nat.le_of_ble_eq_true rfl) ?_
  intro Γ hl hd hN C hE
  subst hl; subst hd
  show Go Γ 0 0 (XW Γ.d A L E s0) 0 [(0, .ref (A.1 0 0)), (1, .int v1), (2, .int v2)] []
  dsimp only [f0_owner] at h
  refine go_aload_n (pc := 0) C dX0_owner_0 rfl 0 rfl ?_
  refine go_iload_n (pc := 1) C dX0_owner_1 rfl 1 rfl ?_
  obtain ⟨r1, e1, h⟩ := bnd_some h
  refine go_callVi (pc := 2) C [.int v1] (m0_isOwner hL e1) q873 q875 qs29 q138 q876 x0pd_isOwner (by decide) (by decide) (xO (hL.2 0 (by decide)) hL.1) xc0 rfl (Nat.le_of_ble_eq_true rfl) ⟨Nat.zero_le _, Nat.zero_le _⟩ dX0_owner_2 rfl ?_
  refine go_if_ne (pc := 5) (tgt := 10) C dX0_owner_5 (by decide) h (fun h => ?_) (fun h => ?_)
  · refine go_iload_n (pc := 10) C dX0_owner_10 rfl 2 rfl ?_
    by_cases c11_0 : v2 = (0 : Int32)
    · have h := (if_pos c11_0).symm.trans h
      refine go_tableK (pc := 11) (tgt := 40) C c11_0 dX0_owner_11 (by decide) (by decide) rfl (by decide) ?_
      refine go_aload_n (pc := 40) C dX0_owner_40 rfl 0 rfl ?_
      obtain ⟨hz9, h⟩ := chk_some h
      refine X0g_0_0 (pc := 41) C hL (of_decide_eq_true hz9) dX0_owner_41 ?_
      refine X0g_1_9 (pc := 44) C hL dX0_owner_44 ?_
      refine go_iload_n (pc := 47) C dX0_owner_47 rfl 1 rfl ?_
      refine go_iald (pc := 48) C (xa_1_9 hL) h dX0_owner_48 (fun h => ?_)
      exact (hE 0 0 _ _ _ (Nat.zero_le _) (Nat.zero_le _)).1 _ rfl dX0_owner_49 ⟨congrArg (fun z => some (Value.int z)) (some2 h).1, congrArg (fun z => (XW Γ.d A L E z)) (some2 h).2⟩
    have h := (if_neg c11_0).symm.trans h
    by_cases c11_1 : v2 = (1 : Int32)
    · have h := (if_pos c11_1).symm.trans h
      refine go_tableK (pc := 11) (tgt := 50) C c11_1 dX0_owner_11 (by decide) (by decide) rfl (by decide) ?_
      refine go_aload_n (pc := 50) C dX0_owner_50 rfl 0 rfl ?_
      obtain ⟨hz9, h⟩ := chk_some h
      refine X0g_0_0 (pc := 51) C hL (of_decide_eq_true hz9) dX0_owner_51 ?_
      refine X0g_1_10 (pc := 54) C hL dX0_owner_54 ?_
      refine go_iload_n (pc := 57) C dX0_owner_57 rfl 1 rfl ?_
      refine go_iald (pc := 58) C (xa_1_10 hL) h dX0_owner_58 (fun h => ?_)
      exact (hE 0 0 _ _ _ (Nat.zero_le _) (Nat.zero_le _)).1 _ rfl dX0_owner_59 ⟨congrArg (fun z => some (Value.int z)) (some2 h).1, congrArg (fun z => (XW Γ.d A L E z)) (some2 h).2⟩
    have h := (if_neg c11_1).symm.trans h
    by_cases c11_2 : v2 = (2 : Int32)
    · have h := (if_pos c11_2).symm.trans h
      refine go_tableK (pc := 11) (tgt := 60) C c11_2 dX0_owner_11 (by decide) (by decide) rfl (by decide) ?_
      refine go_aload_n (pc := 60) C dX0_owner_60 rfl 0 rfl ?_
      obtain ⟨hz9, h⟩ := chk_some h
      refine X0g_0_0 (pc := 61) C hL (of_decide_eq_true hz9) dX0_owner_61 ?_
      refine X0g_1_11 (pc := 64) C hL dX0_owner_64 ?_
      refine go_iload_n (pc := 67) C dX0_owner_67 rfl 1 rfl ?_
      refine go_iald (pc := 68) C (xa_1_11 hL) h dX0_owner_68 (fun h => ?_)
      exact (hE 0 0 _ _ _ (Nat.zero_le _) (Nat.zero_le _)).1 _ rfl dX0_owner_69 ⟨congrArg (fun z => some (Value.int z)) (some2 h).1, congrArg (fun z => (XW Γ.d A L E z)) (some2 h).2⟩
    have h := (if_neg c11_2).symm.trans h
    by_cases c11_3 : v2 = (3 : Int32)
    · have h := (if_pos c11_3).symm.trans h
      refine go_tableK (pc := 11) (tgt := 70) C c11_3 dX0_owner_11 (by decide) (by decide) rfl (by decide) ?_
      refine go_aload_n (pc := 70) C dX0_owner_70 rfl 0 rfl ?_
      obtain ⟨hz9, h⟩ := chk_some h
      refine X0g_0_0 (pc := 71) C hL (of_decide_eq_true hz9) dX0_owner_71 ?_
      refine go_aload_n (pc := 74) C dX0_owner_74 rfl 0 rfl ?_
      obtain ⟨hz9, h⟩ := chk_some h
      refine X0g_0_0 (pc := 75) C hL (of_decide_eq_true hz9) dX0_owner_75 ?_
      obtain ⟨r6, e6, h⟩ := bnd_some h
      refine go_callVi (pc := 78) C [] (Mt.x0 (hL.2 1 (by decide)) hL.1 (m1_allRopes e6)) q877 q878 q879 q139 q880 x1pd_allRopes (by decide) (by decide) (xO (hL.2 1 (by decide)) hL.1) xc1 rfl (Nat.le_of_ble_eq_true rfl) ⟨Nat.zero_le _, Nat.zero_le _⟩ dX0_owner_78 rfl ?_
      obtain ⟨s7, e7, h⟩ := bnd_some h
      refine go_callVv (pc := 81) C [.int r6] (Mt.x1 (hL.2 1 (by decide)) hL.1 (m1_parts e7)) q881 q882 q883 q139 q884 x1pd_parts (by decide) (by decide) (xO (hL.2 1 (by decide)) hL.1) xc1 rfl (Nat.le_of_ble_eq_true rfl) ⟨Nat.zero_le _, Nat.zero_le _⟩ dX0_owner_81 rfl ?_
      refine go_aload_n (pc := 84) C dX0_owner_84 rfl 0 rfl ?_
      obtain ⟨hz9, h⟩ := chk_some h
      refine X0g_0_0 (pc := 85) C hL (of_decide_eq_true hz9) dX0_owner_85 ?_
      refine go_iload_n (pc := 88) C dX0_owner_88 rfl 1 rfl ?_
      obtain ⟨r8, e8, h⟩ := bnd_some h
      refine go_callVi (pc := 89) C [.int v1] (Mt.x0 (hL.2 1 (by decide)) hL.1 (m1_rides e8)) q892 q893 q894 q139 q895 x1pd_rides (by decide) (by decide) (xO (hL.2 1 (by decide)) hL.1) xc1 rfl (Nat.le_of_ble_eq_true rfl) ⟨Nat.zero_le _, Nat.zero_le _⟩ dX0_owner_89 rfl ?_
      exact (hE 0 0 _ _ _ (Nat.zero_le _) (Nat.zero_le _)).1 _ rfl dX0_owner_92 ⟨congrArg (fun z => some (Value.int z)) (some2 h).1, congrArg (fun z => (XW Γ.d A L E z)) (some2 h).2⟩
    have h := (if_neg c11_3).symm.trans h
    refine go_tableD (pc := 11) (tgt := 93) C [(0 : Int32), (1 : Int32), (2 : Int32), (3 : Int32)] (List.forall_mem_cons.mpr ⟨c11_0, List.forall_mem_cons.mpr ⟨c11_1, List.forall_mem_cons.mpr ⟨c11_2, List.forall_mem_cons.mpr ⟨c11_3, fun _ h9 => absurd h9 List.not_mem_nil⟩⟩⟩⟩) dX0_owner_11 (by decide) (by decide +kernel) (by decide) (by decide) (by decide) ?_
    refine go_iconst (pc := 93) (v := (-1 : Int32)) C dX0_owner_93 (by decide) ?_
    exact (hE 0 0 _ _ _ (Nat.zero_le _) (Nat.zero_le _)).1 _ rfl dX0_owner_94 ⟨congrArg (fun z => some (Value.int z)) (some2 h).1, congrArg (fun z => (XW Γ.d A L E z)) (some2 h).2⟩
  · refine go_iconst (pc := 8) (v := (-1 : Int32)) C dX0_owner_8 (by decide) ?_
    exact (hE 0 0 _ _ _ (Nat.zero_le _) (Nat.zero_le _)).1 _ rfl dX0_owner_9 ⟨congrArg (fun z => some (Value.int z)) (some2 h).1, congrArg (fun z => (XW Γ.d A L E z)) (some2 h).2⟩
theorem m0_isThing {l : Launch} {d : gD} {A : XA} {L : List Nat} {E : va_W} {s0 : (Nat → Bl)} {v1 : Int32} {r9 : Int32} (hL : xOK L) (h : f0_isThing s0 v1 = some r9) : Mt l d yX0_isThing cX0_isThing 2 (some .boolean) (0, 0, 0) 0 (XW d A L E s0) [.ref (A.1 0 0), .int v1] (fun v w => v = some (.int r9) ∧ w = (XW d A L E s0)) := by
  refine Mt.of x0pn (Nat.le_of_ble_eq_true rfl) ?_
  intro Γ hl hd hN C hE
  subst hl; subst hd
  show Go Γ 0 0 (XW Γ.d A L E s0) 0 [(0, .ref (A.1 0 0)), (1, .int v1)] []
  dsimp only [f0_isThing] at h
  refine go_aload_n (pc := 0) C dX0_isThing_0 rfl 0 rfl ?_
  by_cases c4n : (s0 0).1 0 = 0
  · have h := (if_pos c4n).symm.trans h
    refine X0g_0_0N (pc := 1) C hL c4n dX0_isThing_1 ?_
    refine go_ifnullN (pc := 4) (tgt := 26) C dX0_isThing_4 (by decide) ?_
    refine go_iconst (pc := 26) (v := (0 : Int32)) C dX0_isThing_26 (by decide) ?_
    exact (hE 0 0 _ _ _ (Nat.zero_le _) (Nat.zero_le _)).2.1 _ rfl (Or.inl rfl) dX0_isThing_27 ⟨congrArg (fun z => some (Value.int z)) (some1 h), rfl⟩
  · have h := (if_neg c4n).symm.trans h
    refine X0g_0_0 (pc := 1) C hL c4n dX0_isThing_1 ?_
    refine go_ifnull (pc := 4) C dX0_isThing_4 ?_
    refine go_iload_n (pc := 7) C dX0_isThing_7 rfl 1 rfl ?_
    refine go_if_lt (pc := 8) (tgt := 26) C dX0_isThing_8 (by decide) h (fun h => ?_) (fun h => ?_)
    · refine go_iconst (pc := 26) (v := (0 : Int32)) C dX0_isThing_26 (by decide) ?_
      exact (hE 0 0 _ _ _ (Nat.zero_le _) (Nat.zero_le _)).2.1 _ rfl (Or.inl rfl) dX0_isThing_27 ⟨congrArg (fun z => some (Value.int z)) (some1 h), rfl⟩
    · refine go_iload_n (pc := 11) C dX0_isThing_11 rfl 1 rfl ?_
      refine go_aload_n (pc := 12) C dX0_isThing_12 rfl 0 rfl ?_
      obtain ⟨hz9, h⟩ := chk_some h
      refine X0g_0_0 (pc := 13) C hL (of_decide_eq_true hz9) dX0_isThing_13 ?_
      refine X0g_1_2 (pc := 16) C hL dX0_isThing_16 ?_
      refine go_icmp_ge (pc := 19) (tgt := 26) C dX0_isThing_19 (by decide) h (fun h => ?_) (fun h => ?_)
      · refine go_iconst (pc := 26) (v := (0 : Int32)) C dX0_isThing_26 (by decide) ?_
        exact (hE 0 0 _ _ _ (Nat.zero_le _) (Nat.zero_le _)).2.1 _ rfl (Or.inl rfl) dX0_isThing_27 ⟨congrArg (fun z => some (Value.int z)) (some1 h), rfl⟩
      · refine go_iconst (pc := 22) (v := (1 : Int32)) C dX0_isThing_22 (by decide) ?_
        refine go_goto (pc := 23) (tgt := 27) C dX0_isThing_23 (by decide) ?_
        exact (hE 0 0 _ _ _ (Nat.zero_le _) (Nat.zero_le _)).2.1 _ rfl (Or.inr rfl) dX0_isThing_27 ⟨congrArg (fun z => some (Value.int z)) (some1 h), rfl⟩
theorem m0_isAfloat {l : Launch} {d : gD} {A : XA} {L : List Nat} {E : va_W} {s0 : (Nat → Bl)} {v1 : Int32} {r9 : Int32} (hL : xOK L) (h : f0_isAfloat s0 v1 = some r9) : Mt l d yX0_isAfloat cX0_isAfloat 2 (some .boolean) (1, 0, 0) 21 (XW d A L E s0) [.ref (A.1 0 0), .int v1] (fun v w => v = some (.int r9) ∧ w = (XW d A L E s0)) := by
  refine Mt.of x0pn (Nat.le_of_ble_eq_true rfl) ?_
  intro Γ hl hd hN C hE
  subst hl; subst hd
  show Go Γ 0 0 (XW Γ.d A L E s0) 0 [(0, .ref (A.1 0 0)), (1, .int v1)] []
  dsimp only [f0_isAfloat] at h
  refine go_aload_n (pc := 0) C dX0_isAfloat_0 rfl 0 rfl ?_
  by_cases c4n : (s0 0).1 0 = 0
  · have h := (if_pos c4n).symm.trans h
    refine X0g_0_0N (pc := 1) C hL c4n dX0_isAfloat_1 ?_
    refine go_ifnullN (pc := 4) (tgt := 22) C dX0_isAfloat_4 (by decide) ?_
    refine go_iconst (pc := 22) (v := (0 : Int32)) C dX0_isAfloat_22 (by decide) ?_
    exact (hE 0 0 _ _ _ (Nat.zero_le _) (Nat.zero_le _)).2.1 _ rfl (Or.inl rfl) dX0_isAfloat_23 ⟨congrArg (fun z => some (Value.int z)) (some1 h), rfl⟩
  · have h := (if_neg c4n).symm.trans h
    refine X0g_0_0 (pc := 1) C hL c4n dX0_isAfloat_1 ?_
    refine go_ifnull (pc := 4) C dX0_isAfloat_4 ?_
    refine go_aload_n (pc := 7) C dX0_isAfloat_7 rfl 0 rfl ?_
    obtain ⟨hz9, h⟩ := chk_some h
    refine X0g_0_0 (pc := 8) C hL (of_decide_eq_true hz9) dX0_isAfloat_8 ?_
    refine go_iload_n (pc := 11) C dX0_isAfloat_11 rfl 1 rfl ?_
    obtain ⟨r1, e1, h⟩ := bnd_some h
    refine go_callVi (pc := 12) C [.int v1] (Mt.x0 (hL.2 1 (by decide)) hL.1 (m1_isAfloat e1)) q918 q919 q920 q139 q921 x1pd_isAfloat (by decide) (by decide) (xO (hL.2 1 (by decide)) hL.1) xc1 rfl (Nat.le_of_ble_eq_true rfl) ⟨Nat.zero_le _, Nat.zero_le _⟩ dX0_isAfloat_12 rfl ?_
    refine go_if_eq (pc := 15) (tgt := 22) C dX0_isAfloat_15 (by decide) h (fun h => ?_) (fun h => ?_)
    · refine go_iconst (pc := 22) (v := (0 : Int32)) C dX0_isAfloat_22 (by decide) ?_
      exact (hE 0 0 _ _ _ (Nat.zero_le _) (Nat.zero_le _)).2.1 _ rfl (Or.inl rfl) dX0_isAfloat_23 ⟨congrArg (fun z => some (Value.int z)) (some1 h), rfl⟩
    · refine go_iconst (pc := 18) (v := (1 : Int32)) C dX0_isAfloat_18 (by decide) ?_
      refine go_goto (pc := 19) (tgt := 23) C dX0_isAfloat_19 (by decide) ?_
      exact (hE 0 0 _ _ _ (Nat.zero_le _) (Nat.zero_le _)).2.1 _ rfl (Or.inr rfl) dX0_isAfloat_23 ⟨congrArg (fun z => some (Value.int z)) (some1 h), rfl⟩
theorem m0_thing {l : Launch} {d : gD} {A : XA} {L : List Nat} {E : va_W} {s0 : (Nat → Bl)} {v1 : Int32} {v2 : Int32} {r9 : Int32} (hL : xOK L) (h : f0_thing s0 v1 v2 = some r9) : Mt l d yX0_thing cX0_thing 3 (some .int) (3, 0, 0) 67 (XW d A L E s0) [.ref (A.1 0 0), .int v1, .int v2] (fun v w => v = some (.int r9) ∧ w = (XW d A L E s0)) := by
  refine Mt.of x0pn (Nat.le_of_ble_eq_true rfl) ?_
  intro Γ hl hd hN C hE
  subst hl; subst hd
  show Go Γ 0 0 (XW Γ.d A L E s0) 0 [(0, .ref (A.1 0 0)), (1, .int v1), (2, .int v2)] []
  dsimp only [f0_thing] at h
  refine go_aload_n (pc := 0) C dX0_thing_0 rfl 0 rfl ?_
  refine go_iload_n (pc := 1) C dX0_thing_1 rfl 1 rfl ?_
  obtain ⟨r1, e1, h⟩ := bnd_some h
  refine go_callVi (pc := 2) C [.int v1] (m0_isThing hL e1) q910 q912 qs30 q138 q913 x0pd_isThing (by decide) (by decide) (xO (hL.2 0 (by decide)) hL.1) xc0 rfl (Nat.le_of_ble_eq_true rfl) ⟨Nat.zero_le _, Nat.zero_le _⟩ dX0_thing_2 rfl ?_
  refine go_if_ne (pc := 5) (tgt := 10) C dX0_thing_5 (by decide) h (fun h => ?_) (fun h => ?_)
  · refine go_iload_n (pc := 10) C dX0_thing_10 rfl 2 rfl ?_
    by_cases c11_0 : v2 = (0 : Int32)
    · have h := (if_pos c11_0).symm.trans h
      refine go_tableK (pc := 11) (tgt := 48) C c11_0 dX0_thing_11 (by decide) (by decide) rfl (by decide) ?_
      refine go_aload_n (pc := 48) C dX0_thing_48 rfl 0 rfl ?_
      obtain ⟨hz9, h⟩ := chk_some h
      refine X0g_0_0 (pc := 49) C hL (of_decide_eq_true hz9) dX0_thing_49 ?_
      refine X0g_1_12 (pc := 52) C hL dX0_thing_52 ?_
      refine go_iload_n (pc := 55) C dX0_thing_55 rfl 1 rfl ?_
      refine go_iald (pc := 56) C (xa_1_12 hL) h dX0_thing_56 (fun h => ?_)
      exact (hE 0 0 _ _ _ (Nat.zero_le _) (Nat.zero_le _)).1 _ rfl dX0_thing_57 ⟨congrArg (fun z => some (Value.int z)) (some1 h), rfl⟩
    have h := (if_neg c11_0).symm.trans h
    by_cases c11_1 : v2 = (1 : Int32)
    · have h := (if_pos c11_1).symm.trans h
      refine go_tableK (pc := 11) (tgt := 58) C c11_1 dX0_thing_11 (by decide) (by decide) rfl (by decide) ?_
      refine go_aload_n (pc := 58) C dX0_thing_58 rfl 0 rfl ?_
      obtain ⟨hz9, h⟩ := chk_some h
      refine X0g_0_0 (pc := 59) C hL (of_decide_eq_true hz9) dX0_thing_59 ?_
      refine X0g_1_13 (pc := 62) C hL dX0_thing_62 ?_
      refine go_iload_n (pc := 65) C dX0_thing_65 rfl 1 rfl ?_
      refine go_iald (pc := 66) C (xa_1_13 hL) h dX0_thing_66 (fun h => ?_)
      exact (hE 0 0 _ _ _ (Nat.zero_le _) (Nat.zero_le _)).1 _ rfl dX0_thing_67 ⟨congrArg (fun z => some (Value.int z)) (some1 h), rfl⟩
    have h := (if_neg c11_1).symm.trans h
    by_cases c11_2 : v2 = (2 : Int32)
    · have h := (if_pos c11_2).symm.trans h
      refine go_tableK (pc := 11) (tgt := 68) C c11_2 dX0_thing_11 (by decide) (by decide) rfl (by decide) ?_
      refine go_aload_n (pc := 68) C dX0_thing_68 rfl 0 rfl ?_
      obtain ⟨hz9, h⟩ := chk_some h
      refine X0g_0_0 (pc := 69) C hL (of_decide_eq_true hz9) dX0_thing_69 ?_
      refine X0g_1_14 (pc := 72) C hL dX0_thing_72 ?_
      refine go_iload_n (pc := 75) C dX0_thing_75 rfl 1 rfl ?_
      refine go_iald (pc := 76) C (xa_1_14 hL) h dX0_thing_76 (fun h => ?_)
      exact (hE 0 0 _ _ _ (Nat.zero_le _) (Nat.zero_le _)).1 _ rfl dX0_thing_77 ⟨congrArg (fun z => some (Value.int z)) (some1 h), rfl⟩
    have h := (if_neg c11_2).symm.trans h
    by_cases c11_3 : v2 = (3 : Int32)
    · have h := (if_pos c11_3).symm.trans h
      refine go_tableK (pc := 11) (tgt := 78) C c11_3 dX0_thing_11 (by decide) (by decide) rfl (by decide) ?_
      refine go_aload_n (pc := 78) C dX0_thing_78 rfl 0 rfl ?_
      obtain ⟨hz9, h⟩ := chk_some h
      refine X0g_0_0 (pc := 79) C hL (of_decide_eq_true hz9) dX0_thing_79 ?_
      refine X0g_1_15 (pc := 82) C hL dX0_thing_82 ?_
      refine go_iload_n (pc := 85) C dX0_thing_85 rfl 1 rfl ?_
      refine go_iald (pc := 86) C (xa_1_15 hL) h dX0_thing_86 (fun h => ?_)
      exact (hE 0 0 _ _ _ (Nat.zero_le _) (Nat.zero_le _)).1 _ rfl dX0_thing_87 ⟨congrArg (fun z => some (Value.int z)) (some1 h), rfl⟩
    have h := (if_neg c11_3).symm.trans h
    by_cases c11_4 : v2 = (4 : Int32)
    · have h := (if_pos c11_4).symm.trans h
      refine go_tableK (pc := 11) (tgt := 88) C c11_4 dX0_thing_11 (by decide) (by decide) rfl (by decide) ?_
      refine go_aload_n (pc := 88) C dX0_thing_88 rfl 0 rfl ?_
      obtain ⟨hz9, h⟩ := chk_some h
      refine X0g_0_0 (pc := 89) C hL (of_decide_eq_true hz9) dX0_thing_89 ?_
      refine X0g_1_16 (pc := 92) C hL dX0_thing_92 ?_
      refine go_iload_n (pc := 95) C dX0_thing_95 rfl 1 rfl ?_
      refine go_iald (pc := 96) C (xa_1_16 hL) h dX0_thing_96 (fun h => ?_)
      exact (hE 0 0 _ _ _ (Nat.zero_le _) (Nat.zero_le _)).1 _ rfl dX0_thing_97 ⟨congrArg (fun z => some (Value.int z)) (some1 h), rfl⟩
    have h := (if_neg c11_4).symm.trans h
    by_cases c11_5 : v2 = (5 : Int32)
    · have h := (if_pos c11_5).symm.trans h
      refine go_tableK (pc := 11) (tgt := 98) C c11_5 dX0_thing_11 (by decide) (by decide) rfl (by decide) ?_
      refine go_aload_n (pc := 98) C dX0_thing_98 rfl 0 rfl ?_
      refine go_iload_n (pc := 99) C dX0_thing_99 rfl 1 rfl ?_
      obtain ⟨r8, e8, h⟩ := bnd_some h
      refine go_callVi (pc := 100) C [.int v1] (m0_isAfloat hL e8) q914 q916 qs31 q138 q917 x0pd_isAfloat (by decide) (by decide) (xO (hL.2 0 (by decide)) hL.1) xc0 rfl (Nat.le_of_ble_eq_true rfl) ⟨Nat.zero_le _, Nat.zero_le _⟩ dX0_thing_100 rfl ?_
      refine go_if_eq (pc := 103) (tgt := 117) C dX0_thing_103 (by decide) h (fun h => ?_) (fun h => ?_)
      · refine go_iconst (pc := 117) (v := (0 : Int32)) C dX0_thing_117 (by decide) ?_
        exact (hE 0 0 _ _ _ (Nat.zero_le _) (Nat.zero_le _)).1 _ rfl dX0_thing_118 ⟨congrArg (fun z => some (Value.int z)) (some1 h), rfl⟩
      · refine go_aload_n (pc := 106) C dX0_thing_106 rfl 0 rfl ?_
        obtain ⟨hz9, h⟩ := chk_some h
        refine X0g_0_0 (pc := 107) C hL (of_decide_eq_true hz9) dX0_thing_107 ?_
        refine go_iload_n (pc := 110) C dX0_thing_110 rfl 1 rfl ?_
        obtain ⟨r9, e9, h⟩ := bnd_some h
        refine go_callVi (pc := 111) C [.int v1] (Mt.x0 (hL.2 1 (by decide)) hL.1 (m1_pieceOf e9)) q922 q923 q924 q139 q925 x1pd_pieceOf (by decide) (by decide) (xO (hL.2 1 (by decide)) hL.1) xc1 rfl (Nat.le_of_ble_eq_true rfl) ⟨Nat.zero_le _, Nat.zero_le _⟩ dX0_thing_111 rfl ?_
        refine go_goto (pc := 114) (tgt := 118) C dX0_thing_114 (by decide) ?_
        exact (hE 0 0 _ _ _ (Nat.zero_le _) (Nat.zero_le _)).1 _ rfl dX0_thing_118 ⟨congrArg (fun z => some (Value.int z)) (some1 h), rfl⟩
    have h := (if_neg c11_5).symm.trans h
    refine go_tableD (pc := 11) (tgt := 119) C [(0 : Int32), (1 : Int32), (2 : Int32), (3 : Int32), (4 : Int32), (5 : Int32)] (List.forall_mem_cons.mpr ⟨c11_0, List.forall_mem_cons.mpr ⟨c11_1, List.forall_mem_cons.mpr ⟨c11_2, List.forall_mem_cons.mpr ⟨c11_3, List.forall_mem_cons.mpr ⟨c11_4, List.forall_mem_cons.mpr ⟨c11_5, fun _ h9 => absurd h9 List.not_mem_nil⟩⟩⟩⟩⟩⟩) dX0_thing_11 (by decide) (by decide +kernel) (by decide) (by decide) (by decide) ?_
    refine go_iconst (pc := 119) (v := (-1 : Int32)) C dX0_thing_119 (by decide) ?_
    exact (hE 0 0 _ _ _ (Nat.zero_le _) (Nat.zero_le _)).1 _ rfl dX0_thing_120 ⟨congrArg (fun z => some (Value.int z)) (some1 h), rfl⟩
  · refine go_iconst (pc := 8) (v := (-1 : Int32)) C dX0_thing_8 (by decide) ?_
    exact (hE 0 0 _ _ _ (Nat.zero_le _) (Nat.zero_le _)).1 _ rfl dX0_thing_9 ⟨congrArg (fun z => some (Value.int z)) (some1 h), rfl⟩
theorem m0_isRope {l : Launch} {d : gD} {A : XA} {L : List Nat} {E : va_W} {s0 : (Nat → Bl)} {v1 : Int32} {r9 : Int32} (hL : xOK L) (h : f0_isRope s0 v1 = some r9) : Mt l d yX0_isRope cX0_isRope 2 (some .boolean) (0, 0, 0) 0 (XW d A L E s0) [.ref (A.1 0 0), .int v1] (fun v w => v = some (.int r9) ∧ w = (XW d A L E s0)) := by
  refine Mt.of x0pn (Nat.le_of_ble_eq_true rfl) ?_
  intro Γ hl hd hN C hE
  subst hl; subst hd
  show Go Γ 0 0 (XW Γ.d A L E s0) 0 [(0, .ref (A.1 0 0)), (1, .int v1)] []
  dsimp only [f0_isRope] at h
  refine go_aload_n (pc := 0) C dX0_isRope_0 rfl 0 rfl ?_
  by_cases c4n : (s0 0).1 0 = 0
  · have h := (if_pos c4n).symm.trans h
    refine X0g_0_0N (pc := 1) C hL c4n dX0_isRope_1 ?_
    refine go_ifnullN (pc := 4) (tgt := 26) C dX0_isRope_4 (by decide) ?_
    refine go_iconst (pc := 26) (v := (0 : Int32)) C dX0_isRope_26 (by decide) ?_
    exact (hE 0 0 _ _ _ (Nat.zero_le _) (Nat.zero_le _)).2.1 _ rfl (Or.inl rfl) dX0_isRope_27 ⟨congrArg (fun z => some (Value.int z)) (some1 h), rfl⟩
  · have h := (if_neg c4n).symm.trans h
    refine X0g_0_0 (pc := 1) C hL c4n dX0_isRope_1 ?_
    refine go_ifnull (pc := 4) C dX0_isRope_4 ?_
    refine go_iload_n (pc := 7) C dX0_isRope_7 rfl 1 rfl ?_
    refine go_if_lt (pc := 8) (tgt := 26) C dX0_isRope_8 (by decide) h (fun h => ?_) (fun h => ?_)
    · refine go_iconst (pc := 26) (v := (0 : Int32)) C dX0_isRope_26 (by decide) ?_
      exact (hE 0 0 _ _ _ (Nat.zero_le _) (Nat.zero_le _)).2.1 _ rfl (Or.inl rfl) dX0_isRope_27 ⟨congrArg (fun z => some (Value.int z)) (some1 h), rfl⟩
    · refine go_iload_n (pc := 11) C dX0_isRope_11 rfl 1 rfl ?_
      refine go_aload_n (pc := 12) C dX0_isRope_12 rfl 0 rfl ?_
      obtain ⟨hz9, h⟩ := chk_some h
      refine X0g_0_0 (pc := 13) C hL (of_decide_eq_true hz9) dX0_isRope_13 ?_
      refine X0g_1_5 (pc := 16) C hL dX0_isRope_16 ?_
      refine go_icmp_ge (pc := 19) (tgt := 26) C dX0_isRope_19 (by decide) h (fun h => ?_) (fun h => ?_)
      · refine go_iconst (pc := 26) (v := (0 : Int32)) C dX0_isRope_26 (by decide) ?_
        exact (hE 0 0 _ _ _ (Nat.zero_le _) (Nat.zero_le _)).2.1 _ rfl (Or.inl rfl) dX0_isRope_27 ⟨congrArg (fun z => some (Value.int z)) (some1 h), rfl⟩
      · refine go_iconst (pc := 22) (v := (1 : Int32)) C dX0_isRope_22 (by decide) ?_
        refine go_goto (pc := 23) (tgt := 27) C dX0_isRope_23 (by decide) ?_
        exact (hE 0 0 _ _ _ (Nat.zero_le _) (Nat.zero_le _)).2.1 _ rfl (Or.inr rfl) dX0_isRope_27 ⟨congrArg (fun z => some (Value.int z)) (some1 h), rfl⟩
theorem m0_rope {l : Launch} {d : gD} {A : XA} {L : List Nat} {E : va_W} {s0 : (Nat → Bl)} {v1 : Int32} {v2 : Int32} {r9 : Int32} (hL : xOK L) (h : f0_rope s0 v1 v2 = some r9) : Mt l d yX0_rope cX0_rope 3 (some .int) (1, 0, 0) 21 (XW d A L E s0) [.ref (A.1 0 0), .int v1, .int v2] (fun v w => v = some (.int r9) ∧ w = (XW d A L E s0)) := by
  refine Mt.of x0pn (Nat.le_of_ble_eq_true rfl) ?_
  intro Γ hl hd hN C hE
  subst hl; subst hd
  show Go Γ 0 0 (XW Γ.d A L E s0) 0 [(0, .ref (A.1 0 0)), (1, .int v1), (2, .int v2)] []
  dsimp only [f0_rope] at h
  refine go_aload_n (pc := 0) C dX0_rope_0 rfl 0 rfl ?_
  refine go_iload_n (pc := 1) C dX0_rope_1 rfl 1 rfl ?_
  obtain ⟨r1, e1, h⟩ := bnd_some h
  refine go_callVi (pc := 2) C [.int v1] (m0_isRope hL e1) q931 q933 qs32 q138 q934 x0pd_isRope (by decide) (by decide) (xO (hL.2 0 (by decide)) hL.1) xc0 rfl (Nat.le_of_ble_eq_true rfl) ⟨Nat.zero_le _, Nat.zero_le _⟩ dX0_rope_2 rfl ?_
  refine go_if_ne (pc := 5) (tgt := 10) C dX0_rope_5 (by decide) h (fun h => ?_) (fun h => ?_)
  · refine go_iload_n (pc := 10) C dX0_rope_10 rfl 2 rfl ?_
    by_cases c11_0 : v2 = (0 : Int32)
    · have h := (if_pos c11_0).symm.trans h
      refine go_tableK (pc := 11) (tgt := 36) C c11_0 dX0_rope_11 (by decide) (by decide) rfl (by decide) ?_
      refine go_aload_n (pc := 36) C dX0_rope_36 rfl 0 rfl ?_
      obtain ⟨hz9, h⟩ := chk_some h
      refine X0g_0_0 (pc := 37) C hL (of_decide_eq_true hz9) dX0_rope_37 ?_
      refine X0g_1_18 (pc := 40) C hL dX0_rope_40 ?_
      refine go_iload_n (pc := 43) C dX0_rope_43 rfl 1 rfl ?_
      refine go_iald (pc := 44) C (xa_1_18 hL) h dX0_rope_44 (fun h => ?_)
      exact (hE 0 0 _ _ _ (Nat.zero_le _) (Nat.zero_le _)).1 _ rfl dX0_rope_45 ⟨congrArg (fun z => some (Value.int z)) (some1 h), rfl⟩
    have h := (if_neg c11_0).symm.trans h
    by_cases c11_1 : v2 = (1 : Int32)
    · have h := (if_pos c11_1).symm.trans h
      refine go_tableK (pc := 11) (tgt := 46) C c11_1 dX0_rope_11 (by decide) (by decide) rfl (by decide) ?_
      refine go_aload_n (pc := 46) C dX0_rope_46 rfl 0 rfl ?_
      obtain ⟨hz9, h⟩ := chk_some h
      refine X0g_0_0 (pc := 47) C hL (of_decide_eq_true hz9) dX0_rope_47 ?_
      refine X0g_1_19 (pc := 50) C hL dX0_rope_50 ?_
      refine go_iload_n (pc := 53) C dX0_rope_53 rfl 1 rfl ?_
      refine go_iald (pc := 54) C (xa_1_19 hL) h dX0_rope_54 (fun h => ?_)
      exact (hE 0 0 _ _ _ (Nat.zero_le _) (Nat.zero_le _)).1 _ rfl dX0_rope_55 ⟨congrArg (fun z => some (Value.int z)) (some1 h), rfl⟩
    have h := (if_neg c11_1).symm.trans h
    by_cases c11_2 : v2 = (2 : Int32)
    · have h := (if_pos c11_2).symm.trans h
      refine go_tableK (pc := 11) (tgt := 56) C c11_2 dX0_rope_11 (by decide) (by decide) rfl (by decide) ?_
      refine go_aload_n (pc := 56) C dX0_rope_56 rfl 0 rfl ?_
      obtain ⟨hz9, h⟩ := chk_some h
      refine X0g_0_0 (pc := 57) C hL (of_decide_eq_true hz9) dX0_rope_57 ?_
      refine X0g_1_20 (pc := 60) C hL dX0_rope_60 ?_
      refine go_iload_n (pc := 63) C dX0_rope_63 rfl 1 rfl ?_
      refine go_iald (pc := 64) C (xa_1_20 hL) h dX0_rope_64 (fun h => ?_)
      exact (hE 0 0 _ _ _ (Nat.zero_le _) (Nat.zero_le _)).1 _ rfl dX0_rope_65 ⟨congrArg (fun z => some (Value.int z)) (some1 h), rfl⟩
    have h := (if_neg c11_2).symm.trans h
    refine go_tableD (pc := 11) (tgt := 66) C [(0 : Int32), (1 : Int32), (2 : Int32)] (List.forall_mem_cons.mpr ⟨c11_0, List.forall_mem_cons.mpr ⟨c11_1, List.forall_mem_cons.mpr ⟨c11_2, fun _ h9 => absurd h9 List.not_mem_nil⟩⟩⟩) dX0_rope_11 (by decide) (by decide +kernel) (by decide) (by decide) (by decide) ?_
    refine go_iconst (pc := 66) (v := (-1 : Int32)) C dX0_rope_66 (by decide) ?_
    exact (hE 0 0 _ _ _ (Nat.zero_le _) (Nat.zero_le _)).1 _ rfl dX0_rope_67 ⟨congrArg (fun z => some (Value.int z)) (some1 h), rfl⟩
  · refine go_iconst (pc := 8) (v := (-1 : Int32)) C dX0_rope_8 (by decide) ?_
    exact (hE 0 0 _ _ _ (Nat.zero_le _) (Nat.zero_le _)).1 _ rfl dX0_rope_9 ⟨congrArg (fun z => some (Value.int z)) (some1 h), rfl⟩
theorem m0_rapid {l : Launch} {d : gD} {A : XA} {L : List Nat} {E : va_W} {s0 : (Nat → Bl)} {v1 : Int32} {r9 : Int32} (hL : xOK L) (h : f0_rapid s0 v1 = some r9) : Mt l d yX0_rapid cX0_rapid 2 (some .int) (1, 0, 0) 25 (XW d A L E s0) [.ref (A.1 0 0), .int v1] (fun v w => v = some (.int r9) ∧ w = (XW d A L E s0)) := by
  refine Mt.of x0pn (Nat.le_of_ble_eq_true rfl) ?_
  intro Γ hl hd hN C hE
  subst hl; subst hd
  show Go Γ 0 0 (XW Γ.d A L E s0) 0 [(0, .ref (A.1 0 0)), (1, .int v1)] []
  dsimp only [f0_rapid] at h
  refine go_aload_n (pc := 0) C dX0_rapid_0 rfl 0 rfl ?_
  by_cases c4n : (s0 0).1 0 = 0
  · have h := (if_pos c4n).symm.trans h
    refine X0g_0_0N (pc := 1) C hL c4n dX0_rapid_1 ?_
    refine go_ifnullN (pc := 4) (tgt := 24) C dX0_rapid_4 (by decide) ?_
    refine go_iconst (pc := 24) (v := (-1 : Int32)) C dX0_rapid_24 (by decide) ?_
    refine go_goto (pc := 25) (tgt := 36) C dX0_rapid_25 (by decide) ?_
    exact (hE 0 0 _ _ _ (Nat.zero_le _) (Nat.zero_le _)).1 _ rfl dX0_rapid_36 ⟨congrArg (fun z => some (Value.int z)) (some1 h), rfl⟩
  · have h := (if_neg c4n).symm.trans h
    refine X0g_0_0 (pc := 1) C hL c4n dX0_rapid_1 ?_
    refine go_ifnull (pc := 4) C dX0_rapid_4 ?_
    refine go_iload_n (pc := 7) C dX0_rapid_7 rfl 1 rfl ?_
    refine go_i2l (pc := 8) C dX0_rapid_8 ?_
    refine go_lconst (pc := 9) (v := (0 : Int64)) C dX0_rapid_9 (by decide) ?_
    refine go_aload_n (pc := 10) C dX0_rapid_10 rfl 0 rfl ?_
    obtain ⟨hz9, h⟩ := chk_some h
    refine X0g_0_0 (pc := 11) C hL (of_decide_eq_true hz9) dX0_rapid_11 ?_
    refine X0g_1_0 (pc := 14) C hL dX0_rapid_14 ?_
    refine go_i2l (pc := 17) C dX0_rapid_17 ?_
    obtain ⟨r1, e1, h⟩ := bnd_some h
    refine go_callSi (pc := 18) C [.long (v1).toInt64, .long (0 : Int64), .long (((s0 1).1 0)).toInt64] (m0_in e1) q939 q647 q138 q648 x0pd_in (by decide) (by decide) rfl (Nat.le_of_ble_eq_true rfl) ⟨Nat.zero_le _, Nat.zero_le _⟩ dX0_rapid_18 rfl ?_
    refine go_if_ne (pc := 21) (tgt := 28) C dX0_rapid_21 (by decide) h (fun h => ?_) (fun h => ?_)
    · refine go_aload_n (pc := 28) C dX0_rapid_28 rfl 0 rfl ?_
      obtain ⟨hz9, h⟩ := chk_some h
      refine X0g_0_0 (pc := 29) C hL (of_decide_eq_true hz9) dX0_rapid_29 ?_
      refine go_iload_n (pc := 32) C dX0_rapid_32 rfl 1 rfl ?_
      obtain ⟨r2, e2, h⟩ := bnd_some h
      refine go_callVi (pc := 33) C [.int v1] (Mt.x0 (hL.2 1 (by decide)) hL.1 (m1_forceAt e2)) q940 q680 q681 q139 q682 x1pd_forceAt (by decide) (by decide) (xO (hL.2 1 (by decide)) hL.1) xc1 rfl (Nat.le_of_ble_eq_true rfl) ⟨Nat.zero_le _, Nat.zero_le _⟩ dX0_rapid_33 rfl ?_
      exact (hE 0 0 _ _ _ (Nat.zero_le _) (Nat.zero_le _)).1 _ rfl dX0_rapid_36 ⟨congrArg (fun z => some (Value.int z)) (some1 h), rfl⟩
    · refine go_iconst (pc := 24) (v := (-1 : Int32)) C dX0_rapid_24 (by decide) ?_
      refine go_goto (pc := 25) (tgt := 36) C dX0_rapid_25 (by decide) ?_
      exact (hE 0 0 _ _ _ (Nat.zero_le _) (Nat.zero_le _)).1 _ rfl dX0_rapid_36 ⟨congrArg (fun z => some (Value.int z)) (some1 h), rfl⟩
theorem m0_margin {l : Launch} {d : gD} {A : XA} {L : List Nat} {E : va_W} {s0 : (Nat → Bl)} {v1 : Int32} {r9 : Int32} {s9 : (Nat → Bl)} (hL : xOK L) (h : f0_margin s0 v1 = some (r9, s9)) : Mt l d yX0_margin cX0_margin 2 (some .int) (4, 0, 0) 94 (XW d A L E s0) [.ref (A.1 0 0), .int v1] (fun v w => v = some (.int r9) ∧ w = (XW d A L E s9)) := by
  refine Mt.of x0pn (Nat.le_of_ble_eq_true rfl) ?_
  intro Γ hl hd hN C hE
  subst hl; subst hd
  show Go Γ 0 0 (XW Γ.d A L E s0) 0 [(0, .ref (A.1 0 0)), (1, .int v1)] []
  dsimp only [f0_margin] at h
  refine go_aload_n (pc := 0) C dX0_margin_0 rfl 0 rfl ?_
  refine go_iload_n (pc := 1) C dX0_margin_1 rfl 1 rfl ?_
  obtain ⟨r1, e1, h⟩ := bnd_some h
  refine go_callVi (pc := 2) C [.int v1] (m0_isAfloat hL e1) q914 q916 qs31 q138 q917 x0pd_isAfloat (by decide) (by decide) (xO (hL.2 0 (by decide)) hL.1) xc0 rfl (Nat.le_of_ble_eq_true rfl) ⟨Nat.zero_le _, Nat.zero_le _⟩ dX0_margin_2 rfl ?_
  refine go_if_eq (pc := 5) (tgt := 19) C dX0_margin_5 (by decide) h (fun h => ?_) (fun h => ?_)
  · refine go_sipush (pc := 19) (v := (-10000 : Int32)) C dX0_margin_19 (by decide) ?_
    exact (hE 0 0 _ _ _ (Nat.zero_le _) (Nat.zero_le _)).1 _ rfl dX0_margin_22 ⟨congrArg (fun z => some (Value.int z)) (some2 h).1, congrArg (fun z => (XW Γ.d A L E z)) (some2 h).2⟩
  · refine go_aload_n (pc := 8) C dX0_margin_8 rfl 0 rfl ?_
    obtain ⟨hz9, h⟩ := chk_some h
    refine X0g_0_0 (pc := 9) C hL (of_decide_eq_true hz9) dX0_margin_9 ?_
    refine go_iload_n (pc := 12) C dX0_margin_12 rfl 1 rfl ?_
    obtain ⟨r2, s2, e2, h⟩ := bnd2_some h
    refine go_callVi (pc := 13) C [.int v1] (Mt.x1 (hL.2 1 (by decide)) hL.1 (m1_marginOf e2)) q945 q946 q947 q139 q948 x1pd_marginOf (by decide) (by decide) (xO (hL.2 1 (by decide)) hL.1) xc1 rfl (Nat.le_of_ble_eq_true rfl) ⟨Nat.zero_le _, Nat.zero_le _⟩ dX0_margin_13 rfl ?_
    refine go_goto (pc := 16) (tgt := 22) C dX0_margin_16 (by decide) ?_
    exact (hE 0 0 _ _ _ (Nat.zero_le _) (Nat.zero_le _)).1 _ rfl dX0_margin_22 ⟨congrArg (fun z => some (Value.int z)) (some2 h).1, congrArg (fun z => (XW Γ.d A L E z)) (some2 h).2⟩
theorem m0_undo {l : Launch} {d : gD} {A : XA} {L : List Nat} {E : va_W} {s0 : (Nat → Bl)} {r9 : Int32} {s9 : (Nat → Bl)} (hL : xOK L) (h : f0_undo s0 = some (r9, s9)) : Mt l d yX0_undo cX0_undo 1 (some .int) (2, 0, 0) 48 (XW d A L E s0) [.ref (A.1 0 0)] (fun v w => v = some (.int r9) ∧ w = (XW d A L E s9)) := by
  refine Mt.of x0pn (Nat.le_of_ble_eq_true rfl) ?_
  intro Γ hl hd hN C hE
  subst hl; subst hd
  show Go Γ 0 0 (XW Γ.d A L E s0) 0 [(0, .ref (A.1 0 0))] []
  dsimp only [f0_undo] at h
  refine go_aload_n (pc := 0) C dX0_undo_0 rfl 0 rfl ?_
  by_cases c4n : (s0 0).1 0 = 0
  · have h := (if_pos c4n).symm.trans h
    refine X0g_0_0N (pc := 1) C hL c4n dX0_undo_1 ?_
    refine go_ifnullN (pc := 4) (tgt := 17) C dX0_undo_4 (by decide) ?_
    refine go_bipush (pc := 17) (v := (-2 : Int32)) C dX0_undo_17 (by decide) ?_
    exact (hE 0 0 _ _ _ (Nat.zero_le _) (Nat.zero_le _)).1 _ rfl dX0_undo_19 ⟨congrArg (fun z => some (Value.int z)) (some2 h).1, congrArg (fun z => (XW Γ.d A L E z)) (some2 h).2⟩
  · have h := (if_neg c4n).symm.trans h
    refine X0g_0_0 (pc := 1) C hL c4n dX0_undo_1 ?_
    refine go_ifnull (pc := 4) C dX0_undo_4 ?_
    refine go_aload_n (pc := 7) C dX0_undo_7 rfl 0 rfl ?_
    obtain ⟨hz9, h⟩ := chk_some h
    refine X0g_0_0 (pc := 8) C hL (of_decide_eq_true hz9) dX0_undo_8 ?_
    refine X0g_1_7 (pc := 11) C hL dX0_undo_11 ?_
    refine go_if_ne (pc := 14) (tgt := 20) C dX0_undo_14 (by decide) h (fun h => ?_) (fun h => ?_)
    · refine go_aload_n (pc := 20) C dX0_undo_20 rfl 0 rfl ?_
      obtain ⟨hz9, h⟩ := chk_some h
      refine X0g_0_0 (pc := 21) C hL (of_decide_eq_true hz9) dX0_undo_21 ?_
      refine go_dup (pc := 24) C dX0_undo_24 rfl ?_
      refine X0g_1_7 (pc := 25) C hL dX0_undo_25 ?_
      refine go_iconst (pc := 28) (v := (1 : Int32)) C dX0_undo_28 (by decide) ?_
      refine go_isub (pc := 29) C dX0_undo_29 ?_
      refine X0p_1_7 (pc := 30) C hL dX0_undo_30 ?_
      refine go_aload_n (pc := 33) C dX0_undo_33 rfl 0 rfl ?_
      obtain ⟨hz9, h⟩ := chk_some h
      refine X0g_0_0 (pc := 34) C hL (of_decide_eq_true hz9) dX0_undo_34 ?_
      refine go_aload_n (pc := 37) C dX0_undo_37 rfl 0 rfl ?_
      obtain ⟨hz9, h⟩ := chk_some h
      refine X0g_0_0 (pc := 38) C hL (of_decide_eq_true hz9) dX0_undo_38 ?_
      refine X0g_1_7 (pc := 41) C hL dX0_undo_41 ?_
      obtain ⟨s1, e1, h⟩ := bnd_some h
      refine go_callVv (pc := 44) C [.int (((upX s0 1 (bI (s0 1) 7 (((s0 1).1 7) - (1 : Int32)))) 1).1 7)] (Mt.x1 (hL.2 1 (by decide)) hL.1 (m1_takes e1)) q963 q964 q965 q139 q966 x1pd_takes (by decide) (by decide) (xO (hL.2 1 (by decide)) hL.1) xc1 rfl (Nat.le_of_ble_eq_true rfl) ⟨Nat.zero_le _, Nat.zero_le _⟩ dX0_undo_44 rfl ?_
      refine go_aload_n (pc := 47) C dX0_undo_47 rfl 0 rfl ?_
      obtain ⟨hz9, h⟩ := chk_some h
      refine X0g_0_0 (pc := 48) C hL (of_decide_eq_true hz9) dX0_undo_48 ?_
      refine X0g_1_7 (pc := 51) C hL dX0_undo_51 ?_
      exact (hE 0 0 _ _ _ (Nat.zero_le _) (Nat.zero_le _)).1 _ rfl dX0_undo_54 ⟨congrArg (fun z => some (Value.int z)) (some2 h).1, congrArg (fun z => (XW Γ.d A L E z)) (some2 h).2⟩
    · refine go_bipush (pc := 17) (v := (-2 : Int32)) C dX0_undo_17 (by decide) ?_
      exact (hE 0 0 _ _ _ (Nat.zero_le _) (Nat.zero_le _)).1 _ rfl dX0_undo_19 ⟨congrArg (fun z => some (Value.int z)) (some2 h).1, congrArg (fun z => (XW Γ.d A L E z)) (some2 h).2⟩
theorem m0_keepsAct {l : Launch} {d : gD} {A : XA} {L : List Nat} {E : va_W} {s0 : (Nat → Bl)} {s9 : (Nat → Bl)} (hL : xOK L) (h : f0_keepsAct s0 = some s9) : Mt l d yX0_keepsAct cX0_keepsAct 1 none (2, 0, 0) 48 (XW d A L E s0) [.ref (A.1 0 0)] (fun v w => v = none ∧ w = (XW d A L E s9)) := by
  refine Mt.of x0pn (Nat.le_of_ble_eq_true rfl) ?_
  intro Γ hl hd hN C hE
  subst hl; subst hd
  show Go Γ 0 0 (XW Γ.d A L E s0) 0 [(0, .ref (A.1 0 0))] []
  dsimp only [f0_keepsAct] at h
  refine go_aload_n (pc := 0) C dX0_keepsAct_0 rfl 0 rfl ?_
  obtain ⟨hz9, h⟩ := chk_some h
  refine X0g_0_0 (pc := 1) C hL (of_decide_eq_true hz9) dX0_keepsAct_1 ?_
  refine X0g_1_7 (pc := 4) C hL dX0_keepsAct_4 ?_
  refine go_bipush (pc := 7) (v := (20 : Int32)) C dX0_keepsAct_7 (by decide) ?_
  refine go_icmp_ne (pc := 9) (tgt := 48) C dX0_keepsAct_9 (by decide) h (fun h => ?_) (fun h => ?_)
  · refine go_aload_n (pc := 48) C dX0_keepsAct_48 rfl 0 rfl ?_
    obtain ⟨hz9, h⟩ := chk_some h
    refine X0g_0_0 (pc := 49) C hL (of_decide_eq_true hz9) dX0_keepsAct_49 ?_
    refine go_aload_n (pc := 52) C dX0_keepsAct_52 rfl 0 rfl ?_
    obtain ⟨hz9, h⟩ := chk_some h
    refine X0g_0_0 (pc := 53) C hL (of_decide_eq_true hz9) dX0_keepsAct_53 ?_
    refine X0g_1_7 (pc := 56) C hL dX0_keepsAct_56 ?_
    obtain ⟨s1, e1, h⟩ := bnd_some h
    refine go_callVv (pc := 59) C [.int ((s0 1).1 7)] (Mt.x1 (hL.2 1 (by decide)) hL.1 (m1_lays e1)) q976 q977 q978 q139 q979 x1pd_lays (by decide) (by decide) (xO (hL.2 1 (by decide)) hL.1) xc1 rfl (Nat.le_of_ble_eq_true rfl) ⟨Nat.zero_le _, Nat.zero_le _⟩ dX0_keepsAct_59 rfl ?_
    refine go_aload_n (pc := 62) C dX0_keepsAct_62 rfl 0 rfl ?_
    obtain ⟨hz9, h⟩ := chk_some h
    refine X0g_0_0 (pc := 63) C hL (of_decide_eq_true hz9) dX0_keepsAct_63 ?_
    refine go_dup (pc := 66) C dX0_keepsAct_66 rfl ?_
    refine X0g_1_7 (pc := 67) C hL dX0_keepsAct_67 ?_
    refine go_iconst (pc := 70) (v := (1 : Int32)) C dX0_keepsAct_70 (by decide) ?_
    refine go_iadd (pc := 71) C dX0_keepsAct_71 ?_
    refine X0p_1_7 (pc := 72) C hL dX0_keepsAct_72 ?_
    exact (hE 0 0 _ _ _ (Nat.zero_le _) (Nat.zero_le _)).2.2.2.1 rfl dX0_keepsAct_75 ⟨rfl, congrArg (fun z => (XW Γ.d A L E z)) (some1 h)⟩
  · refine go_aload_n (pc := 12) C dX0_keepsAct_12 rfl 0 rfl ?_
    obtain ⟨hz9, h⟩ := chk_some h
    refine X0g_0_0 (pc := 13) C hL (of_decide_eq_true hz9) dX0_keepsAct_13 ?_
    refine X0g_1_24 (pc := 16) C hL dX0_keepsAct_16 ?_
    refine go_bipush (pc := 19) (v := (77 : Int32)) C dX0_keepsAct_19 (by decide) ?_
    refine go_aload_n (pc := 21) C dX0_keepsAct_21 rfl 0 rfl ?_
    obtain ⟨hz9, h⟩ := chk_some h
    refine X0g_0_0 (pc := 22) C hL (of_decide_eq_true hz9) dX0_keepsAct_22 ?_
    refine X0g_1_24 (pc := 25) C hL dX0_keepsAct_25 ?_
    refine go_iconst (pc := 28) (v := (0 : Int32)) C dX0_keepsAct_28 (by decide) ?_
    refine go_sipush (pc := 29) (v := (1463 : Int32)) C dX0_keepsAct_29 (by decide) ?_
    refine go_copy (pc := 32) (sp' := 77) (dp' := 0) (m' := 1463) C (xa_1_24 hL) (xps_1_24 hL) (by decide) (by decide) (by decide) (by decide) q975 (by decide) (Nat.le_of_ble_eq_true rfl) dX0_keepsAct_32 ?_
    refine go_aload_n (pc := 35) C dX0_keepsAct_35 rfl 0 rfl ?_
    obtain ⟨hz9, h⟩ := chk_some h
    refine X0g_0_0 (pc := 36) C hL (of_decide_eq_true hz9) dX0_keepsAct_36 ?_
    refine go_dup (pc := 39) C dX0_keepsAct_39 rfl ?_
    refine X0g_1_7 (pc := 40) C hL dX0_keepsAct_40 ?_
    refine go_iconst (pc := 43) (v := (1 : Int32)) C dX0_keepsAct_43 (by decide) ?_
    refine go_isub (pc := 44) C dX0_keepsAct_44 ?_
    refine X0p_1_7 (pc := 45) C hL dX0_keepsAct_45 ?_
    refine go_nm (pc := 48) (fun z9 => (XW Γ.d A L E z9)) (fun s2 es2 => ?_)
    have h := ltv_eq es2 h
    refine go_aload_n (pc := 48) C dX0_keepsAct_48 rfl 0 rfl ?_
    obtain ⟨hz9, h⟩ := chk_some h
    refine X0g_0_0 (pc := 49) C hL (of_decide_eq_true hz9) dX0_keepsAct_49 ?_
    refine go_aload_n (pc := 52) C dX0_keepsAct_52 rfl 0 rfl ?_
    obtain ⟨hz9, h⟩ := chk_some h
    refine X0g_0_0 (pc := 53) C hL (of_decide_eq_true hz9) dX0_keepsAct_53 ?_
    refine X0g_1_7 (pc := 56) C hL dX0_keepsAct_56 ?_
    obtain ⟨s3, e3, h⟩ := bnd_some h
    refine go_callVv (pc := 59) C [.int ((s2 1).1 7)] (Mt.x1 (hL.2 1 (by decide)) hL.1 (m1_lays e3)) q976 q977 q978 q139 q979 x1pd_lays (by decide) (by decide) (xO (hL.2 1 (by decide)) hL.1) xc1 rfl (Nat.le_of_ble_eq_true rfl) ⟨Nat.zero_le _, Nat.zero_le _⟩ dX0_keepsAct_59 rfl ?_
    refine go_aload_n (pc := 62) C dX0_keepsAct_62 rfl 0 rfl ?_
    obtain ⟨hz9, h⟩ := chk_some h
    refine X0g_0_0 (pc := 63) C hL (of_decide_eq_true hz9) dX0_keepsAct_63 ?_
    refine go_dup (pc := 66) C dX0_keepsAct_66 rfl ?_
    refine X0g_1_7 (pc := 67) C hL dX0_keepsAct_67 ?_
    refine go_iconst (pc := 70) (v := (1 : Int32)) C dX0_keepsAct_70 (by decide) ?_
    refine go_iadd (pc := 71) C dX0_keepsAct_71 ?_
    refine X0p_1_7 (pc := 72) C hL dX0_keepsAct_72 ?_
    exact (hE 0 0 _ _ _ (Nat.zero_le _) (Nat.zero_le _)).2.2.2.1 rfl dX0_keepsAct_75 ⟨rfl, congrArg (fun z => (XW Γ.d A L E z)) (some1 h)⟩
theorem m0_mile {l : Launch} {d : gD} {A : XA} {L : List Nat} {E : va_W} {s0 : (Nat → Bl)} {r9 : Int32} {s9 : (Nat → Bl)} (hL : xOK L) (h : f0_mile s0 = some (r9, s9)) : Mt l d yX0_mile cX0_mile 1 (some .int) (7, 0, 0) 163 (XW d A L E s0) [.ref (A.1 0 0)] (fun v w => v = some (.int r9) ∧ w = (XW d A L E s9)) := by
  refine Mt.of x0pn (Nat.le_of_ble_eq_true rfl) ?_
  intro Γ hl hd hN C hE
  subst hl; subst hd
  show Go Γ 0 0 (XW Γ.d A L E s0) 0 [(0, .ref (A.1 0 0))] []
  dsimp only [f0_mile] at h
  refine go_aload_n (pc := 0) C dX0_mile_0 rfl 0 rfl ?_
  by_cases c4n : (s0 0).1 0 = 0
  · have h := (if_pos c4n).symm.trans h
    refine X0g_0_0N (pc := 1) C hL c4n dX0_mile_1 ?_
    refine go_ifnullN (pc := 4) (tgt := 24) C dX0_mile_4 (by decide) ?_
    refine go_iconst (pc := 24) (v := (-1 : Int32)) C dX0_mile_24 (by decide) ?_
    exact (hE 0 0 _ _ _ (Nat.zero_le _) (Nat.zero_le _)).1 _ rfl dX0_mile_25 ⟨congrArg (fun z => some (Value.int z)) (some2 h).1, congrArg (fun z => (XW Γ.d A L E z)) (some2 h).2⟩
  · have h := (if_neg c4n).symm.trans h
    refine X0g_0_0 (pc := 1) C hL c4n dX0_mile_1 ?_
    refine go_ifnull (pc := 4) C dX0_mile_4 ?_
    refine go_aload_n (pc := 7) C dX0_mile_7 rfl 0 rfl ?_
    obtain ⟨hz9, h⟩ := chk_some h
    refine X0g_0_0 (pc := 8) C hL (of_decide_eq_true hz9) dX0_mile_8 ?_
    refine X0g_1_6 (pc := 11) C hL dX0_mile_11 ?_
    refine go_aload_n (pc := 14) C dX0_mile_14 rfl 0 rfl ?_
    obtain ⟨hz9, h⟩ := chk_some h
    refine X0g_0_0 (pc := 15) C hL (of_decide_eq_true hz9) dX0_mile_15 ?_
    refine X0g_1_0 (pc := 18) C hL dX0_mile_18 ?_
    refine go_icmp_ne (pc := 21) (tgt := 26) C dX0_mile_21 (by decide) h (fun h => ?_) (fun h => ?_)
    · refine go_aload_n (pc := 26) C dX0_mile_26 rfl 0 rfl ?_
      obtain ⟨s1, e1, h⟩ := bnd_some h
      refine go_callVv (pc := 27) C [] (m0_keepsAct hL e1) q971 q973 qs33 q138 q974 x0pd_keepsAct (by decide) (by decide) (xO (hL.2 0 (by decide)) hL.1) xc0 rfl (Nat.le_of_ble_eq_true rfl) ⟨Nat.zero_le _, Nat.zero_le _⟩ dX0_mile_27 rfl ?_
      refine go_aload_n (pc := 30) C dX0_mile_30 rfl 0 rfl ?_
      obtain ⟨hz9, h⟩ := chk_some h
      refine X0g_0_0 (pc := 31) C hL (of_decide_eq_true hz9) dX0_mile_31 ?_
      obtain ⟨r2, s2, e2, h⟩ := bnd2_some h
      refine go_callVi (pc := 34) C [] (Mt.x1 (hL.2 1 (by decide)) hL.1 (m1_goesOn e2)) q980 q981 q982 q139 q983 x1pd_goesOn (by decide) (by decide) (xO (hL.2 1 (by decide)) hL.1) xc1 rfl (Nat.le_of_ble_eq_true rfl) ⟨Nat.zero_le _, Nat.zero_le _⟩ dX0_mile_34 rfl ?_
      exact (hE 0 0 _ _ _ (Nat.zero_le _) (Nat.zero_le _)).1 _ rfl dX0_mile_37 ⟨congrArg (fun z => some (Value.int z)) (some2 h).1, congrArg (fun z => (XW Γ.d A L E z)) (some2 h).2⟩
    · refine go_iconst (pc := 24) (v := (-1 : Int32)) C dX0_mile_24 (by decide) ?_
      exact (hE 0 0 _ _ _ (Nat.zero_le _) (Nat.zero_le _)).1 _ rfl dX0_mile_25 ⟨congrArg (fun z => some (Value.int z)) (some2 h).1, congrArg (fun z => (XW Γ.d A L E z)) (some2 h).2⟩
theorem m0_bind {l : Launch} {d : gD} {A : XA} {L : List Nat} {E : va_W} {s0 : (Nat → Bl)} {v1 : Int32} {v2 : Int32} {v3 : Int32} {r9 : Int32} {s9 : (Nat → Bl)} (hL : xOK L) (h : f0_bind s0 v1 v2 v3 = some (r9, s9)) : Mt l d yX0_bind cX0_bind 4 (some .int) (3, 0, 0) 68 (XW d A L E s0) [.ref (A.1 0 0), .int v1, .int v2, .int v3] (fun v w => v = some (.int r9) ∧ w = (XW d A L E s9)) := by
  refine Mt.of x0pn (Nat.le_of_ble_eq_true rfl) ?_
  intro Γ hl hd hN C hE
  subst hl; subst hd
  show Go Γ 0 0 (XW Γ.d A L E s0) 0 [(0, .ref (A.1 0 0)), (1, .int v1), (2, .int v2), (3, .int v3)] []
  dsimp only [f0_bind] at h
  refine go_aload_n (pc := 0) C dX0_bind_0 rfl 0 rfl ?_
  refine go_iload_n (pc := 1) C dX0_bind_1 rfl 1 rfl ?_
  obtain ⟨r1, e1, h⟩ := bnd_some h
  refine go_callVi (pc := 2) C [.int v1] (m0_isAfloat hL e1) q914 q916 qs31 q138 q917 x0pd_isAfloat (by decide) (by decide) (xO (hL.2 0 (by decide)) hL.1) xc0 rfl (Nat.le_of_ble_eq_true rfl) ⟨Nat.zero_le _, Nat.zero_le _⟩ dX0_bind_2 rfl ?_
  refine go_if_eq (pc := 5) (tgt := 33) C dX0_bind_5 (by decide) h (fun h => ?_) (fun h => ?_)
  · refine go_iconst (pc := 33) (v := (-1 : Int32)) C dX0_bind_33 (by decide) ?_
    exact (hE 0 0 _ _ _ (Nat.zero_le _) (Nat.zero_le _)).1 _ rfl dX0_bind_34 ⟨congrArg (fun z => some (Value.int z)) (some2 h).1, congrArg (fun z => (XW Γ.d A L E z)) (some2 h).2⟩
  · refine go_aload_n (pc := 8) C dX0_bind_8 rfl 0 rfl ?_
    refine go_iload_n (pc := 9) C dX0_bind_9 rfl 2 rfl ?_
    obtain ⟨r2, e2, h⟩ := bnd_some h
    refine go_callVi (pc := 10) C [.int v2] (m0_isAfloat hL e2) q914 q916 qs31 q138 q917 x0pd_isAfloat (by decide) (by decide) (xO (hL.2 0 (by decide)) hL.1) xc0 rfl (Nat.le_of_ble_eq_true rfl) ⟨Nat.zero_le _, Nat.zero_le _⟩ dX0_bind_10 rfl ?_
    refine go_if_eq (pc := 13) (tgt := 33) C dX0_bind_13 (by decide) h (fun h => ?_) (fun h => ?_)
    · refine go_iconst (pc := 33) (v := (-1 : Int32)) C dX0_bind_33 (by decide) ?_
      exact (hE 0 0 _ _ _ (Nat.zero_le _) (Nat.zero_le _)).1 _ rfl dX0_bind_34 ⟨congrArg (fun z => some (Value.int z)) (some2 h).1, congrArg (fun z => (XW Γ.d A L E z)) (some2 h).2⟩
    · refine go_iload_n (pc := 16) C dX0_bind_16 rfl 1 rfl ?_
      refine go_iload_n (pc := 17) C dX0_bind_17 rfl 2 rfl ?_
      refine go_icmp_eq (pc := 18) (tgt := 33) C dX0_bind_18 (by decide) h (fun h => ?_) (fun h => ?_)
      · refine go_iconst (pc := 33) (v := (-1 : Int32)) C dX0_bind_33 (by decide) ?_
        exact (hE 0 0 _ _ _ (Nat.zero_le _) (Nat.zero_le _)).1 _ rfl dX0_bind_34 ⟨congrArg (fun z => some (Value.int z)) (some2 h).1, congrArg (fun z => (XW Γ.d A L E z)) (some2 h).2⟩
      · refine go_iload_n (pc := 21) C dX0_bind_21 rfl 3 rfl ?_
        refine go_i2l (pc := 22) C dX0_bind_22 ?_
        refine go_lconst (pc := 23) (v := (1 : Int64)) C dX0_bind_23 (by decide) ?_
        refine go_ldc2 (pc := 24) C dX0_bind_24 q1017 ?_
        obtain ⟨r3, e3, h⟩ := bnd_some h
        refine go_callSi (pc := 27) C [.long (v3).toInt64, .long (1 : Int64), .long (9 : Int64)] (m0_in e3) q939 q647 q138 q648 x0pd_in (by decide) (by decide) rfl (Nat.le_of_ble_eq_true rfl) ⟨Nat.zero_le _, Nat.zero_le _⟩ dX0_bind_27 rfl ?_
        refine go_if_ne (pc := 30) (tgt := 35) C dX0_bind_30 (by decide) h (fun h => ?_) (fun h => ?_)
        · refine go_aload_n (pc := 35) C dX0_bind_35 rfl 0 rfl ?_
          obtain ⟨hz9, h⟩ := chk_some h
          refine X0g_0_0 (pc := 36) C hL (of_decide_eq_true hz9) dX0_bind_36 ?_
          refine go_iload_n (pc := 39) C dX0_bind_39 rfl 1 rfl ?_
          refine go_iload_n (pc := 40) C dX0_bind_40 rfl 2 rfl ?_
          obtain ⟨r4, e4, h⟩ := bnd_some h
          refine go_callVi (pc := 41) C [.int v1, .int v2] (Mt.x0 (hL.2 1 (by decide)) hL.1 (m1_ropeOf e4)) q1018 q662 q663 q139 q664 x1pd_ropeOf (by decide) (by decide) (xO (hL.2 1 (by decide)) hL.1) xc1 rfl (Nat.le_of_ble_eq_true rfl) ⟨Nat.zero_le _, Nat.zero_le _⟩ dX0_bind_41 rfl ?_
          refine go_iconst (pc := 44) (v := (-1 : Int32)) C dX0_bind_44 (by decide) ?_
          refine go_icmp_ne (pc := 45) (tgt := 71) C dX0_bind_45 (by decide) h (fun h => ?_) (fun h => ?_)
          · refine go_iconst (pc := 71) (v := (-1 : Int32)) C dX0_bind_71 (by decide) ?_
            exact (hE 0 0 _ _ _ (Nat.zero_le _) (Nat.zero_le _)).1 _ rfl dX0_bind_72 ⟨congrArg (fun z => some (Value.int z)) (some2 h).1, congrArg (fun z => (XW Γ.d A L E z)) (some2 h).2⟩
          · refine go_iload_n (pc := 48) C dX0_bind_48 rfl 3 rfl ?_
            refine go_aload_n (pc := 49) C dX0_bind_49 rfl 0 rfl ?_
            obtain ⟨hz9, h⟩ := chk_some h
            refine X0g_0_0 (pc := 50) C hL (of_decide_eq_true hz9) dX0_bind_50 ?_
            refine X0g_1_4 (pc := 53) C hL dX0_bind_53 ?_
            refine go_icmp_gt (pc := 56) (tgt := 71) C dX0_bind_56 (by decide) h (fun h => ?_) (fun h => ?_)
            · refine go_iconst (pc := 71) (v := (-1 : Int32)) C dX0_bind_71 (by decide) ?_
              exact (hE 0 0 _ _ _ (Nat.zero_le _) (Nat.zero_le _)).1 _ rfl dX0_bind_72 ⟨congrArg (fun z => some (Value.int z)) (some2 h).1, congrArg (fun z => (XW Γ.d A L E z)) (some2 h).2⟩
            · refine go_aload_n (pc := 59) C dX0_bind_59 rfl 0 rfl ?_
              obtain ⟨hz9, h⟩ := chk_some h
              refine X0g_0_0 (pc := 60) C hL (of_decide_eq_true hz9) dX0_bind_60 ?_
              refine X0g_1_5 (pc := 63) C hL dX0_bind_63 ?_
              refine go_bipush (pc := 66) (v := (12 : Int32)) C dX0_bind_66 (by decide) ?_
              refine go_icmp_ne (pc := 68) (tgt := 73) C dX0_bind_68 (by decide) h (fun h => ?_) (fun h => ?_)
              · refine go_aload_n (pc := 73) C dX0_bind_73 rfl 0 rfl ?_
                obtain ⟨s5, e5, h⟩ := bnd_some h
                refine go_callVv (pc := 74) C [] (m0_keepsAct hL e5) q971 q973 qs33 q138 q974 x0pd_keepsAct (by decide) (by decide) (xO (hL.2 0 (by decide)) hL.1) xc0 rfl (Nat.le_of_ble_eq_true rfl) ⟨Nat.zero_le _, Nat.zero_le _⟩ dX0_bind_74 rfl ?_
                refine go_aload_n (pc := 77) C dX0_bind_77 rfl 0 rfl ?_
                obtain ⟨hz9, h⟩ := chk_some h
                refine X0g_0_0 (pc := 78) C hL (of_decide_eq_true hz9) dX0_bind_78 ?_
                refine go_iload_n (pc := 81) C dX0_bind_81 rfl 1 rfl ?_
                refine go_iload_n (pc := 82) C dX0_bind_82 rfl 2 rfl ?_
                refine go_iload_n (pc := 83) C dX0_bind_83 rfl 3 rfl ?_
                obtain ⟨s6, e6, h⟩ := bnd_some h
                refine go_callVv (pc := 84) C [.int v1, .int v2, .int v3] (Mt.x1 (hL.2 1 (by decide)) hL.1 (m1_binds e6)) q1019 q672 q673 q139 q674 x1pd_binds (by decide) (by decide) (xO (hL.2 1 (by decide)) hL.1) xc1 rfl (Nat.le_of_ble_eq_true rfl) ⟨Nat.zero_le _, Nat.zero_le _⟩ dX0_bind_84 rfl ?_
                refine go_aload_n (pc := 87) C dX0_bind_87 rfl 0 rfl ?_
                obtain ⟨hz9, h⟩ := chk_some h
                refine X0g_0_0 (pc := 88) C hL (of_decide_eq_true hz9) dX0_bind_88 ?_
                refine go_dup (pc := 91) C dX0_bind_91 rfl ?_
                refine X0g_1_4 (pc := 92) C hL dX0_bind_92 ?_
                refine go_iload_n (pc := 95) C dX0_bind_95 rfl 3 rfl ?_
                refine go_isub (pc := 96) C dX0_bind_96 ?_
                refine X0p_1_4 (pc := 97) C hL dX0_bind_97 ?_
                refine go_aload_n (pc := 100) C dX0_bind_100 rfl 0 rfl ?_
                obtain ⟨hz9, h⟩ := chk_some h
                refine X0g_0_0 (pc := 101) C hL (of_decide_eq_true hz9) dX0_bind_101 ?_
                refine X0g_1_5 (pc := 104) C hL dX0_bind_104 ?_
                refine go_iconst (pc := 107) (v := (1 : Int32)) C dX0_bind_107 (by decide) ?_
                refine go_isub (pc := 108) C dX0_bind_108 ?_
                exact (hE 0 0 _ _ _ (Nat.zero_le _) (Nat.zero_le _)).1 _ rfl dX0_bind_109 ⟨congrArg (fun z => some (Value.int z)) (some2 h).1, congrArg (fun z => (XW Γ.d A L E z)) (some2 h).2⟩
              · refine go_iconst (pc := 71) (v := (-1 : Int32)) C dX0_bind_71 (by decide) ?_
                exact (hE 0 0 _ _ _ (Nat.zero_le _) (Nat.zero_le _)).1 _ rfl dX0_bind_72 ⟨congrArg (fun z => some (Value.int z)) (some2 h).1, congrArg (fun z => (XW Γ.d A L E z)) (some2 h).2⟩
        · refine go_iconst (pc := 33) (v := (-1 : Int32)) C dX0_bind_33 (by decide) ?_
          exact (hE 0 0 _ _ _ (Nat.zero_le _) (Nat.zero_le _)).1 _ rfl dX0_bind_34 ⟨congrArg (fun z => some (Value.int z)) (some2 h).1, congrArg (fun z => (XW Γ.d A L E z)) (some2 h).2⟩
theorem m0_cut {l : Launch} {d : gD} {A : XA} {L : List Nat} {E : va_W} {s0 : (Nat → Bl)} {v1 : Int32} {r9 : Int32} {s9 : (Nat → Bl)} (hL : xOK L) (h : f0_cut s0 v1 = some (r9, s9)) : Mt l d yX0_cut cX0_cut 2 (some .int) (3, 0, 0) 68 (XW d A L E s0) [.ref (A.1 0 0), .int v1] (fun v w => v = some (.int r9) ∧ w = (XW d A L E s9)) := by
  refine Mt.of x0pn (Nat.le_of_ble_eq_true rfl) ?_
  intro Γ hl hd hN C hE
  subst hl; subst hd
  show Go Γ 0 0 (XW Γ.d A L E s0) 0 [(0, .ref (A.1 0 0)), (1, .int v1)] []
  dsimp only [f0_cut] at h
  refine go_aload_n (pc := 0) C dX0_cut_0 rfl 0 rfl ?_
  refine go_iload_n (pc := 1) C dX0_cut_1 rfl 1 rfl ?_
  obtain ⟨r1, e1, h⟩ := bnd_some h
  refine go_callVi (pc := 2) C [.int v1] (m0_isRope hL e1) q931 q933 qs32 q138 q934 x0pd_isRope (by decide) (by decide) (xO (hL.2 0 (by decide)) hL.1) xc0 rfl (Nat.le_of_ble_eq_true rfl) ⟨Nat.zero_le _, Nat.zero_le _⟩ dX0_cut_2 rfl ?_
  refine go_if_ne (pc := 5) (tgt := 10) C dX0_cut_5 (by decide) h (fun h => ?_) (fun h => ?_)
  · refine go_aload_n (pc := 10) C dX0_cut_10 rfl 0 rfl ?_
    obtain ⟨s2, e2, h⟩ := bnd_some h
    refine go_callVv (pc := 11) C [] (m0_keepsAct hL e2) q971 q973 qs33 q138 q974 x0pd_keepsAct (by decide) (by decide) (xO (hL.2 0 (by decide)) hL.1) xc0 rfl (Nat.le_of_ble_eq_true rfl) ⟨Nat.zero_le _, Nat.zero_le _⟩ dX0_cut_11 rfl ?_
    refine go_aload_n (pc := 14) C dX0_cut_14 rfl 0 rfl ?_
    obtain ⟨hz9, h⟩ := chk_some h
    refine X0g_0_0 (pc := 15) C hL (of_decide_eq_true hz9) dX0_cut_15 ?_
    refine go_dup (pc := 18) C dX0_cut_18 rfl ?_
    refine X0g_1_4 (pc := 19) C hL dX0_cut_19 ?_
    refine go_aload_n (pc := 22) C dX0_cut_22 rfl 0 rfl ?_
    obtain ⟨hz9, h⟩ := chk_some h
    refine X0g_0_0 (pc := 23) C hL (of_decide_eq_true hz9) dX0_cut_23 ?_
    refine go_iconst (pc := 26) (v := (1 : Int32)) C dX0_cut_26 (by decide) ?_
    refine go_iload_n (pc := 27) C dX0_cut_27 rfl 1 rfl ?_
    refine go_ishl (pc := 28) C dX0_cut_28 ?_
    obtain ⟨r3, s3, e3, h⟩ := bnd2_some h
    refine go_callVi (pc := 29) C [.int ((1 : Int32) <<< (v1 &&& 31))] (Mt.x1 (hL.2 1 (by decide)) hL.1 (m1_loses e3)) q1024 q994 q995 q139 q996 x1pd_loses (by decide) (by decide) (xO (hL.2 1 (by decide)) hL.1) xc1 rfl (Nat.le_of_ble_eq_true rfl) ⟨Nat.zero_le _, Nat.zero_le _⟩ dX0_cut_29 rfl ?_
    refine go_iadd (pc := 32) C dX0_cut_32 ?_
    refine X0p_1_4 (pc := 33) C hL dX0_cut_33 ?_
    refine go_aload_n (pc := 36) C dX0_cut_36 rfl 0 rfl ?_
    obtain ⟨hz9, h⟩ := chk_some h
    refine X0g_0_0 (pc := 37) C hL (of_decide_eq_true hz9) dX0_cut_37 ?_
    refine X0g_1_4 (pc := 40) C hL dX0_cut_40 ?_
    exact (hE 0 0 _ _ _ (Nat.zero_le _) (Nat.zero_le _)).1 _ rfl dX0_cut_43 ⟨congrArg (fun z => some (Value.int z)) (some2 h).1, congrArg (fun z => (XW Γ.d A L E z)) (some2 h).2⟩
  · refine go_iconst (pc := 8) (v := (-1 : Int32)) C dX0_cut_8 (by decide) ?_
    exact (hE 0 0 _ _ _ (Nat.zero_le _) (Nat.zero_le _)).1 _ rfl dX0_cut_9 ⟨congrArg (fun z => some (Value.int z)) (some2 h).1, congrArg (fun z => (XW Γ.d A L E z)) (some2 h).2⟩
theorem m0_saw {l : Launch} {d : gD} {A : XA} {L : List Nat} {E : va_W} {s0 : (Nat → Bl)} {v1 : Int32} {r9 : Int32} {s9 : (Nat → Bl)} (hL : xOK L) (h : f0_saw s0 v1 = some (r9, s9)) : Mt l d yX0_saw cX0_saw 3 (some .int) (3, 0, 0) 68 (XW d A L E s0) [.ref (A.1 0 0), .int v1] (fun v w => v = some (.int r9) ∧ w = (XW d A L E s9)) := by
  refine Mt.of x0pn (Nat.le_of_ble_eq_true rfl) ?_
  intro Γ hl hd hN C hE
  subst hl; subst hd
  show Go Γ 0 0 (XW Γ.d A L E s0) 0 [(0, .ref (A.1 0 0)), (1, .int v1)] []
  dsimp only [f0_saw] at h
  refine go_aload_n (pc := 0) C dX0_saw_0 rfl 0 rfl ?_
  refine go_iload_n (pc := 1) C dX0_saw_1 rfl 1 rfl ?_
  obtain ⟨r1, e1, h⟩ := bnd_some h
  refine go_callVi (pc := 2) C [.int v1] (m0_isAfloat hL e1) q914 q916 qs31 q138 q917 x0pd_isAfloat (by decide) (by decide) (xO (hL.2 0 (by decide)) hL.1) xc0 rfl (Nat.le_of_ble_eq_true rfl) ⟨Nat.zero_le _, Nat.zero_le _⟩ dX0_saw_2 rfl ?_
  refine go_if_ne (pc := 5) (tgt := 10) C dX0_saw_5 (by decide) h (fun h => ?_) (fun h => ?_)
  · refine go_aload_n (pc := 10) C dX0_saw_10 rfl 0 rfl ?_
    obtain ⟨s2, e2, h⟩ := bnd_some h
    refine go_callVv (pc := 11) C [] (m0_keepsAct hL e2) q971 q973 qs33 q138 q974 x0pd_keepsAct (by decide) (by decide) (xO (hL.2 0 (by decide)) hL.1) xc0 rfl (Nat.le_of_ble_eq_true rfl) ⟨Nat.zero_le _, Nat.zero_le _⟩ dX0_saw_11 rfl ?_
    refine go_aload_n (pc := 14) C dX0_saw_14 rfl 0 rfl ?_
    obtain ⟨hz9, h⟩ := chk_some h
    refine X0g_0_0 (pc := 15) C hL (of_decide_eq_true hz9) dX0_saw_15 ?_
    refine go_iconst (pc := 18) (v := (1 : Int32)) C dX0_saw_18 (by decide) ?_
    refine go_iload_n (pc := 19) C dX0_saw_19 rfl 1 rfl ?_
    refine go_ishl (pc := 20) C dX0_saw_20 ?_
    obtain ⟨r3, e3, h⟩ := bnd_some h
    refine go_callVi (pc := 21) C [.int ((1 : Int32) <<< (v1 &&& 31))] (Mt.x0 (hL.2 1 (by decide)) hL.1 (m1_ropesAt e3)) q1029 q1002 q1003 q139 q1004 x1pd_ropesAt (by decide) (by decide) (xO (hL.2 1 (by decide)) hL.1) xc1 rfl (Nat.le_of_ble_eq_true rfl) ⟨Nat.zero_le _, Nat.zero_le _⟩ dX0_saw_21 rfl ?_
    refine go_istore_n (pc := 24) C hN dX0_saw_24 rfl (by decide) rfl ?_
    refine go_aload_n (pc := 25) C dX0_saw_25 rfl 1 rfl ?_
    obtain ⟨hz9, h⟩ := chk_some h
    refine X0g_0_0 (pc := 26) C hL (of_decide_eq_true hz9) dX0_saw_26 ?_
    refine go_iload_n (pc := 29) C dX0_saw_29 rfl 0 rfl ?_
    obtain ⟨r4, s4, e4, h⟩ := bnd2_some h
    refine go_callVi (pc := 30) C [.int r3] (Mt.x1 (hL.2 1 (by decide)) hL.1 (m1_loses e4)) q1024 q994 q995 q139 q996 x1pd_loses (by decide) (by decide) (xO (hL.2 1 (by decide)) hL.1) xc1 rfl (Nat.le_of_ble_eq_true rfl) ⟨Nat.zero_le _, Nat.zero_le _⟩ dX0_saw_30 rfl ?_
    refine go_pop (pc := 33) C dX0_saw_33 rfl ?_
    refine go_iload_n (pc := 34) C dX0_saw_34 rfl 0 rfl ?_
    obtain ⟨r5, e5, h⟩ := bnd_some h
    refine go_callSi (pc := 35) C [.int r3] (mJ8_bitCount e5) q1030 q901 q162 q902 j8pd_bitCount (by decide) (by decide) rfl (Nat.le_of_ble_eq_true rfl) ⟨Nat.zero_le _, Nat.zero_le _⟩ dX0_saw_35 rfl ?_
    exact (hE 0 0 _ _ _ (Nat.zero_le _) (Nat.zero_le _)).1 _ rfl dX0_saw_38 ⟨congrArg (fun z => some (Value.int z)) (some2 h).1, congrArg (fun z => (XW Γ.d A L E z)) (some2 h).2⟩
  · refine go_iconst (pc := 8) (v := (-1 : Int32)) C dX0_saw_8 (by decide) ?_
    exact (hE 0 0 _ _ _ (Nat.zero_le _) (Nat.zero_le _)).1 _ rfl dX0_saw_9 ⟨congrArg (fun z => some (Value.int z)) (some2 h).1, congrArg (fun z => (XW Γ.d A L E z)) (some2 h).2⟩
theorem m0_push {l : Launch} {d : gD} {A : XA} {L : List Nat} {E : va_W} {s0 : (Nat → Bl)} {v1 : Int32} {v2 : Int32} {r9 : Int32} {s9 : (Nat → Bl)} (hL : xOK L) (h : f0_push s0 v1 v2 = some (r9, s9)) : Mt l d yX0_push cX0_push 4 (some .int) (3, 0, 0) 68 (XW d A L E s0) [.ref (A.1 0 0), .int v1, .int v2] (fun v w => v = some (.int r9) ∧ w = (XW d A L E s9)) := by
  refine Mt.of x0pn (Nat.le_of_ble_eq_true rfl) ?_
  intro Γ hl hd hN C hE
  subst hl; subst hd
  show Go Γ 0 0 (XW Γ.d A L E s0) 0 [(0, .ref (A.1 0 0)), (1, .int v1), (2, .int v2)] []
  dsimp only [f0_push] at h
  refine go_aload_n (pc := 0) C dX0_push_0 rfl 0 rfl ?_
  refine go_iload_n (pc := 1) C dX0_push_1 rfl 1 rfl ?_
  obtain ⟨r1, e1, h⟩ := bnd_some h
  refine go_callVi (pc := 2) C [.int v1] (m0_isAfloat hL e1) q914 q916 qs31 q138 q917 x0pd_isAfloat (by decide) (by decide) (xO (hL.2 0 (by decide)) hL.1) xc0 rfl (Nat.le_of_ble_eq_true rfl) ⟨Nat.zero_le _, Nat.zero_le _⟩ dX0_push_2 rfl ?_
  refine go_if_eq (pc := 5) (tgt := 29) C dX0_push_5 (by decide) h (fun h => ?_) (fun h => ?_)
  · refine go_iconst (pc := 29) (v := (-1 : Int32)) C dX0_push_29 (by decide) ?_
    exact (hE 0 0 _ _ _ (Nat.zero_le _) (Nat.zero_le _)).1 _ rfl dX0_push_30 ⟨congrArg (fun z => some (Value.int z)) (some2 h).1, congrArg (fun z => (XW Γ.d A L E z)) (some2 h).2⟩
  · refine go_aload_n (pc := 8) C dX0_push_8 rfl 0 rfl ?_
    refine go_iload_n (pc := 9) C dX0_push_9 rfl 2 rfl ?_
    obtain ⟨r2, e2, h⟩ := bnd_some h
    refine go_callVi (pc := 10) C [.int v2] (m0_isOwner hL e2) q873 q875 qs29 q138 q876 x0pd_isOwner (by decide) (by decide) (xO (hL.2 0 (by decide)) hL.1) xc0 rfl (Nat.le_of_ble_eq_true rfl) ⟨Nat.zero_le _, Nat.zero_le _⟩ dX0_push_10 rfl ?_
    refine go_if_eq (pc := 13) (tgt := 29) C dX0_push_13 (by decide) h (fun h => ?_) (fun h => ?_)
    · refine go_iconst (pc := 29) (v := (-1 : Int32)) C dX0_push_29 (by decide) ?_
      exact (hE 0 0 _ _ _ (Nat.zero_le _) (Nat.zero_le _)).1 _ rfl dX0_push_30 ⟨congrArg (fun z => some (Value.int z)) (some2 h).1, congrArg (fun z => (XW Γ.d A L E z)) (some2 h).2⟩
    · refine go_aload_n (pc := 16) C dX0_push_16 rfl 0 rfl ?_
      obtain ⟨hz9, h⟩ := chk_some h
      refine X0g_0_0 (pc := 17) C hL (of_decide_eq_true hz9) dX0_push_17 ?_
      refine X0g_1_12 (pc := 20) C hL dX0_push_20 ?_
      refine go_iload_n (pc := 23) C dX0_push_23 rfl 1 rfl ?_
      refine go_iald (pc := 24) C (xa_1_12 hL) h dX0_push_24 (fun h => ?_)
      refine go_iload_n (pc := 25) C dX0_push_25 rfl 2 rfl ?_
      refine go_icmp_ne (pc := 26) (tgt := 31) C dX0_push_26 (by decide) h (fun h => ?_) (fun h => ?_)
      · refine go_aload_n (pc := 31) C dX0_push_31 rfl 0 rfl ?_
        obtain ⟨s3, e3, h⟩ := bnd_some h
        refine go_callVv (pc := 32) C [] (m0_keepsAct hL e3) q971 q973 qs33 q138 q974 x0pd_keepsAct (by decide) (by decide) (xO (hL.2 0 (by decide)) hL.1) xc0 rfl (Nat.le_of_ble_eq_true rfl) ⟨Nat.zero_le _, Nat.zero_le _⟩ dX0_push_32 rfl ?_
        refine go_aload_n (pc := 35) C dX0_push_35 rfl 0 rfl ?_
        obtain ⟨hz9, h⟩ := chk_some h
        refine X0g_0_0 (pc := 36) C hL (of_decide_eq_true hz9) dX0_push_36 ?_
        refine X0g_1_12 (pc := 39) C hL dX0_push_39 ?_
        refine go_iload_n (pc := 42) C dX0_push_42 rfl 1 rfl ?_
        refine go_iald (pc := 43) C (xa_1_12 hL) h dX0_push_43 (fun h => ?_)
        refine go_istore_n (pc := 44) C hN dX0_push_44 rfl (by decide) rfl ?_
        refine go_aload_n (pc := 45) C dX0_push_45 rfl 1 rfl ?_
        obtain ⟨hz9, h⟩ := chk_some h
        refine X0g_0_0 (pc := 46) C hL (of_decide_eq_true hz9) dX0_push_46 ?_
        refine X0g_1_12 (pc := 49) C hL dX0_push_49 ?_
        refine go_iload_n (pc := 52) C dX0_push_52 rfl 2 rfl ?_
        refine go_iload_n (pc := 53) C dX0_push_53 rfl 3 rfl ?_
        refine go_iast (pc := 54) C (xpa_1_12 hL) h dX0_push_54 (fun h => ?_)
        refine go_iload_n (pc := 55) C dX0_push_55 rfl 0 rfl ?_
        exact (hE 0 0 _ _ _ (Nat.zero_le _) (Nat.zero_le _)).1 _ rfl dX0_push_56 ⟨congrArg (fun z => some (Value.int z)) (some2 h).1, congrArg (fun z => (XW Γ.d A L E z)) (some2 h).2⟩
      · refine go_iconst (pc := 29) (v := (-1 : Int32)) C dX0_push_29 (by decide) ?_
        exact (hE 0 0 _ _ _ (Nat.zero_le _) (Nat.zero_le _)).1 _ rfl dX0_push_30 ⟨congrArg (fun z => some (Value.int z)) (some2 h).1, congrArg (fun z => (XW Γ.d A L E z)) (some2 h).2⟩
theorem w0_thingsIn_4 {Γ : Gam} {A : XA} {L : List Nat} {E : va_W} {s0 : (Nat → Bl)} {v1 : Int32} {r9 : Int32} (hN : Γ.nL = 4) (C : Cx Γ cX0_thingsIn RX0 (0, 0, 0) 0) (hE : Rets Γ cX0_thingsIn (some .int) 0 0 (fun v w => v = some (.int r9) ∧ w = (XW Γ.d A L E s0))) (hL : xOK L) : ∀ (n : Nat) (s : Int32 × Int32), loop (g0_thingsIn_4 s0 v1) n s = some r9 → (fun s : Int32 × Int32 => Go Γ 0 0 (XW Γ.d A L E s0) 4 [(0, .ref (A.1 2 0)), (1, .int v1), (2, .int s.1), (3, .int s.2)] []) s := by
  refine loop_walk (P := fun s : Int32 × Int32 => Go Γ 0 0 (XW Γ.d A L E s0) 4 [(0, .ref (A.1 2 0)), (1, .int v1), (2, .int s.1), (3, .int s.2)] []) ?_
  intro K4 hK4 s h
  obtain ⟨v2, v3⟩ := s
  dsimp only [g0_thingsIn_4] at h
  show Go Γ 0 0 (XW Γ.d A L E s0) 4 [(0, .ref (A.1 2 0)), (1, .int v1), (2, .int v2), (3, .int v3)] []
  refine go_iload_n (pc := 4) C dX0_thingsIn_4 rfl 3 rfl ?_
  refine go_aload_n (pc := 5) C dX0_thingsIn_5 rfl 0 rfl ?_
  refine X0g_2_2 (pc := 6) C hL dX0_thingsIn_6 ?_
  refine go_icmp_ge (pc := 9) (tgt := 38) C dX0_thingsIn_9 (by decide) h (fun h => ?_) (fun h => ?_)
  · refine go_iload_n (pc := 38) C dX0_thingsIn_38 rfl 2 rfl ?_
    exact (hE 0 0 _ _ _ (Nat.zero_le _) (Nat.zero_le _)).1 _ rfl dX0_thingsIn_39 ⟨congrArg (fun z => some (Value.int z)) (some1 h), rfl⟩
  · refine go_iload_n (pc := 12) C dX0_thingsIn_12 rfl 2 rfl ?_
    refine go_aload_n (pc := 13) C dX0_thingsIn_13 rfl 0 rfl ?_
    refine X0g_2_16 (pc := 14) C hL dX0_thingsIn_14 ?_
    refine go_iload_n (pc := 17) C dX0_thingsIn_17 rfl 3 rfl ?_
    refine go_iald (pc := 18) C (xa_2_16 hL) h dX0_thingsIn_18 (fun h => ?_)
    refine go_iload_n (pc := 19) C dX0_thingsIn_19 rfl 1 rfl ?_
    refine go_icmp_ne (pc := 20) (tgt := 29) C dX0_thingsIn_20 (by decide) h (fun h => ?_) (fun h => ?_)
    · refine go_iconst (pc := 29) (v := (0 : Int32)) C dX0_thingsIn_29 (by decide) ?_
      refine go_ior (pc := 30) C dX0_thingsIn_30 ?_
      refine go_istore_n (pc := 31) C hN dX0_thingsIn_31 rfl (by decide) rfl ?_
      refine go_iinc (pc := 32) (v := (v3 + (1 : Int32))) C hN dX0_thingsIn_32 (q := 3) rfl rfl (by decide) rfl ?_
      refine go_goto (pc := 35) (tgt := 4) C dX0_thingsIn_35 (by decide) ?_
      refine go_sub [2, 3, 1, 0] rfl ?_
      exact hK4 ((v2 ||| (0 : Int32)), (v3 + (1 : Int32))) h
    · refine go_iconst (pc := 23) (v := (1 : Int32)) C dX0_thingsIn_23 (by decide) ?_
      refine go_iload_n (pc := 24) C dX0_thingsIn_24 rfl 3 rfl ?_
      refine go_ishl (pc := 25) C dX0_thingsIn_25 ?_
      refine go_goto (pc := 26) (tgt := 30) C dX0_thingsIn_26 (by decide) ?_
      refine go_ior (pc := 30) C dX0_thingsIn_30 ?_
      refine go_istore_n (pc := 31) C hN dX0_thingsIn_31 rfl (by decide) rfl ?_
      refine go_iinc (pc := 32) (v := (v3 + (1 : Int32))) C hN dX0_thingsIn_32 (q := 3) rfl rfl (by decide) rfl ?_
      refine go_goto (pc := 35) (tgt := 4) C dX0_thingsIn_35 (by decide) ?_
      refine go_sub [2, 3, 1, 0] rfl ?_
      exact hK4 ((v2 ||| ((1 : Int32) <<< (v3 &&& 31))), (v3 + (1 : Int32))) h
theorem m0_thingsIn {l : Launch} {d : gD} {A : XA} {L : List Nat} {E : va_W} {s0 : (Nat → Bl)} {v1 : Int32} {r9 : Int32} (hL : xOK L) (h : f0_thingsIn s0 v1 = some r9) : Mt l d yX0_thingsIn cX0_thingsIn 4 (some .int) (0, 0, 0) 0 (XW d A L E s0) [.ref (A.1 2 0), .int v1] (fun v w => v = some (.int r9) ∧ w = (XW d A L E s0)) := by
  refine Mt.of x0pn (Nat.le_of_ble_eq_true rfl) ?_
  intro Γ hl hd hN C hE
  subst hl; subst hd
  show Go Γ 0 0 (XW Γ.d A L E s0) 0 [(0, .ref (A.1 2 0)), (1, .int v1)] []
  dsimp only [f0_thingsIn] at h
  refine go_iconst (pc := 0) (v := (0 : Int32)) C dX0_thingsIn_0 (by decide) ?_
  refine go_istore_n (pc := 1) C hN dX0_thingsIn_1 rfl (by decide) rfl ?_
  refine go_iconst (pc := 2) (v := (0 : Int32)) C dX0_thingsIn_2 (by decide) ?_
  refine go_istore_n (pc := 3) C hN dX0_thingsIn_3 rfl (by decide) rfl ?_
  refine go_sub [2, 3, 1, 0] rfl ?_
  exact w0_thingsIn_4 hN C hE hL FU ((0 : Int32), (0 : Int32)) h
theorem w0_ahead_95 {Γ : Gam} {A : XA} {L : List Nat} {E : va_W} {s0 : (Nat → Bl)} {r9 : Int32} {s9 : (Nat → Bl)} (hN : Γ.nL = 6) (C : Cx Γ cX0_ahead RX0 (7, 0, 0) 163) (hE : Rets Γ cX0_ahead (some .int) 0 0 (fun v w => v = some (.int r9) ∧ w = (XW Γ.d A L E s9))) (hL : xOK L) : ∀ (n : Nat) (s : Int32 × Int32), loop (g0_ahead_95 s0) n s = some (r9, s9) → (fun s : Int32 × Int32 => Go Γ 0 0 (XW Γ.d A L E s0) 95 [(3, .ref (A.1 2 0)), (4, .int s.1), (5, .int s.2)] []) s := by
  refine loop_walk (P := fun s : Int32 × Int32 => Go Γ 0 0 (XW Γ.d A L E s0) 95 [(3, .ref (A.1 2 0)), (4, .int s.1), (5, .int s.2)] []) ?_
  intro K95 hK95 s h
  obtain ⟨v4, v5⟩ := s
  dsimp only [g0_ahead_95] at h
  show Go Γ 0 0 (XW Γ.d A L E s0) 95 [(3, .ref (A.1 2 0)), (4, .int v4), (5, .int v5)] []
  refine go_iload (pc := 95) C dX0_ahead_95 2 rfl ?_
  refine go_aload_n (pc := 97) C dX0_ahead_97 rfl 0 rfl ?_
  refine X0g_2_1 (pc := 98) C hL dX0_ahead_98 ?_
  refine go_icmp_ge (pc := 101) (tgt := 134) C dX0_ahead_101 (by decide) h (fun h => ?_) (fun h => ?_)
  · refine go_iload (pc := 134) C dX0_ahead_134 1 rfl ?_
    exact (hE 0 0 _ _ _ (Nat.zero_le _) (Nat.zero_le _)).1 _ rfl dX0_ahead_136 ⟨congrArg (fun z => some (Value.int z)) (some2 h).1, congrArg (fun z => (XW Γ.d A L E z)) (some2 h).2⟩
  · refine go_iload (pc := 104) C dX0_ahead_104 1 rfl ?_
    refine go_aload_n (pc := 106) C dX0_ahead_106 rfl 0 rfl ?_
    refine X0g_2_11 (pc := 107) C hL dX0_ahead_107 ?_
    refine go_iload (pc := 110) C dX0_ahead_110 2 rfl ?_
    refine go_iald (pc := 112) C (xa_2_11 hL) h dX0_ahead_112 (fun h => ?_)
    refine go_iconst (pc := 113) (v := (2 : Int32)) C dX0_ahead_113 (by decide) ?_
    refine go_icmp_ne (pc := 114) (tgt := 124) C dX0_ahead_114 (by decide) h (fun h => ?_) (fun h => ?_)
    · refine go_iconst (pc := 124) (v := (0 : Int32)) C dX0_ahead_124 (by decide) ?_
      refine go_ior (pc := 125) C dX0_ahead_125 ?_
      refine go_istore (pc := 126) C hN dX0_ahead_126 (by decide) rfl ?_
      refine go_iinc (pc := 128) (v := (v5 + (1 : Int32))) C hN dX0_ahead_128 (q := 2) rfl rfl (by decide) rfl ?_
      refine go_goto (pc := 131) (tgt := 95) C dX0_ahead_131 (by decide) ?_
      refine go_sub [2, 1, 0] rfl ?_
      exact hK95 ((v4 ||| (0 : Int32)), (v5 + (1 : Int32))) h
    · refine go_iconst (pc := 117) (v := (1 : Int32)) C dX0_ahead_117 (by decide) ?_
      refine go_iload (pc := 118) C dX0_ahead_118 2 rfl ?_
      refine go_ishl (pc := 120) C dX0_ahead_120 ?_
      refine go_goto (pc := 121) (tgt := 125) C dX0_ahead_121 (by decide) ?_
      refine go_ior (pc := 125) C dX0_ahead_125 ?_
      refine go_istore (pc := 126) C hN dX0_ahead_126 (by decide) rfl ?_
      refine go_iinc (pc := 128) (v := (v5 + (1 : Int32))) C hN dX0_ahead_128 (q := 2) rfl rfl (by decide) rfl ?_
      refine go_goto (pc := 131) (tgt := 95) C dX0_ahead_131 (by decide) ?_
      refine go_sub [2, 1, 0] rfl ?_
      exact hK95 ((v4 ||| ((1 : Int32) <<< (v5 &&& 31))), (v5 + (1 : Int32))) h
theorem w0_ahead_61 {Γ : Gam} {A : XA} {L : List Nat} {E : va_W} {v1 : Int32} {v2 : Int32} {r9 : Int32} {s9 : (Nat → Bl)} (hN : Γ.nL = 6) (C : Cx Γ cX0_ahead RX0 (7, 0, 0) 163) (hE : Rets Γ cX0_ahead (some .int) 0 0 (fun v w => v = some (.int r9) ∧ w = (XW Γ.d A L E s9))) (hL : xOK L) : ∀ (n : Nat) (s : (Nat → Bl) × Int32), loop (g0_ahead_61 v1 v2) n s = some (r9, s9) → (fun s : (Nat → Bl) × Int32 => Go Γ 0 0 (XW Γ.d A L E s.1) 61 [(1, .int v1), (2, .int v2), (3, .ref (A.1 2 0)), (4, .int s.2)] []) s := by
  refine loop_walk (P := fun s : (Nat → Bl) × Int32 => Go Γ 0 0 (XW Γ.d A L E s.1) 61 [(1, .int v1), (2, .int v2), (3, .ref (A.1 2 0)), (4, .int s.2)] []) ?_
  intro K61 hK61 s h
  obtain ⟨s0, v4⟩ := s
  dsimp only [g0_ahead_61] at h
  show Go Γ 0 0 (XW Γ.d A L E s0) 61 [(1, .int v1), (2, .int v2), (3, .ref (A.1 2 0)), (4, .int v4)] []
  refine go_iload (pc := 61) C dX0_ahead_61 3 rfl ?_
  refine go_iload_n (pc := 63) C dX0_ahead_63 rfl 0 rfl ?_
  refine go_icmp_ge (pc := 64) (tgt := 78) C dX0_ahead_64 (by decide) h (fun h => ?_) (fun h => ?_)
  · refine go_iload_n (pc := 78) C dX0_ahead_78 rfl 1 rfl ?_
    refine go_iconst (pc := 79) (v := (3 : Int32)) C dX0_ahead_79 (by decide) ?_
    refine go_icmp_ge (pc := 80) (tgt := 89) C dX0_ahead_80 (by decide) h (fun h => ?_) (fun h => ?_)
    · refine go_iconst (pc := 89) (v := (0 : Int32)) C dX0_ahead_89 (by decide) ?_
      refine go_istore (pc := 90) C hN dX0_ahead_90 (by decide) rfl ?_
      refine go_iconst (pc := 92) (v := (0 : Int32)) C dX0_ahead_92 (by decide) ?_
      refine go_istore (pc := 93) C hN dX0_ahead_93 (by decide) rfl ?_
      refine go_sub [4, 1, 0] rfl ?_
      exact w0_ahead_95 hN C hE hL FU ((0 : Int32), (0 : Int32)) h
    · refine go_aload_n (pc := 83) C dX0_ahead_83 rfl 2 rfl ?_
      refine go_iload_n (pc := 84) C dX0_ahead_84 rfl 1 rfl ?_
      obtain ⟨r4, e4, h⟩ := bnd_some h
      refine go_callSi (pc := 85) C [.ref (A.1 2 0), .int v2] (m0_thingsIn hL e4) q1102 q1103 q138 q1104 x0pd_thingsIn (by decide) (by decide) rfl (Nat.le_of_ble_eq_true rfl) ⟨Nat.zero_le _, Nat.zero_le _⟩ dX0_ahead_85 rfl ?_
      exact (hE 0 0 _ _ _ (Nat.zero_le _) (Nat.zero_le _)).1 _ rfl dX0_ahead_88 ⟨congrArg (fun z => some (Value.int z)) (some2 h).1, congrArg (fun z => (XW Γ.d A L E z)) (some2 h).2⟩
  · refine go_aload_n (pc := 67) C dX0_ahead_67 rfl 2 rfl ?_
    obtain ⟨r5, s5, e5, h⟩ := bnd2_some h
    refine go_callVi (pc := 68) C [] (Mt.x1 (hL.2 2 (by decide)) hL.1 (m1_goesOn e5)) q980 q981 q982 q139 q983 x1pd_goesOn (by decide) (by decide) (xO (hL.2 2 (by decide)) hL.1) xc2 rfl (Nat.le_of_ble_eq_true rfl) ⟨Nat.zero_le _, Nat.zero_le _⟩ dX0_ahead_68 rfl ?_
    refine go_pop (pc := 71) C dX0_ahead_71 rfl ?_
    refine go_iinc (pc := 72) (v := (v4 + (1 : Int32))) C hN dX0_ahead_72 (q := 3) rfl rfl (by decide) rfl ?_
    refine go_goto (pc := 75) (tgt := 61) C dX0_ahead_75 (by decide) ?_
    refine go_sub [1, 2, 3, 0] rfl ?_
    exact hK61 ((upX s0 2 s5), (v4 + (1 : Int32))) h
theorem m0_ahead {l : Launch} {d : gD} {A : XA} {L : List Nat} {E : va_W} {s0 : (Nat → Bl)} {v1 : Int32} {v2 : Int32} {r9 : Int32} {s9 : (Nat → Bl)} (hL : xOK L) (h : f0_ahead s0 v1 v2 = some (r9, s9)) : Mt l d yX0_ahead cX0_ahead 6 (some .int) (7, 0, 0) 163 (XW d A L E s0) [.ref (A.1 0 0), .int v1, .int v2] (fun v w => v = some (.int r9) ∧ w = (XW d A L E s9)) := by
  refine Mt.of x0pn (Nat.le_of_ble_eq_true rfl) ?_
  intro Γ hl hd hN C hE
  subst hl; subst hd
  show Go Γ 0 0 (XW Γ.d A L E s0) 0 [(0, .ref (A.1 0 0)), (1, .int v1), (2, .int v2)] []
  dsimp only [f0_ahead] at h
  refine go_aload_n (pc := 0) C dX0_ahead_0 rfl 0 rfl ?_
  by_cases c4n : (s0 0).1 0 = 0
  · have h := (if_pos c4n).symm.trans h
    refine X0g_0_0N (pc := 1) C hL c4n dX0_ahead_1 ?_
    refine go_ifnullN (pc := 4) (tgt := 44) C dX0_ahead_4 (by decide) ?_
    refine go_iconst (pc := 44) (v := (-1 : Int32)) C dX0_ahead_44 (by decide) ?_
    exact (hE 0 0 _ _ _ (Nat.zero_le _) (Nat.zero_le _)).1 _ rfl dX0_ahead_45 ⟨congrArg (fun z => some (Value.int z)) (some2 h).1, congrArg (fun z => (XW Γ.d A L E z)) (some2 h).2⟩
  · have h := (if_neg c4n).symm.trans h
    refine X0g_0_0 (pc := 1) C hL c4n dX0_ahead_1 ?_
    refine go_ifnull (pc := 4) C dX0_ahead_4 ?_
    refine go_iload_n (pc := 7) C dX0_ahead_7 rfl 1 rfl ?_
    refine go_i2l (pc := 8) C dX0_ahead_8 ?_
    refine go_lconst (pc := 9) (v := (0 : Int64)) C dX0_ahead_9 (by decide) ?_
    refine go_aload_n (pc := 10) C dX0_ahead_10 rfl 0 rfl ?_
    obtain ⟨hz9, h⟩ := chk_some h
    refine X0g_0_0 (pc := 11) C hL (of_decide_eq_true hz9) dX0_ahead_11 ?_
    refine X0g_1_0 (pc := 14) C hL dX0_ahead_14 ?_
    refine go_aload_n (pc := 17) C dX0_ahead_17 rfl 0 rfl ?_
    obtain ⟨hz9, h⟩ := chk_some h
    refine X0g_0_0 (pc := 18) C hL (of_decide_eq_true hz9) dX0_ahead_18 ?_
    refine X0g_1_6 (pc := 21) C hL dX0_ahead_21 ?_
    refine go_isub (pc := 24) C dX0_ahead_24 ?_
    refine go_i2l (pc := 25) C dX0_ahead_25 ?_
    obtain ⟨r1, e1, h⟩ := bnd_some h
    refine go_callSi (pc := 26) C [.long (v1).toInt64, .long (0 : Int64), .long ((((s0 1).1 0) - ((s0 1).1 6))).toInt64] (m0_in e1) q939 q647 q138 q648 x0pd_in (by decide) (by decide) rfl (Nat.le_of_ble_eq_true rfl) ⟨Nat.zero_le _, Nat.zero_le _⟩ dX0_ahead_26 rfl ?_
    refine go_if_eq (pc := 29) (tgt := 44) C dX0_ahead_29 (by decide) h (fun h => ?_) (fun h => ?_)
    · refine go_iconst (pc := 44) (v := (-1 : Int32)) C dX0_ahead_44 (by decide) ?_
      exact (hE 0 0 _ _ _ (Nat.zero_le _) (Nat.zero_le _)).1 _ rfl dX0_ahead_45 ⟨congrArg (fun z => some (Value.int z)) (some2 h).1, congrArg (fun z => (XW Γ.d A L E z)) (some2 h).2⟩
    · refine go_iload_n (pc := 32) C dX0_ahead_32 rfl 2 rfl ?_
      refine go_i2l (pc := 33) C dX0_ahead_33 ?_
      refine go_lconst (pc := 34) (v := (0 : Int64)) C dX0_ahead_34 (by decide) ?_
      refine go_ldc2 (pc := 35) C dX0_ahead_35 q1101 ?_
      obtain ⟨r2, e2, h⟩ := bnd_some h
      refine go_callSi (pc := 38) C [.long (v2).toInt64, .long (0 : Int64), .long (3 : Int64)] (m0_in e2) q939 q647 q138 q648 x0pd_in (by decide) (by decide) rfl (Nat.le_of_ble_eq_true rfl) ⟨Nat.zero_le _, Nat.zero_le _⟩ dX0_ahead_38 rfl ?_
      refine go_if_ne (pc := 41) (tgt := 46) C dX0_ahead_41 (by decide) h (fun h => ?_) (fun h => ?_)
      · refine go_aload_n (pc := 46) C dX0_ahead_46 rfl 0 rfl ?_
        refine X0g_0_2 (pc := 47) C hL dX0_ahead_47 ?_
        refine go_aload_n (pc := 50) C dX0_ahead_50 rfl 0 rfl ?_
        obtain ⟨hz9, h⟩ := chk_some h
        refine X0g_0_0 (pc := 51) C hL (of_decide_eq_true hz9) dX0_ahead_51 ?_
        obtain ⟨s3, e3, h⟩ := bnd_some h
        refine go_callVa (pc := 54) C [.ref (A.1 1 0)] (Mt.x2 (hL.2 2 (by decide)) (hL.2 1 (by decide)) (by decide) hL.1 (m1_copies e3)) q691 q552 q553 q139 q554 x1pd_copies (by decide) (by decide) (xO (hL.2 2 (by decide)) hL.1) xc2 rfl (Nat.le_of_ble_eq_true rfl) ⟨Nat.zero_le _, Nat.zero_le _⟩ dX0_ahead_54 rfl ?_
        refine go_astore_n (pc := 57) C hN dX0_ahead_57 rfl (by decide) rfl ?_
        refine go_iconst (pc := 58) (v := (0 : Int32)) C dX0_ahead_58 (by decide) ?_
        refine go_istore (pc := 59) C hN dX0_ahead_59 (by decide) rfl ?_
        refine go_sub [3, 4, 1, 0] rfl ?_
        exact w0_ahead_61 hN C hE hL FU ((upX s0 2 s3), (0 : Int32)) h
      · refine go_iconst (pc := 44) (v := (-1 : Int32)) C dX0_ahead_44 (by decide) ?_
        exact (hE 0 0 _ _ _ (Nat.zero_le _) (Nat.zero_le _)).1 _ rfl dX0_ahead_45 ⟨congrArg (fun z => some (Value.int z)) (some2 h).1, congrArg (fun z => (XW Γ.d A L E z)) (some2 h).2⟩
theorem w0_sinks_22 {Γ : Gam} {A : XA} {L : List Nat} {E : va_W} {v1 : Int32} {r9 : Int32} {s9 : (Nat → Bl)} (hN : Γ.nL = 3) (C : Cx Γ cX0_sinks RX0 (7, 0, 0) 163) (hE : Rets Γ cX0_sinks (some .int) 0 0 (fun v w => v = some (.int r9) ∧ w = (XW Γ.d A L E s9))) (hL : xOK L) : ∀ (n : Nat) (s : (Nat → Bl)), loop (g0_sinks_22 v1) n s = some (r9, s9) → (fun s : (Nat → Bl) => Go Γ 0 0 (XW Γ.d A L E s) 22 [(1, .int v1), (2, .ref (A.1 2 0))] []) s := by
  refine loop_walk (P := fun s : (Nat → Bl) => Go Γ 0 0 (XW Γ.d A L E s) 22 [(1, .int v1), (2, .ref (A.1 2 0))] []) ?_
  intro K22 hK22 s h
  obtain ⟨s0, rfl⟩ : ∃ z, z = s := ⟨_, rfl⟩
  dsimp only [g0_sinks_22] at h
  show Go Γ 0 0 (XW Γ.d A L E s0) 22 [(1, .int v1), (2, .ref (A.1 2 0))] []
  refine go_aload_n (pc := 22) C dX0_sinks_22 rfl 1 rfl ?_
  refine X0g_2_16 (pc := 23) C hL dX0_sinks_23 ?_
  refine go_iload_n (pc := 26) C dX0_sinks_26 rfl 0 rfl ?_
  refine go_iald (pc := 27) C (xa_2_16 hL) h dX0_sinks_27 (fun h => ?_)
  refine go_if_ne (pc := 28) (tgt := 50) C dX0_sinks_28 (by decide) h (fun h => ?_) (fun h => ?_)
  · refine go_aload_n (pc := 50) C dX0_sinks_50 rfl 1 rfl ?_
    refine X0g_2_16 (pc := 51) C hL dX0_sinks_51 ?_
    refine go_iload_n (pc := 54) C dX0_sinks_54 rfl 0 rfl ?_
    refine go_iald (pc := 55) C (xa_2_16 hL) h dX0_sinks_55 (fun h => ?_)
    refine go_iconst (pc := 56) (v := (2 : Int32)) C dX0_sinks_56 (by decide) ?_
    refine go_icmp_ne (pc := 57) (tgt := 69) C dX0_sinks_57 (by decide) h (fun h => ?_) (fun h => ?_)
    · refine go_bipush (pc := 69) (v := (-2 : Int32)) C dX0_sinks_69 (by decide) ?_
      exact (hE 0 0 _ _ _ (Nat.zero_le _) (Nat.zero_le _)).1 _ rfl dX0_sinks_71 ⟨congrArg (fun z => some (Value.int z)) (some2 h).1, congrArg (fun z => (XW Γ.d A L E z)) (some2 h).2⟩
    · refine go_aload_n (pc := 60) C dX0_sinks_60 rfl 1 rfl ?_
      refine X0g_2_17 (pc := 61) C hL dX0_sinks_61 ?_
      refine go_iload_n (pc := 64) C dX0_sinks_64 rfl 0 rfl ?_
      refine go_iald (pc := 65) C (xa_2_17 hL) h dX0_sinks_65 (fun h => ?_)
      refine go_goto (pc := 66) (tgt := 71) C dX0_sinks_66 (by decide) ?_
      exact (hE 0 0 _ _ _ (Nat.zero_le _) (Nat.zero_le _)).1 _ rfl dX0_sinks_71 ⟨congrArg (fun z => some (Value.int z)) (some2 h).1, congrArg (fun z => (XW Γ.d A L E z)) (some2 h).2⟩
  · refine go_aload_n (pc := 31) C dX0_sinks_31 rfl 1 rfl ?_
    refine X0g_2_6 (pc := 32) C hL dX0_sinks_32 ?_
    refine go_aload_n (pc := 35) C dX0_sinks_35 rfl 1 rfl ?_
    refine X0g_2_0 (pc := 36) C hL dX0_sinks_36 ?_
    refine go_icmp_ge (pc := 39) (tgt := 50) C dX0_sinks_39 (by decide) h (fun h => ?_) (fun h => ?_)
    · refine go_aload_n (pc := 50) C dX0_sinks_50 rfl 1 rfl ?_
      refine X0g_2_16 (pc := 51) C hL dX0_sinks_51 ?_
      refine go_iload_n (pc := 54) C dX0_sinks_54 rfl 0 rfl ?_
      refine go_iald (pc := 55) C (xa_2_16 hL) h dX0_sinks_55 (fun h => ?_)
      refine go_iconst (pc := 56) (v := (2 : Int32)) C dX0_sinks_56 (by decide) ?_
      refine go_icmp_ne (pc := 57) (tgt := 69) C dX0_sinks_57 (by decide) h (fun h => ?_) (fun h => ?_)
      · refine go_bipush (pc := 69) (v := (-2 : Int32)) C dX0_sinks_69 (by decide) ?_
        exact (hE 0 0 _ _ _ (Nat.zero_le _) (Nat.zero_le _)).1 _ rfl dX0_sinks_71 ⟨congrArg (fun z => some (Value.int z)) (some2 h).1, congrArg (fun z => (XW Γ.d A L E z)) (some2 h).2⟩
      · refine go_aload_n (pc := 60) C dX0_sinks_60 rfl 1 rfl ?_
        refine X0g_2_17 (pc := 61) C hL dX0_sinks_61 ?_
        refine go_iload_n (pc := 64) C dX0_sinks_64 rfl 0 rfl ?_
        refine go_iald (pc := 65) C (xa_2_17 hL) h dX0_sinks_65 (fun h => ?_)
        refine go_goto (pc := 66) (tgt := 71) C dX0_sinks_66 (by decide) ?_
        exact (hE 0 0 _ _ _ (Nat.zero_le _) (Nat.zero_le _)).1 _ rfl dX0_sinks_71 ⟨congrArg (fun z => some (Value.int z)) (some2 h).1, congrArg (fun z => (XW Γ.d A L E z)) (some2 h).2⟩
    · refine go_aload_n (pc := 42) C dX0_sinks_42 rfl 1 rfl ?_
      obtain ⟨r3, s3, e3, h⟩ := bnd2_some h
      refine go_callVi (pc := 43) C [] (Mt.x1 (hL.2 2 (by decide)) hL.1 (m1_goesOn e3)) q980 q981 q982 q139 q983 x1pd_goesOn (by decide) (by decide) (xO (hL.2 2 (by decide)) hL.1) xc2 rfl (Nat.le_of_ble_eq_true rfl) ⟨Nat.zero_le _, Nat.zero_le _⟩ dX0_sinks_43 rfl ?_
      refine go_pop (pc := 46) C dX0_sinks_46 rfl ?_
      refine go_goto (pc := 47) (tgt := 22) C dX0_sinks_47 (by decide) ?_
      exact hK22 (upX s0 2 s3) h
theorem m0_sinks {l : Launch} {d : gD} {A : XA} {L : List Nat} {E : va_W} {s0 : (Nat → Bl)} {v1 : Int32} {r9 : Int32} {s9 : (Nat → Bl)} (hL : xOK L) (h : f0_sinks s0 v1 = some (r9, s9)) : Mt l d yX0_sinks cX0_sinks 3 (some .int) (7, 0, 0) 163 (XW d A L E s0) [.ref (A.1 0 0), .int v1] (fun v w => v = some (.int r9) ∧ w = (XW d A L E s9)) := by
  refine Mt.of x0pn (Nat.le_of_ble_eq_true rfl) ?_
  intro Γ hl hd hN C hE
  subst hl; subst hd
  show Go Γ 0 0 (XW Γ.d A L E s0) 0 [(0, .ref (A.1 0 0)), (1, .int v1)] []
  dsimp only [f0_sinks] at h
  refine go_aload_n (pc := 0) C dX0_sinks_0 rfl 0 rfl ?_
  refine go_iload_n (pc := 1) C dX0_sinks_1 rfl 1 rfl ?_
  obtain ⟨r1, e1, h⟩ := bnd_some h
  refine go_callVi (pc := 2) C [.int v1] (m0_isThing hL e1) q910 q912 qs30 q138 q913 x0pd_isThing (by decide) (by decide) (xO (hL.2 0 (by decide)) hL.1) xc0 rfl (Nat.le_of_ble_eq_true rfl) ⟨Nat.zero_le _, Nat.zero_le _⟩ dX0_sinks_2 rfl ?_
  refine go_if_ne (pc := 5) (tgt := 10) C dX0_sinks_5 (by decide) h (fun h => ?_) (fun h => ?_)
  · refine go_aload_n (pc := 10) C dX0_sinks_10 rfl 0 rfl ?_
    refine X0g_0_2 (pc := 11) C hL dX0_sinks_11 ?_
    refine go_aload_n (pc := 14) C dX0_sinks_14 rfl 0 rfl ?_
    obtain ⟨hz9, h⟩ := chk_some h
    refine X0g_0_0 (pc := 15) C hL (of_decide_eq_true hz9) dX0_sinks_15 ?_
    obtain ⟨s2, e2, h⟩ := bnd_some h
    refine go_callVa (pc := 18) C [.ref (A.1 1 0)] (Mt.x2 (hL.2 2 (by decide)) (hL.2 1 (by decide)) (by decide) hL.1 (m1_copies e2)) q691 q552 q553 q139 q554 x1pd_copies (by decide) (by decide) (xO (hL.2 2 (by decide)) hL.1) xc2 rfl (Nat.le_of_ble_eq_true rfl) ⟨Nat.zero_le _, Nat.zero_le _⟩ dX0_sinks_18 rfl ?_
    refine go_astore_n (pc := 21) C hN dX0_sinks_21 rfl (by decide) rfl ?_
    refine go_sub [2, 0] rfl ?_
    exact w0_sinks_22 hN C hE hL FU (upX s0 2 s2) h
  · refine go_iconst (pc := 8) (v := (-1 : Int32)) C dX0_sinks_8 (by decide) ?_
    exact (hE 0 0 _ _ _ (Nat.zero_le _) (Nat.zero_le _)).1 _ rfl dX0_sinks_9 ⟨congrArg (fun z => some (Value.int z)) (some2 h).1, congrArg (fun z => (XW Γ.d A L E z)) (some2 h).2⟩
theorem m0_areAfloat {l : Launch} {d : gD} {A : XA} {L : List Nat} {E : va_W} {s0 : (Nat → Bl)} {v1 : Int32} {r9 : Int32} (hL : xOK L) (h : f0_areAfloat s0 v1 = some r9) : Mt l d yX0_areAfloat cX0_areAfloat 2 (some .boolean) (1, 0, 0) 22 (XW d A L E s0) [.ref (A.1 0 0), .int v1] (fun v w => v = some (.int r9) ∧ w = (XW d A L E s0)) := by
  refine Mt.of x0pn (Nat.le_of_ble_eq_true rfl) ?_
  intro Γ hl hd hN C hE
  subst hl; subst hd
  show Go Γ 0 0 (XW Γ.d A L E s0) 0 [(0, .ref (A.1 0 0)), (1, .int v1)] []
  dsimp only [f0_areAfloat] at h
  refine go_aload_n (pc := 0) C dX0_areAfloat_0 rfl 0 rfl ?_
  by_cases c4n : (s0 0).1 0 = 0
  · have h := (if_pos c4n).symm.trans h
    refine X0g_0_0N (pc := 1) C hL c4n dX0_areAfloat_1 ?_
    refine go_ifnullN (pc := 4) (tgt := 29) C dX0_areAfloat_4 (by decide) ?_
    refine go_iconst (pc := 29) (v := (0 : Int32)) C dX0_areAfloat_29 (by decide) ?_
    exact (hE 0 0 _ _ _ (Nat.zero_le _) (Nat.zero_le _)).2.1 _ rfl (Or.inl rfl) dX0_areAfloat_30 ⟨congrArg (fun z => some (Value.int z)) (some1 h), rfl⟩
  · have h := (if_neg c4n).symm.trans h
    refine X0g_0_0 (pc := 1) C hL c4n dX0_areAfloat_1 ?_
    refine go_ifnull (pc := 4) C dX0_areAfloat_4 ?_
    refine go_iload_n (pc := 7) C dX0_areAfloat_7 rfl 1 rfl ?_
    refine go_if_lt (pc := 8) (tgt := 29) C dX0_areAfloat_8 (by decide) h (fun h => ?_) (fun h => ?_)
    · refine go_iconst (pc := 29) (v := (0 : Int32)) C dX0_areAfloat_29 (by decide) ?_
      exact (hE 0 0 _ _ _ (Nat.zero_le _) (Nat.zero_le _)).2.1 _ rfl (Or.inl rfl) dX0_areAfloat_30 ⟨congrArg (fun z => some (Value.int z)) (some1 h), rfl⟩
    · refine go_iload_n (pc := 11) C dX0_areAfloat_11 rfl 1 rfl ?_
      refine go_aload_n (pc := 12) C dX0_areAfloat_12 rfl 0 rfl ?_
      obtain ⟨hz9, h⟩ := chk_some h
      refine X0g_0_0 (pc := 13) C hL (of_decide_eq_true hz9) dX0_areAfloat_13 ?_
      obtain ⟨r1, e1, h⟩ := bnd_some h
      refine go_callVi (pc := 16) C [] (Mt.x0 (hL.2 1 (by decide)) hL.1 (m1_afloat e1)) q1057 q1058 q1059 q139 q1060 x1pd_afloat (by decide) (by decide) (xO (hL.2 1 (by decide)) hL.1) xc1 rfl (Nat.le_of_ble_eq_true rfl) ⟨Nat.zero_le _, Nat.zero_le _⟩ dX0_areAfloat_16 rfl ?_
      refine go_iconst (pc := 19) (v := (-1 : Int32)) C dX0_areAfloat_19 (by decide) ?_
      refine go_ixor (pc := 20) C dX0_areAfloat_20 ?_
      refine go_iand (pc := 21) C dX0_areAfloat_21 ?_
      refine go_if_ne (pc := 22) (tgt := 29) C dX0_areAfloat_22 (by decide) h (fun h => ?_) (fun h => ?_)
      · refine go_iconst (pc := 29) (v := (0 : Int32)) C dX0_areAfloat_29 (by decide) ?_
        exact (hE 0 0 _ _ _ (Nat.zero_le _) (Nat.zero_le _)).2.1 _ rfl (Or.inl rfl) dX0_areAfloat_30 ⟨congrArg (fun z => some (Value.int z)) (some1 h), rfl⟩
      · refine go_iconst (pc := 25) (v := (1 : Int32)) C dX0_areAfloat_25 (by decide) ?_
        refine go_goto (pc := 26) (tgt := 30) C dX0_areAfloat_26 (by decide) ?_
        exact (hE 0 0 _ _ _ (Nat.zero_le _) (Nat.zero_le _)).2.1 _ rfl (Or.inr rfl) dX0_areAfloat_30 ⟨congrArg (fun z => some (Value.int z)) (some1 h), rfl⟩
theorem w0_bearers_77 {Γ : Gam} {A : XA} {L : List Nat} {E : va_W} {s0 : (Nat → Bl)} {v1 : Int32} {v2 : Int32} {v3 : Int32} {v4 : Int32} {v5 : Int32} {r9 : Int32} {K39 : Int32 × Int32 → Option Int32} (hN : Γ.nL = 6) (C : Cx Γ cX0_bearers RX0 (2, 0, 0) 44) (hE : Rets Γ cX0_bearers (some .int) 0 0 (fun v w => v = some (.int r9) ∧ w = (XW Γ.d A L E s0))) (hL : xOK L)
    (hK39 : ∀ s, K39 s = some r9 → (fun s : Int32 × Int32 => Go Γ 0 0 (XW Γ.d A L E s0) 39 [(0, .ref (A.1 0 0)), (1, .int v1), (2, .int v2), (3, .int v3), (4, .int s.1), (5, .int s.2)] []) s) (h : g0_bearers_77 s0 K39 v1 v2 v3 v4 v5 = some r9) : Go Γ 0 0 (XW Γ.d A L E s0) 77 [(0, .ref (A.1 0 0)), (1, .int v1), (2, .int v2), (3, .int v3), (4, .int v4), (5, .int v5)] [] := by
  dsimp only [g0_bearers_77] at h
  refine go_aload_n (pc := 77) C dX0_bearers_77 rfl 0 rfl ?_
  obtain ⟨hz9, h⟩ := chk_some h
  refine X0g_0_0 (pc := 78) C hL (of_decide_eq_true hz9) dX0_bearers_78 ?_
  refine go_iload_n (pc := 81) C dX0_bearers_81 rfl 1 rfl ?_
  refine go_iload (pc := 82) C dX0_bearers_82 5 rfl ?_
  refine go_ior (pc := 84) C dX0_bearers_84 ?_
  obtain ⟨r5, e5, h⟩ := bnd_some h
  refine go_callVi (pc := 85) C [.int (v1 ||| v5)] (Mt.x0 (hL.2 1 (by decide)) hL.1 (m1_bearsOf e5)) q1117 q951 q952 q139 q953 x1pd_bearsOf (by decide) (by decide) (xO (hL.2 1 (by decide)) hL.1) xc1 rfl (Nat.le_of_ble_eq_true rfl) ⟨Nat.zero_le _, Nat.zero_le _⟩ dX0_bearers_85 rfl ?_
  refine go_if_lt (pc := 88) (tgt := 95) C dX0_bearers_88 (by decide) h (fun h => ?_) (fun h => ?_)
  · refine go_iinc (pc := 95) (v := (v5 + (1 : Int32))) C hN dX0_bearers_95 (q := 5) rfl rfl (by decide) rfl ?_
    refine go_goto (pc := 98) (tgt := 39) C dX0_bearers_98 (by decide) ?_
    refine go_sub [1, 2, 3, 4, 5, 0] rfl ?_
    exact hK39 (v4, (v5 + (1 : Int32))) h
  · refine go_iload (pc := 91) C dX0_bearers_91 5 rfl ?_
    refine go_istore (pc := 93) C hN dX0_bearers_93 (by decide) rfl ?_
    refine go_iinc (pc := 95) (v := (v5 + (1 : Int32))) C hN dX0_bearers_95 (q := 5) rfl rfl (by decide) rfl ?_
    refine go_goto (pc := 98) (tgt := 39) C dX0_bearers_98 (by decide) ?_
    refine go_sub [2, 3, 4, 5, 1, 0] rfl ?_
    exact hK39 (v5, (v5 + (1 : Int32))) h
theorem w0_bearers_39 {Γ : Gam} {A : XA} {L : List Nat} {E : va_W} {s0 : (Nat → Bl)} {v1 : Int32} {v2 : Int32} {v3 : Int32} {r9 : Int32} (hN : Γ.nL = 6) (C : Cx Γ cX0_bearers RX0 (2, 0, 0) 44) (hE : Rets Γ cX0_bearers (some .int) 0 0 (fun v w => v = some (.int r9) ∧ w = (XW Γ.d A L E s0))) (hL : xOK L) : ∀ (n : Nat) (s : Int32 × Int32), loop (g0_bearers_39 s0 v1 v2 v3) n s = some r9 → (fun s : Int32 × Int32 => Go Γ 0 0 (XW Γ.d A L E s0) 39 [(0, .ref (A.1 0 0)), (1, .int v1), (2, .int v2), (3, .int v3), (4, .int s.1), (5, .int s.2)] []) s := by
  refine loop_walk (P := fun s : Int32 × Int32 => Go Γ 0 0 (XW Γ.d A L E s0) 39 [(0, .ref (A.1 0 0)), (1, .int v1), (2, .int v2), (3, .int v3), (4, .int s.1), (5, .int s.2)] []) ?_
  intro K39 hK39 s h
  obtain ⟨v4, v5⟩ := s
  dsimp only [g0_bearers_39] at h
  show Go Γ 0 0 (XW Γ.d A L E s0) 39 [(0, .ref (A.1 0 0)), (1, .int v1), (2, .int v2), (3, .int v3), (4, .int v4), (5, .int v5)] []
  refine go_iload (pc := 39) C dX0_bearers_39 5 rfl ?_
  refine go_iload_n (pc := 41) C dX0_bearers_41 rfl 3 rfl ?_
  refine go_icmp_gt (pc := 42) (tgt := 101) C dX0_bearers_42 (by decide) h (fun h => ?_) (fun h => ?_)
  · refine go_iload (pc := 101) C dX0_bearers_101 4 rfl ?_
    refine go_bipush (pc := 103) (v := (-2 : Int32)) C dX0_bearers_103 (by decide) ?_
    refine go_icmp_eq (pc := 105) (tgt := 113) C dX0_bearers_105 (by decide) h (fun h => ?_) (fun h => ?_)
    · refine go_iload (pc := 113) C dX0_bearers_113 4 rfl ?_
      refine go_goto (pc := 115) (tgt := 123) C dX0_bearers_115 (by decide) ?_
      exact (hE 0 0 _ _ _ (Nat.zero_le _) (Nat.zero_le _)).1 _ rfl dX0_bearers_123 ⟨congrArg (fun z => some (Value.int z)) (some1 h), rfl⟩
    · refine go_iload_n (pc := 108) C dX0_bearers_108 rfl 2 rfl ?_
      refine go_iconst (pc := 109) (v := (1 : Int32)) C dX0_bearers_109 (by decide) ?_
      refine go_icmp_ne (pc := 110) (tgt := 118) C dX0_bearers_110 (by decide) h (fun h => ?_) (fun h => ?_)
      · refine go_iload (pc := 118) C dX0_bearers_118 4 rfl ?_
        obtain ⟨r4, e4, h⟩ := bnd_some h
        refine go_callSi (pc := 120) C [.int v4] (mJ8_bitCount e4) q1030 q901 q162 q902 j8pd_bitCount (by decide) (by decide) rfl (Nat.le_of_ble_eq_true rfl) ⟨Nat.zero_le _, Nat.zero_le _⟩ dX0_bearers_120 rfl ?_
        exact (hE 0 0 _ _ _ (Nat.zero_le _) (Nat.zero_le _)).1 _ rfl dX0_bearers_123 ⟨congrArg (fun z => some (Value.int z)) (some1 h), rfl⟩
      · refine go_iload (pc := 113) C dX0_bearers_113 4 rfl ?_
        refine go_goto (pc := 115) (tgt := 123) C dX0_bearers_115 (by decide) ?_
        exact (hE 0 0 _ _ _ (Nat.zero_le _) (Nat.zero_le _)).1 _ rfl dX0_bearers_123 ⟨congrArg (fun z => some (Value.int z)) (some1 h), rfl⟩
  · refine go_iload (pc := 45) C dX0_bearers_45 5 rfl ?_
    refine go_iload_n (pc := 47) C dX0_bearers_47 rfl 3 rfl ?_
    refine go_iconst (pc := 48) (v := (-1 : Int32)) C dX0_bearers_48 (by decide) ?_
    refine go_ixor (pc := 49) C dX0_bearers_49 ?_
    refine go_iand (pc := 50) C dX0_bearers_50 ?_
    refine go_if_ne (pc := 51) (tgt := 95) C dX0_bearers_51 (by decide) h (fun h => ?_) (fun h => ?_)
    · refine go_iinc (pc := 95) (v := (v5 + (1 : Int32))) C hN dX0_bearers_95 (q := 5) rfl rfl (by decide) rfl ?_
      refine go_goto (pc := 98) (tgt := 39) C dX0_bearers_98 (by decide) ?_
      refine go_sub [1, 2, 3, 4, 5, 0] rfl ?_
      exact hK39 (v4, (v5 + (1 : Int32))) h
    · refine go_iload (pc := 54) C dX0_bearers_54 4 rfl ?_
      refine go_bipush (pc := 56) (v := (-2 : Int32)) C dX0_bearers_56 (by decide) ?_
      refine go_icmp_eq (pc := 58) (tgt := 77) C dX0_bearers_58 (by decide) h (fun h => ?_) (fun h => ?_)
      · exact w0_bearers_77 hN C hE hL hK39 h
      · refine go_iload (pc := 61) C dX0_bearers_61 5 rfl ?_
        obtain ⟨r6, e6, h⟩ := bnd_some h
        refine go_callSi (pc := 63) C [.int v5] (mJ8_bitCount e6) q1030 q901 q162 q902 j8pd_bitCount (by decide) (by decide) rfl (Nat.le_of_ble_eq_true rfl) ⟨Nat.zero_le _, Nat.zero_le _⟩ dX0_bearers_63 rfl ?_
        refine go_iload (pc := 66) C dX0_bearers_66 4 rfl ?_
        obtain ⟨r7, e7, h⟩ := bnd_some h
        refine go_callSi (pc := 68) C [.int v4] (mJ8_bitCount e7) q1030 q901 q162 q902 j8pd_bitCount (by decide) (by decide) rfl (Nat.le_of_ble_eq_true rfl) ⟨Nat.zero_le _, Nat.zero_le _⟩ dX0_bearers_68 rfl ?_
        refine go_icmp_lt (pc := 71) (tgt := 77) C dX0_bearers_71 (by decide) h (fun h => ?_) (fun h => ?_)
        · exact w0_bearers_77 hN C hE hL hK39 h
        · refine go_goto (pc := 74) (tgt := 95) C dX0_bearers_74 (by decide) ?_
          refine go_iinc (pc := 95) (v := (v5 + (1 : Int32))) C hN dX0_bearers_95 (q := 5) rfl rfl (by decide) rfl ?_
          refine go_goto (pc := 98) (tgt := 39) C dX0_bearers_98 (by decide) ?_
          refine go_sub [1, 2, 3, 4, 5, 0] rfl ?_
          exact hK39 (v4, (v5 + (1 : Int32))) h
theorem m0_bearers {l : Launch} {d : gD} {A : XA} {L : List Nat} {E : va_W} {s0 : (Nat → Bl)} {v1 : Int32} {v2 : Int32} {r9 : Int32} (hL : xOK L) (h : f0_bearers s0 v1 v2 = some r9) : Mt l d yX0_bearers cX0_bearers 6 (some .int) (2, 0, 0) 44 (XW d A L E s0) [.ref (A.1 0 0), .int v1, .int v2] (fun v w => v = some (.int r9) ∧ w = (XW d A L E s0)) := by
  refine Mt.of x0pn (Nat.le_of_ble_eq_true rfl) ?_
  intro Γ hl hd hN C hE
  subst hl; subst hd
  show Go Γ 0 0 (XW Γ.d A L E s0) 0 [(0, .ref (A.1 0 0)), (1, .int v1), (2, .int v2)] []
  dsimp only [f0_bearers] at h
  refine go_aload_n (pc := 0) C dX0_bearers_0 rfl 0 rfl ?_
  refine go_iload_n (pc := 1) C dX0_bearers_1 rfl 1 rfl ?_
  obtain ⟨r1, e1, h⟩ := bnd_some h
  refine go_callVi (pc := 2) C [.int v1] (m0_areAfloat hL e1) q1113 q1115 qs41 q138 q1116 x0pd_areAfloat (by decide) (by decide) (xO (hL.2 0 (by decide)) hL.1) xc0 rfl (Nat.le_of_ble_eq_true rfl) ⟨Nat.zero_le _, Nat.zero_le _⟩ dX0_bearers_2 rfl ?_
  refine go_if_eq (pc := 5) (tgt := 18) C dX0_bearers_5 (by decide) h (fun h => ?_) (fun h => ?_)
  · refine go_iconst (pc := 18) (v := (-1 : Int32)) C dX0_bearers_18 (by decide) ?_
    exact (hE 0 0 _ _ _ (Nat.zero_le _) (Nat.zero_le _)).1 _ rfl dX0_bearers_19 ⟨congrArg (fun z => some (Value.int z)) (some1 h), rfl⟩
  · refine go_iload_n (pc := 8) C dX0_bearers_8 rfl 2 rfl ?_
    refine go_i2l (pc := 9) C dX0_bearers_9 ?_
    refine go_lconst (pc := 10) (v := (0 : Int64)) C dX0_bearers_10 (by decide) ?_
    refine go_lconst (pc := 11) (v := (1 : Int64)) C dX0_bearers_11 (by decide) ?_
    obtain ⟨r2, e2, h⟩ := bnd_some h
    refine go_callSi (pc := 12) C [.long (v2).toInt64, .long (0 : Int64), .long (1 : Int64)] (m0_in e2) q939 q647 q138 q648 x0pd_in (by decide) (by decide) rfl (Nat.le_of_ble_eq_true rfl) ⟨Nat.zero_le _, Nat.zero_le _⟩ dX0_bearers_12 rfl ?_
    refine go_if_ne (pc := 15) (tgt := 20) C dX0_bearers_15 (by decide) h (fun h => ?_) (fun h => ?_)
    · refine go_aload_n (pc := 20) C dX0_bearers_20 rfl 0 rfl ?_
      obtain ⟨hz9, h⟩ := chk_some h
      refine X0g_0_0 (pc := 21) C hL (of_decide_eq_true hz9) dX0_bearers_21 ?_
      obtain ⟨r3, e3, h⟩ := bnd_some h
      refine go_callVi (pc := 24) C [] (Mt.x0 (hL.2 1 (by decide)) hL.1 (m1_afloat e3)) q1057 q1058 q1059 q139 q1060 x1pd_afloat (by decide) (by decide) (xO (hL.2 1 (by decide)) hL.1) xc1 rfl (Nat.le_of_ble_eq_true rfl) ⟨Nat.zero_le _, Nat.zero_le _⟩ dX0_bearers_24 rfl ?_
      refine go_iload_n (pc := 27) C dX0_bearers_27 rfl 1 rfl ?_
      refine go_iconst (pc := 28) (v := (-1 : Int32)) C dX0_bearers_28 (by decide) ?_
      refine go_ixor (pc := 29) C dX0_bearers_29 ?_
      refine go_iand (pc := 30) C dX0_bearers_30 ?_
      refine go_istore_n (pc := 31) C hN dX0_bearers_31 rfl (by decide) rfl ?_
      refine go_bipush (pc := 32) (v := (-2 : Int32)) C dX0_bearers_32 (by decide) ?_
      refine go_istore (pc := 34) C hN dX0_bearers_34 (by decide) rfl ?_
      refine go_iconst (pc := 36) (v := (0 : Int32)) C dX0_bearers_36 (by decide) ?_
      refine go_istore (pc := 37) C hN dX0_bearers_37 (by decide) rfl ?_
      refine go_sub [3, 4, 5, 2, 1, 0] rfl ?_
      exact w0_bearers_39 hN C hE hL FU ((-2 : Int32), (0 : Int32)) h
    · refine go_iconst (pc := 18) (v := (-1 : Int32)) C dX0_bearers_18 (by decide) ?_
      exact (hE 0 0 _ _ _ (Nat.zero_le _) (Nat.zero_le _)).1 _ rfl dX0_bearers_19 ⟨congrArg (fun z => some (Value.int z)) (some1 h), rfl⟩
theorem w0_bearsThen_5 {Γ : Gam} {A : XA} {L : List Nat} {E : va_W} {s0 : (Nat → Bl)} {v1 : Int32} {v2 : Int32} {r9 : Int32} (hN : Γ.nL = 5) (C : Cx Γ cX0_bearsThen RX0 (1, 0, 0) 26) (hE : Rets Γ cX0_bearsThen (some .int) 0 0 (fun v w => v = some (.int r9) ∧ w = (XW Γ.d A L E s0))) (hL : xOK L) : ∀ (n : Nat) (s : Int32 × Int32), loop (g0_bearsThen_5 s0 v1 v2) n s = some r9 → (fun s : Int32 × Int32 => Go Γ 0 0 (XW Γ.d A L E s0) 5 [(0, .ref (A.1 0 0)), (1, .int v1), (2, .int v2), (3, .int s.1), (4, .int s.2)] []) s := by
  refine loop_walk (P := fun s : Int32 × Int32 => Go Γ 0 0 (XW Γ.d A L E s0) 5 [(0, .ref (A.1 0 0)), (1, .int v1), (2, .int v2), (3, .int s.1), (4, .int s.2)] []) ?_
  intro K5 hK5 s h
  obtain ⟨v3, v4⟩ := s
  dsimp only [g0_bearsThen_5] at h
  show Go Γ 0 0 (XW Γ.d A L E s0) 5 [(0, .ref (A.1 0 0)), (1, .int v1), (2, .int v2), (3, .int v3), (4, .int v4)] []
  refine go_iload (pc := 5) C dX0_bearsThen_5 4 rfl ?_
  refine go_aload_n (pc := 7) C dX0_bearsThen_7 rfl 0 rfl ?_
  obtain ⟨hz9, h⟩ := chk_some h
  refine X0g_0_0 (pc := 8) C hL (of_decide_eq_true hz9) dX0_bearsThen_8 ?_
  refine X0g_1_2 (pc := 11) C hL dX0_bearsThen_11 ?_
  refine go_icmp_ge (pc := 14) (tgt := 77) C dX0_bearsThen_14 (by decide) h (fun h => ?_) (fun h => ?_)
  · refine go_iload_n (pc := 77) C dX0_bearsThen_77 rfl 3 rfl ?_
    exact (hE 0 0 _ _ _ (Nat.zero_le _) (Nat.zero_le _)).1 _ rfl dX0_bearsThen_78 ⟨congrArg (fun z => some (Value.int z)) (some1 h), rfl⟩
  · refine go_iload_n (pc := 17) C dX0_bearsThen_17 rfl 3 rfl ?_
    refine go_iload_n (pc := 18) C dX0_bearsThen_18 rfl 1 rfl ?_
    refine go_iload (pc := 19) C dX0_bearsThen_19 4 rfl ?_
    obtain ⟨r1, e1, h⟩ := bnd_some h
    refine go_callSi (pc := 21) C [.int v1, .int v4] (m0_has e1) q1051 q890 q138 q891 x0pd_has (by decide) (by decide) rfl (Nat.le_of_ble_eq_true rfl) ⟨Nat.zero_le _, Nat.zero_le _⟩ dX0_bearsThen_21 rfl ?_
    refine go_if_eq (pc := 24) (tgt := 68) C dX0_bearsThen_24 (by decide) h (fun h => ?_) (fun h => ?_)
    · refine go_iconst (pc := 68) (v := (0 : Int32)) C dX0_bearsThen_68 (by decide) ?_
      refine go_iadd (pc := 69) C dX0_bearsThen_69 ?_
      refine go_istore_n (pc := 70) C hN dX0_bearsThen_70 rfl (by decide) rfl ?_
      refine go_iinc (pc := 71) (v := (v4 + (1 : Int32))) C hN dX0_bearsThen_71 (q := 4) rfl rfl (by decide) rfl ?_
      refine go_goto (pc := 74) (tgt := 5) C dX0_bearsThen_74 (by decide) ?_
      refine go_sub [2, 3, 4, 1, 0] rfl ?_
      exact hK5 ((v3 + (0 : Int32)), (v4 + (1 : Int32))) h
    · refine go_iconst (pc := 27) (v := (0 : Int32)) C dX0_bearsThen_27 (by decide) ?_
      refine go_aload_n (pc := 28) C dX0_bearsThen_28 rfl 0 rfl ?_
      obtain ⟨hz9, h⟩ := chk_some h
      refine X0g_0_0 (pc := 29) C hL (of_decide_eq_true hz9) dX0_bearsThen_29 ?_
      refine X0g_1_14 (pc := 32) C hL dX0_bearsThen_32 ?_
      refine go_iload (pc := 35) C dX0_bearsThen_35 4 rfl ?_
      refine go_iald (pc := 37) C (xa_1_14 hL) h dX0_bearsThen_37 (fun h => ?_)
      refine go_iload_n (pc := 38) C dX0_bearsThen_38 rfl 2 rfl ?_
      refine go_aload_n (pc := 39) C dX0_bearsThen_39 rfl 0 rfl ?_
      obtain ⟨hz9, h⟩ := chk_some h
      refine X0g_0_0 (pc := 40) C hL (of_decide_eq_true hz9) dX0_bearsThen_40 ?_
      refine X0g_1_15 (pc := 43) C hL dX0_bearsThen_43 ?_
      refine go_iload (pc := 46) C dX0_bearsThen_46 4 rfl ?_
      refine go_iald (pc := 48) C (xa_1_15 hL) h dX0_bearsThen_48 (fun h => ?_)
      refine go_imul (pc := 49) C dX0_bearsThen_49 ?_
      refine go_isub (pc := 50) C dX0_bearsThen_50 ?_
      refine go_mmax (pc := 51) C q1132 (by decide) (Nat.le_of_ble_eq_true rfl) ⟨Nat.zero_le _, Nat.zero_le _⟩ dX0_bearsThen_51 ?_
      refine go_aload_n (pc := 54) C dX0_bearsThen_54 rfl 0 rfl ?_
      obtain ⟨hz9, h⟩ := chk_some h
      refine X0g_0_0 (pc := 55) C hL (of_decide_eq_true hz9) dX0_bearsThen_55 ?_
      refine X0g_1_13 (pc := 58) C hL dX0_bearsThen_58 ?_
      refine go_iload (pc := 61) C dX0_bearsThen_61 4 rfl ?_
      refine go_iald (pc := 63) C (xa_1_13 hL) h dX0_bearsThen_63 (fun h => ?_)
      refine go_isub (pc := 64) C dX0_bearsThen_64 ?_
      refine go_goto (pc := 65) (tgt := 69) C dX0_bearsThen_65 (by decide) ?_
      refine go_iadd (pc := 69) C dX0_bearsThen_69 ?_
      refine go_topi (pc := 70) (fun y2 ey2 => ?_)
      have h := ltv_eq ey2 h
      refine go_istore_n (pc := 70) C hN dX0_bearsThen_70 rfl (by decide) rfl ?_
      refine go_iinc (pc := 71) (v := (v4 + (1 : Int32))) C hN dX0_bearsThen_71 (q := 4) rfl rfl (by decide) rfl ?_
      refine go_goto (pc := 74) (tgt := 5) C dX0_bearsThen_74 (by decide) ?_
      refine go_sub [2, 3, 4, 1, 0] rfl ?_
      exact hK5 (y2, (v4 + (1 : Int32))) h
theorem m0_bearsThen {l : Launch} {d : gD} {A : XA} {L : List Nat} {E : va_W} {s0 : (Nat → Bl)} {v1 : Int32} {v2 : Int32} {r9 : Int32} (hL : xOK L) (h : f0_bearsThen s0 v1 v2 = some r9) : Mt l d yX0_bearsThen cX0_bearsThen 5 (some .int) (1, 0, 0) 26 (XW d A L E s0) [.ref (A.1 0 0), .int v1, .int v2] (fun v w => v = some (.int r9) ∧ w = (XW d A L E s0)) := by
  refine Mt.of x0pn (Nat.le_of_ble_eq_true rfl) ?_
  intro Γ hl hd hN C hE
  subst hl; subst hd
  show Go Γ 0 0 (XW Γ.d A L E s0) 0 [(0, .ref (A.1 0 0)), (1, .int v1), (2, .int v2)] []
  dsimp only [f0_bearsThen] at h
  refine go_iconst (pc := 0) (v := (0 : Int32)) C dX0_bearsThen_0 (by decide) ?_
  refine go_istore_n (pc := 1) C hN dX0_bearsThen_1 rfl (by decide) rfl ?_
  refine go_iconst (pc := 2) (v := (0 : Int32)) C dX0_bearsThen_2 (by decide) ?_
  refine go_istore (pc := 3) C hN dX0_bearsThen_3 (by decide) rfl ?_
  refine go_sub [2, 3, 4, 1, 0] rfl ?_
  exact w0_bearsThen_5 hN C hE hL FU ((0 : Int32), (0 : Int32)) h
theorem w0_gathersTogether_188 {Γ : Gam} {A : XA} {L : List Nat} {E : va_W} {v1 : Int32} {s0 : (Nat → Bl)} {v3 : Int32} {v5 : Int32} {z0 : Int32} {z1 : Int32} {r9 : Int32} {s9 : (Nat → Bl)} {K22 : (Nat → Bl) × Int32 × Int32 → Option (Int32 × (Nat → Bl))} (hN : Γ.nL = 9) (C : Cx Γ cX0_gathersTogether RX0 (2, 0, 0) 50) (hE : Rets Γ cX0_gathersTogether (some .boolean) 0 0 (fun v w => v = some (.int r9) ∧ w = (XW Γ.d A L E s9))) (hL : xOK L)
    (hK22 : ∀ s, K22 s = some (r9, s9) → (fun s : (Nat → Bl) × Int32 × Int32 => Go Γ 0 0 (XW Γ.d A L E s.1) 22 [(0, .ref (A.1 0 0)), (1, .int v1), (2, .int s.2.1), (3, .int s.2.2)] []) s) (h : g0_gathersTogether_188 K22 s0 v1 v3 v5 z0 z1 = some (r9, s9)) : Go Γ 0 0 (XW Γ.d A L E s0) 188 [(0, .ref (A.1 0 0)), (1, .int v1), (3, .int v3), (5, .int v5)] [.int z0, .int z1] := by
  dsimp only [g0_gathersTogether_188] at h
  refine go_iand (pc := 188) C dX0_gathersTogether_188 ?_
  refine go_istore_n (pc := 189) C hN dX0_gathersTogether_189 rfl (by decide) rfl ?_
  refine go_aload_n (pc := 190) C dX0_gathersTogether_190 rfl 1 rfl ?_
  refine X0g_0_17 (pc := 191) C hL dX0_gathersTogether_191 ?_
  refine go_aload_n (pc := 194) C dX0_gathersTogether_194 rfl 1 rfl ?_
  refine X0g_0_18 (pc := 195) C hL dX0_gathersTogether_195 ?_
  refine go_iload (pc := 198) C dX0_gathersTogether_198 4 rfl ?_
  refine go_iast (pc := 200) C (xpa_0_17 hL) h dX0_gathersTogether_200 (fun h => ?_)
  refine go_aload_n (pc := 201) C dX0_gathersTogether_201 rfl 1 rfl ?_
  refine go_dup (pc := 202) C dX0_gathersTogether_202 rfl ?_
  refine X0g_0_18 (pc := 203) C hL dX0_gathersTogether_203 ?_
  refine go_iconst (pc := 206) (v := (1 : Int32)) C dX0_gathersTogether_206 (by decide) ?_
  refine go_iadd (pc := 207) C dX0_gathersTogether_207 ?_
  refine X0p_0_18 (pc := 208) C hL dX0_gathersTogether_208 ?_
  refine go_nm (pc := 211) (fun z9 => (XW Γ.d A L E z9)) (fun s3 es3 => ?_)
  have h := ltv_eq es3 h
  refine go_iinc (pc := 211) (v := (v3 + (1 : Int32))) C hN dX0_gathersTogether_211 (q := 3) rfl rfl (by decide) rfl ?_
  refine go_goto (pc := 214) (tgt := 22) C dX0_gathersTogether_214 (by decide) ?_
  refine go_sub [2, 3, 1, 0] rfl ?_
  exact hK22 (s3, (z1 &&& z0), (v3 + (1 : Int32))) h
theorem w0_gathersTogether_126 {Γ : Gam} {A : XA} {L : List Nat} {E : va_W} {v1 : Int32} {s0 : (Nat → Bl)} {v2 : Int32} {v3 : Int32} {v4 : Int32} {v5 : Int32} {v7 : Int32} {v8 : Int32} {z0 : Int32} {z1 : Int32} {r9 : Int32} {s9 : (Nat → Bl)} {K22 : (Nat → Bl) × Int32 × Int32 → Option (Int32 × (Nat → Bl))} {K68 : Int32 × Int32 × Int32 → Option (Int32 × (Nat → Bl))} (hN : Γ.nL = 9) (C : Cx Γ cX0_gathersTogether RX0 (2, 0, 0) 50) (hE : Rets Γ cX0_gathersTogether (some .boolean) 0 0 (fun v w => v = some (.int r9) ∧ w = (XW Γ.d A L E s9))) (hL : xOK L)
    (hK22 : ∀ s, K22 s = some (r9, s9) → (fun s : (Nat → Bl) × Int32 × Int32 => Go Γ 0 0 (XW Γ.d A L E s.1) 22 [(0, .ref (A.1 0 0)), (1, .int v1), (2, .int s.2.1), (3, .int s.2.2)] []) s)
    (hK68 : ∀ s, K68 s = some (r9, s9) → (fun s : Int32 × Int32 × Int32 => Go Γ 0 0 (XW Γ.d A L E s0) 68 [(0, .ref (A.1 0 0)), (1, .int v1), (2, .int v2), (3, .int v3), (4, .int v4), (5, .int s.1), (6, .int s.2.1), (7, .int s.2.2)] []) s) (h : g0_gathersTogether_126 K22 K68 s0 v1 v2 v3 v4 v5 v7 v8 z0 z1 = some (r9, s9)) : Go Γ 0 0 (XW Γ.d A L E s0) 126 [(0, .ref (A.1 0 0)), (1, .int v1), (2, .int v2), (3, .int v3), (4, .int v4), (5, .int v5), (7, .int v7), (8, .int v8)] [.int z0, .int z1] := by
  dsimp only [g0_gathersTogether_126] at h
  refine go_ior (pc := 126) C dX0_gathersTogether_126 ?_
  refine go_istore (pc := 127) C hN dX0_gathersTogether_127 (by decide) rfl ?_
  refine go_iload (pc := 129) C dX0_gathersTogether_129 6 rfl ?_
  refine go_iload (pc := 131) C dX0_gathersTogether_131 8 rfl ?_
  refine go_iload (pc := 133) C dX0_gathersTogether_133 5 rfl ?_
  refine go_icmp_le (pc := 135) (tgt := 145) C dX0_gathersTogether_135 (by decide) h (fun h => ?_) (fun h => ?_)
  · refine go_iconst (pc := 145) (v := (0 : Int32)) C dX0_gathersTogether_145 (by decide) ?_
    refine go_ior (pc := 146) C dX0_gathersTogether_146 ?_
    refine go_istore (pc := 147) C hN dX0_gathersTogether_147 (by decide) rfl ?_
    refine go_iinc (pc := 149) (v := (v7 + (1 : Int32))) C hN dX0_gathersTogether_149 (q := 7) rfl rfl (by decide) rfl ?_
    refine go_goto (pc := 152) (tgt := 68) C dX0_gathersTogether_152 (by decide) ?_
    refine go_sub [3, 4, 5, 6, 7, 1, 2, 0] rfl ?_
    exact hK68 ((v5 ||| (0 : Int32)), (z1 ||| z0), (v7 + (1 : Int32))) h
  · refine go_iconst (pc := 138) (v := (1 : Int32)) C dX0_gathersTogether_138 (by decide) ?_
    refine go_iload (pc := 139) C dX0_gathersTogether_139 7 rfl ?_
    refine go_ishl (pc := 141) C dX0_gathersTogether_141 ?_
    refine go_goto (pc := 142) (tgt := 146) C dX0_gathersTogether_142 (by decide) ?_
    refine go_ior (pc := 146) C dX0_gathersTogether_146 ?_
    refine go_istore (pc := 147) C hN dX0_gathersTogether_147 (by decide) rfl ?_
    refine go_iinc (pc := 149) (v := (v7 + (1 : Int32))) C hN dX0_gathersTogether_149 (q := 7) rfl rfl (by decide) rfl ?_
    refine go_goto (pc := 152) (tgt := 68) C dX0_gathersTogether_152 (by decide) ?_
    refine go_sub [3, 4, 5, 6, 7, 1, 2, 0] rfl ?_
    exact hK68 ((v5 ||| ((1 : Int32) <<< (v7 &&& 31))), (z1 ||| z0), (v7 + (1 : Int32))) h
theorem w0_gathersTogether_68 {Γ : Gam} {A : XA} {L : List Nat} {E : va_W} {s0 : (Nat → Bl)} {v1 : Int32} {v2 : Int32} {v3 : Int32} {v4 : Int32} {r9 : Int32} {s9 : (Nat → Bl)} {K22 : (Nat → Bl) × Int32 × Int32 → Option (Int32 × (Nat → Bl))} (hN : Γ.nL = 9) (C : Cx Γ cX0_gathersTogether RX0 (2, 0, 0) 50) (hE : Rets Γ cX0_gathersTogether (some .boolean) 0 0 (fun v w => v = some (.int r9) ∧ w = (XW Γ.d A L E s9))) (hL : xOK L)
    (hK22 : ∀ s, K22 s = some (r9, s9) → (fun s : (Nat → Bl) × Int32 × Int32 => Go Γ 0 0 (XW Γ.d A L E s.1) 22 [(0, .ref (A.1 0 0)), (1, .int v1), (2, .int s.2.1), (3, .int s.2.2)] []) s) : ∀ (n : Nat) (s : Int32 × Int32 × Int32), loop (g0_gathersTogether_68 s0 v1 v2 v3 v4 K22) n s = some (r9, s9) → (fun s : Int32 × Int32 × Int32 => Go Γ 0 0 (XW Γ.d A L E s0) 68 [(0, .ref (A.1 0 0)), (1, .int v1), (2, .int v2), (3, .int v3), (4, .int v4), (5, .int s.1), (6, .int s.2.1), (7, .int s.2.2)] []) s := by
  refine loop_walk (P := fun s : Int32 × Int32 × Int32 => Go Γ 0 0 (XW Γ.d A L E s0) 68 [(0, .ref (A.1 0 0)), (1, .int v1), (2, .int v2), (3, .int v3), (4, .int v4), (5, .int s.1), (6, .int s.2.1), (7, .int s.2.2)] []) ?_
  intro K68 hK68 s h
  obtain ⟨v5, v6, v7⟩ := s
  dsimp only [g0_gathersTogether_68] at h
  show Go Γ 0 0 (XW Γ.d A L E s0) 68 [(0, .ref (A.1 0 0)), (1, .int v1), (2, .int v2), (3, .int v3), (4, .int v4), (5, .int v5), (6, .int v6), (7, .int v7)] []
  refine go_iload (pc := 68) C dX0_gathersTogether_68 7 rfl ?_
  refine go_aload_n (pc := 70) C dX0_gathersTogether_70 rfl 0 rfl ?_
  obtain ⟨hz9, h⟩ := chk_some h
  refine X0g_0_0 (pc := 71) C hL (of_decide_eq_true hz9) dX0_gathersTogether_71 ?_
  refine X0g_1_2 (pc := 74) C hL dX0_gathersTogether_74 ?_
  refine go_icmp_ge (pc := 77) (tgt := 155) C dX0_gathersTogether_77 (by decide) h (fun h => ?_) (fun h => ?_)
  · refine go_iload (pc := 155) C dX0_gathersTogether_155 6 rfl ?_
    refine go_if_ne (pc := 157) (tgt := 163) C dX0_gathersTogether_157 (by decide) h (fun h => ?_) (fun h => ?_)
    · refine go_iload_n (pc := 163) C dX0_gathersTogether_163 rfl 2 rfl ?_
      refine go_aload_n (pc := 164) C dX0_gathersTogether_164 rfl 0 rfl ?_
      refine go_iload (pc := 165) C dX0_gathersTogether_165 5 rfl ?_
      refine go_iload (pc := 167) C dX0_gathersTogether_167 4 rfl ?_
      refine go_aload_n (pc := 169) C dX0_gathersTogether_169 rfl 0 rfl ?_
      obtain ⟨hz9, h⟩ := chk_some h
      refine X0g_0_0 (pc := 170) C hL (of_decide_eq_true hz9) dX0_gathersTogether_170 ?_
      refine X0g_1_6 (pc := 173) C hL dX0_gathersTogether_173 ?_
      refine go_isub (pc := 176) C dX0_gathersTogether_176 ?_
      obtain ⟨r2, e2, h⟩ := bnd_some h
      refine go_callVi (pc := 177) C [.int v5, .int (v4 - ((s0 1).1 6))] (m0_bearsThen hL e2) q1128 q1130 qs43 q138 q1131 x0pd_bearsThen (by decide) (by decide) (xO (hL.2 0 (by decide)) hL.1) xc0 rfl (Nat.le_of_ble_eq_true rfl) ⟨Nat.zero_le _, Nat.zero_le _⟩ dX0_gathersTogether_177 rfl ?_
      refine go_if_lt (pc := 180) (tgt := 187) C dX0_gathersTogether_180 (by decide) h (fun h => ?_) (fun h => ?_)
      · refine go_iconst (pc := 187) (v := (0 : Int32)) C dX0_gathersTogether_187 (by decide) ?_
        refine go_sub [0, 1, 3, 5] rfl ?_
        exact w0_gathersTogether_188 hN C hE hL hK22 h
      · refine go_iconst (pc := 183) (v := (1 : Int32)) C dX0_gathersTogether_183 (by decide) ?_
        refine go_goto (pc := 184) (tgt := 188) C dX0_gathersTogether_184 (by decide) ?_
        refine go_sub [0, 1, 3, 5] rfl ?_
        exact w0_gathersTogether_188 hN C hE hL hK22 h
    · refine go_goto (pc := 160) (tgt := 211) C dX0_gathersTogether_160 (by decide) ?_
      refine go_iinc (pc := 211) (v := (v3 + (1 : Int32))) C hN dX0_gathersTogether_211 (q := 3) rfl rfl (by decide) rfl ?_
      refine go_goto (pc := 214) (tgt := 22) C dX0_gathersTogether_214 (by decide) ?_
      refine go_sub [1, 2, 3, 0] rfl ?_
      exact hK22 (s0, v2, (v3 + (1 : Int32))) h
  · refine go_iload_n (pc := 80) C dX0_gathersTogether_80 rfl 1 rfl ?_
    refine go_iload (pc := 81) C dX0_gathersTogether_81 7 rfl ?_
    obtain ⟨r4, e4, h⟩ := bnd_some h
    refine go_callSi (pc := 83) C [.int v1, .int v7] (m0_has e4) q1051 q890 q138 q891 x0pd_has (by decide) (by decide) rfl (Nat.le_of_ble_eq_true rfl) ⟨Nat.zero_le _, Nat.zero_le _⟩ dX0_gathersTogether_83 rfl ?_
    refine go_if_ne (pc := 86) (tgt := 92) C dX0_gathersTogether_86 (by decide) h (fun h => ?_) (fun h => ?_)
    · refine go_aload_n (pc := 92) C dX0_gathersTogether_92 rfl 0 rfl ?_
      obtain ⟨hz9, h⟩ := chk_some h
      refine X0g_0_0 (pc := 93) C hL (of_decide_eq_true hz9) dX0_gathersTogether_93 ?_
      refine X0g_1_9 (pc := 96) C hL dX0_gathersTogether_96 ?_
      refine go_aload_n (pc := 99) C dX0_gathersTogether_99 rfl 0 rfl ?_
      obtain ⟨hz9, h⟩ := chk_some h
      refine X0g_0_0 (pc := 100) C hL (of_decide_eq_true hz9) dX0_gathersTogether_100 ?_
      refine X0g_1_12 (pc := 103) C hL dX0_gathersTogether_103 ?_
      refine go_iload (pc := 106) C dX0_gathersTogether_106 7 rfl ?_
      refine go_iald (pc := 108) C (xa_1_12 hL) h dX0_gathersTogether_108 (fun h => ?_)
      refine go_iald (pc := 109) C (xa_1_9 hL) h dX0_gathersTogether_109 (fun h => ?_)
      refine go_istore (pc := 110) C hN dX0_gathersTogether_110 (by decide) rfl ?_
      refine go_iload (pc := 112) C dX0_gathersTogether_112 7 rfl ?_
      refine go_iload (pc := 114) C dX0_gathersTogether_114 0 rfl ?_
      refine go_iload (pc := 116) C dX0_gathersTogether_116 5 rfl ?_
      refine go_icmp_ne (pc := 118) (tgt := 125) C dX0_gathersTogether_118 (by decide) h (fun h => ?_) (fun h => ?_)
      · refine go_iconst (pc := 125) (v := (0 : Int32)) C dX0_gathersTogether_125 (by decide) ?_
        refine go_sub [1, 2, 3, 4, 5, 6, 8, 0] rfl ?_
        exact w0_gathersTogether_126 hN C hE hL hK22 hK68 h
      · refine go_iconst (pc := 121) (v := (1 : Int32)) C dX0_gathersTogether_121 (by decide) ?_
        refine go_goto (pc := 122) (tgt := 126) C dX0_gathersTogether_122 (by decide) ?_
        refine go_sub [1, 2, 3, 4, 5, 6, 8, 0] rfl ?_
        exact w0_gathersTogether_126 hN C hE hL hK22 hK68 h
    · refine go_goto (pc := 89) (tgt := 149) C dX0_gathersTogether_89 (by decide) ?_
      refine go_iinc (pc := 149) (v := (v7 + (1 : Int32))) C hN dX0_gathersTogether_149 (q := 7) rfl rfl (by decide) rfl ?_
      refine go_goto (pc := 152) (tgt := 68) C dX0_gathersTogether_152 (by decide) ?_
      refine go_sub [1, 2, 3, 4, 5, 6, 7, 0] rfl ?_
      exact hK68 (v5, v6, (v7 + (1 : Int32))) h
theorem w0_gathersTogether_22 {Γ : Gam} {A : XA} {L : List Nat} {E : va_W} {v1 : Int32} {r9 : Int32} {s9 : (Nat → Bl)} (hN : Γ.nL = 9) (C : Cx Γ cX0_gathersTogether RX0 (2, 0, 0) 50) (hE : Rets Γ cX0_gathersTogether (some .boolean) 0 0 (fun v w => v = some (.int r9) ∧ w = (XW Γ.d A L E s9))) (hL : xOK L) : ∀ (n : Nat) (s : (Nat → Bl) × Int32 × Int32), loop (g0_gathersTogether_22 v1) n s = some (r9, s9) → (fun s : (Nat → Bl) × Int32 × Int32 => Go Γ 0 0 (XW Γ.d A L E s.1) 22 [(0, .ref (A.1 0 0)), (1, .int v1), (2, .int s.2.1), (3, .int s.2.2)] []) s := by
  refine loop_walk (P := fun s : (Nat → Bl) × Int32 × Int32 => Go Γ 0 0 (XW Γ.d A L E s.1) 22 [(0, .ref (A.1 0 0)), (1, .int v1), (2, .int s.2.1), (3, .int s.2.2)] []) ?_
  intro K22 hK22 s h
  obtain ⟨s0, v2, v3⟩ := s
  dsimp only [g0_gathersTogether_22] at h
  show Go Γ 0 0 (XW Γ.d A L E s0) 22 [(0, .ref (A.1 0 0)), (1, .int v1), (2, .int v2), (3, .int v3)] []
  refine go_iload_n (pc := 22) C dX0_gathersTogether_22 rfl 3 rfl ?_
  refine go_aload_n (pc := 23) C dX0_gathersTogether_23 rfl 0 rfl ?_
  obtain ⟨hz9, h⟩ := chk_some h
  refine X0g_0_0 (pc := 24) C hL (of_decide_eq_true hz9) dX0_gathersTogether_24 ?_
  refine X0g_1_1 (pc := 27) C hL dX0_gathersTogether_27 ?_
  refine go_icmp_ge (pc := 30) (tgt := 217) C dX0_gathersTogether_30 (by decide) h (fun h => ?_) (fun h => ?_)
  · refine go_iload_n (pc := 217) C dX0_gathersTogether_217 rfl 2 rfl ?_
    obtain ⟨hz, h⟩ := chk_some h
    exact (hE 0 0 _ _ _ (Nat.zero_le _) (Nat.zero_le _)).2.1 _ rfl (isB_or hz) dX0_gathersTogether_218 ⟨congrArg (fun z => some (Value.int z)) (some2 h).1, congrArg (fun z => (XW Γ.d A L E z)) (some2 h).2⟩
  · refine go_aload_n (pc := 33) C dX0_gathersTogether_33 rfl 0 rfl ?_
    obtain ⟨hz9, h⟩ := chk_some h
    refine X0g_0_0 (pc := 34) C hL (of_decide_eq_true hz9) dX0_gathersTogether_34 ?_
    refine X0g_1_9 (pc := 37) C hL dX0_gathersTogether_37 ?_
    refine go_iload_n (pc := 40) C dX0_gathersTogether_40 rfl 3 rfl ?_
    refine go_iald (pc := 41) C (xa_1_9 hL) h dX0_gathersTogether_41 (fun h => ?_)
    refine go_istore (pc := 42) C hN dX0_gathersTogether_42 (by decide) rfl ?_
    refine go_iload (pc := 44) C dX0_gathersTogether_44 0 rfl ?_
    refine go_aload_n (pc := 46) C dX0_gathersTogether_46 rfl 1 rfl ?_
    obtain ⟨hz9, h⟩ := chk_some h
    refine X0g_0_0 (pc := 47) C hL (of_decide_eq_true hz9) dX0_gathersTogether_47 ?_
    refine X0g_1_6 (pc := 50) C hL dX0_gathersTogether_50 ?_
    refine go_icmp_gt (pc := 53) (tgt := 59) C dX0_gathersTogether_53 (by decide) h (fun h => ?_) (fun h => ?_)
    · refine go_iconst (pc := 59) (v := (0 : Int32)) C dX0_gathersTogether_59 (by decide) ?_
      refine go_istore (pc := 60) C hN dX0_gathersTogether_60 (by decide) rfl ?_
      refine go_iconst (pc := 62) (v := (0 : Int32)) C dX0_gathersTogether_62 (by decide) ?_
      refine go_istore (pc := 63) C hN dX0_gathersTogether_63 (by decide) rfl ?_
      refine go_iconst (pc := 65) (v := (0 : Int32)) C dX0_gathersTogether_65 (by decide) ?_
      refine go_istore (pc := 66) C hN dX0_gathersTogether_66 (by decide) rfl ?_
      refine go_sub [4, 5, 6, 7, 3, 2, 1, 0] rfl ?_
      exact w0_gathersTogether_68 hN C hE hL hK22 FU ((0 : Int32), (0 : Int32), (0 : Int32)) h
    · refine go_goto (pc := 56) (tgt := 211) C dX0_gathersTogether_56 (by decide) ?_
      refine go_iinc (pc := 211) (v := (v3 + (1 : Int32))) C hN dX0_gathersTogether_211 (q := 4) rfl rfl (by decide) rfl ?_
      refine go_goto (pc := 214) (tgt := 22) C dX0_gathersTogether_214 (by decide) ?_
      refine go_sub [2, 3, 4, 0] rfl ?_
      exact hK22 (s0, v2, (v3 + (1 : Int32))) h
theorem m0_gathersTogether {l : Launch} {d : gD} {A : XA} {L : List Nat} {E : va_W} {s0 : (Nat → Bl)} {v1 : Int32} {r9 : Int32} {s9 : (Nat → Bl)} (hL : xOK L) (h : f0_gathersTogether s0 v1 = some (r9, s9)) : Mt l d yX0_gathersTogether cX0_gathersTogether 9 (some .boolean) (2, 0, 0) 50 (XW d A L E s0) [.ref (A.1 0 0), .int v1] (fun v w => v = some (.int r9) ∧ w = (XW d A L E s9)) := by
  refine Mt.of x0pn (Nat.le_of_ble_eq_true rfl) ?_
  intro Γ hl hd hN C hE
  subst hl; subst hd
  show Go Γ 0 0 (XW Γ.d A L E s0) 0 [(0, .ref (A.1 0 0)), (1, .int v1)] []
  dsimp only [f0_gathersTogether] at h
  refine go_aload_n (pc := 0) C dX0_gathersTogether_0 rfl 0 rfl ?_
  refine go_iconst (pc := 1) (v := (0 : Int32)) C dX0_gathersTogether_1 (by decide) ?_
  refine X0p_0_18 (pc := 2) C hL dX0_gathersTogether_2 ?_
  refine go_aload_n (pc := 5) C dX0_gathersTogether_5 rfl 0 rfl ?_
  refine go_iload_n (pc := 6) C dX0_gathersTogether_6 rfl 1 rfl ?_
  refine go_iconst (pc := 7) (v := (0 : Int32)) C dX0_gathersTogether_7 (by decide) ?_
  obtain ⟨r1, e1, h⟩ := bnd_some h
  refine go_callVi (pc := 8) C [.int v1, .int (0 : Int32)] (m0_bearsThen hL e1) q1128 q1130 qs43 q138 q1131 x0pd_bearsThen (by decide) (by decide) (xO (hL.2 0 (by decide)) hL.1) xc0 rfl (Nat.le_of_ble_eq_true rfl) ⟨Nat.zero_le _, Nat.zero_le _⟩ dX0_gathersTogether_8 rfl ?_
  refine go_if_lt (pc := 11) (tgt := 18) C dX0_gathersTogether_11 (by decide) h (fun h => ?_) (fun h => ?_)
  · refine go_iconst (pc := 18) (v := (0 : Int32)) C dX0_gathersTogether_18 (by decide) ?_
    refine go_istore_n (pc := 19) C hN dX0_gathersTogether_19 rfl (by decide) rfl ?_
    refine go_iconst (pc := 20) (v := (0 : Int32)) C dX0_gathersTogether_20 (by decide) ?_
    refine go_istore_n (pc := 21) C hN dX0_gathersTogether_21 rfl (by decide) rfl ?_
    refine go_sub [2, 3, 1, 0] rfl ?_
    exact w0_gathersTogether_22 hN C hE hL FU ((upX s0 0 (bI (s0 0) 18 (0 : Int32))), (0 : Int32), (0 : Int32)) h
  · refine go_iconst (pc := 14) (v := (1 : Int32)) C dX0_gathersTogether_14 (by decide) ?_
    refine go_goto (pc := 15) (tgt := 19) C dX0_gathersTogether_15 (by decide) ?_
    refine go_istore_n (pc := 19) C hN dX0_gathersTogether_19 rfl (by decide) rfl ?_
    refine go_iconst (pc := 20) (v := (0 : Int32)) C dX0_gathersTogether_20 (by decide) ?_
    refine go_istore_n (pc := 21) C hN dX0_gathersTogether_21 rfl (by decide) rfl ?_
    refine go_sub [2, 3, 1, 0] rfl ?_
    exact w0_gathersTogether_22 hN C hE hL FU ((upX s0 0 (bI (s0 0) 18 (0 : Int32))), (1 : Int32), (0 : Int32)) h
theorem w0_standTogether_7 {Γ : Gam} {A : XA} {L : List Nat} {E : va_W} {s0 : (Nat → Bl)} {v1 : Int32} {r9 : Int32} (hN : Γ.nL = 5) (C : Cx Γ cX0_standTogether RX0 (1, 0, 0) 21) (hE : Rets Γ cX0_standTogether (some .boolean) 0 0 (fun v w => v = some (.int r9) ∧ w = (XW Γ.d A L E s0))) (hL : xOK L) : ∀ (n : Nat) (s : Int32 × Int32 × Int32), loop (g0_standTogether_7 s0 v1) n s = some r9 → (fun s : Int32 × Int32 × Int32 => Go Γ 0 0 (XW Γ.d A L E s0) 7 [(0, .ref (A.1 0 0)), (1, .int v1), (2, .int s.1), (3, .int s.2.1), (4, .int s.2.2)] []) s := by
  refine loop_walk (P := fun s : Int32 × Int32 × Int32 => Go Γ 0 0 (XW Γ.d A L E s0) 7 [(0, .ref (A.1 0 0)), (1, .int v1), (2, .int s.1), (3, .int s.2.1), (4, .int s.2.2)] []) ?_
  intro K7 hK7 s h
  obtain ⟨v2, v3, v4⟩ := s
  dsimp only [g0_standTogether_7] at h
  show Go Γ 0 0 (XW Γ.d A L E s0) 7 [(0, .ref (A.1 0 0)), (1, .int v1), (2, .int v2), (3, .int v3), (4, .int v4)] []
  refine go_iload (pc := 7) C dX0_standTogether_7 4 rfl ?_
  refine go_aload_n (pc := 9) C dX0_standTogether_9 rfl 0 rfl ?_
  refine X0g_0_19 (pc := 10) C hL dX0_standTogether_10 ?_
  refine go_icmp_ge (pc := 13) (tgt := 50) C dX0_standTogether_13 (by decide) h (fun h => ?_) (fun h => ?_)
  · refine go_iload_n (pc := 50) C dX0_standTogether_50 rfl 2 rfl ?_
    refine go_iconst (pc := 51) (v := (-1 : Int32)) C dX0_standTogether_51 (by decide) ?_
    refine go_icmp_eq (pc := 52) (tgt := 67) C dX0_standTogether_52 (by decide) h (fun h => ?_) (fun h => ?_)
    · refine go_iconst (pc := 67) (v := (1 : Int32)) C dX0_standTogether_67 (by decide) ?_
      refine go_goto (pc := 68) (tgt := 72) C dX0_standTogether_68 (by decide) ?_
      exact (hE 0 0 _ _ _ (Nat.zero_le _) (Nat.zero_le _)).2.1 _ rfl (Or.inr rfl) dX0_standTogether_72 ⟨congrArg (fun z => some (Value.int z)) (some1 h), rfl⟩
    · refine go_iload_n (pc := 55) C dX0_standTogether_55 rfl 3 rfl ?_
      refine go_iload_n (pc := 56) C dX0_standTogether_56 rfl 2 rfl ?_
      refine go_isub (pc := 57) C dX0_standTogether_57 ?_
      refine go_iconst (pc := 58) (v := (1 : Int32)) C dX0_standTogether_58 (by decide) ?_
      refine go_iadd (pc := 59) C dX0_standTogether_59 ?_
      refine go_iload_n (pc := 60) C dX0_standTogether_60 rfl 1 rfl ?_
      obtain ⟨r1, e1, h⟩ := bnd_some h
      refine go_callSi (pc := 61) C [.int v1] (mJ8_bitCount e1) q1030 q901 q162 q902 j8pd_bitCount (by decide) (by decide) rfl (Nat.le_of_ble_eq_true rfl) ⟨Nat.zero_le _, Nat.zero_le _⟩ dX0_standTogether_61 rfl ?_
      refine go_icmp_ne (pc := 64) (tgt := 71) C dX0_standTogether_64 (by decide) h (fun h => ?_) (fun h => ?_)
      · refine go_iconst (pc := 71) (v := (0 : Int32)) C dX0_standTogether_71 (by decide) ?_
        exact (hE 0 0 _ _ _ (Nat.zero_le _) (Nat.zero_le _)).2.1 _ rfl (Or.inl rfl) dX0_standTogether_72 ⟨congrArg (fun z => some (Value.int z)) (some1 h), rfl⟩
      · refine go_iconst (pc := 67) (v := (1 : Int32)) C dX0_standTogether_67 (by decide) ?_
        refine go_goto (pc := 68) (tgt := 72) C dX0_standTogether_68 (by decide) ?_
        exact (hE 0 0 _ _ _ (Nat.zero_le _) (Nat.zero_le _)).2.1 _ rfl (Or.inr rfl) dX0_standTogether_72 ⟨congrArg (fun z => some (Value.int z)) (some1 h), rfl⟩
  · refine go_iload_n (pc := 16) C dX0_standTogether_16 rfl 1 rfl ?_
    refine go_aload_n (pc := 17) C dX0_standTogether_17 rfl 0 rfl ?_
    refine X0g_0_15 (pc := 18) C hL dX0_standTogether_18 ?_
    refine go_iload (pc := 21) C dX0_standTogether_21 4 rfl ?_
    refine go_iald (pc := 23) C (xa_0_15 hL) h dX0_standTogether_23 (fun h => ?_)
    obtain ⟨r2, e2, h⟩ := bnd_some h
    refine go_callSi (pc := 24) C [.int v1, .int ((s0 0).2.1 15 (v4).toNatClampNeg)] (m0_has e2) q1051 q890 q138 q891 x0pd_has (by decide) (by decide) rfl (Nat.le_of_ble_eq_true rfl) ⟨Nat.zero_le _, Nat.zero_le _⟩ dX0_standTogether_24 rfl ?_
    refine go_if_ne (pc := 27) (tgt := 33) C dX0_standTogether_27 (by decide) h (fun h => ?_) (fun h => ?_)
    · refine go_iload_n (pc := 33) C dX0_standTogether_33 rfl 2 rfl ?_
      refine go_iconst (pc := 34) (v := (-1 : Int32)) C dX0_standTogether_34 (by decide) ?_
      refine go_icmp_ne (pc := 35) (tgt := 41) C dX0_standTogether_35 (by decide) h (fun h => ?_) (fun h => ?_)
      · refine go_iload (pc := 41) C dX0_standTogether_41 4 rfl ?_
        refine go_istore_n (pc := 43) C hN dX0_standTogether_43 rfl (by decide) rfl ?_
        refine go_iinc (pc := 44) (v := (v4 + (1 : Int32))) C hN dX0_standTogether_44 (q := 4) rfl rfl (by decide) rfl ?_
        refine go_goto (pc := 47) (tgt := 7) C dX0_standTogether_47 (by decide) ?_
        refine go_sub [2, 3, 4, 1, 0] rfl ?_
        exact hK7 (v2, v4, (v4 + (1 : Int32))) h
      · refine go_iload (pc := 38) C dX0_standTogether_38 4 rfl ?_
        refine go_istore_n (pc := 40) C hN dX0_standTogether_40 rfl (by decide) rfl ?_
        refine go_iload (pc := 41) C dX0_standTogether_41 4 rfl ?_
        refine go_istore_n (pc := 43) C hN dX0_standTogether_43 rfl (by decide) rfl ?_
        refine go_iinc (pc := 44) (v := (v4 + (1 : Int32))) C hN dX0_standTogether_44 (q := 4) rfl rfl (by decide) rfl ?_
        refine go_goto (pc := 47) (tgt := 7) C dX0_standTogether_47 (by decide) ?_
        refine go_sub [3, 4, 2, 1, 0] rfl ?_
        exact hK7 (v4, v4, (v4 + (1 : Int32))) h
    · refine go_goto (pc := 30) (tgt := 44) C dX0_standTogether_30 (by decide) ?_
      refine go_iinc (pc := 44) (v := (v4 + (1 : Int32))) C hN dX0_standTogether_44 (q := 4) rfl rfl (by decide) rfl ?_
      refine go_goto (pc := 47) (tgt := 7) C dX0_standTogether_47 (by decide) ?_
      refine go_sub [1, 2, 3, 4, 0] rfl ?_
      exact hK7 (v2, v3, (v4 + (1 : Int32))) h
theorem m0_standTogether {l : Launch} {d : gD} {A : XA} {L : List Nat} {E : va_W} {s0 : (Nat → Bl)} {v1 : Int32} {r9 : Int32} (hL : xOK L) (h : f0_standTogether s0 v1 = some r9) : Mt l d yX0_standTogether cX0_standTogether 5 (some .boolean) (1, 0, 0) 21 (XW d A L E s0) [.ref (A.1 0 0), .int v1] (fun v w => v = some (.int r9) ∧ w = (XW d A L E s0)) := by
  refine Mt.of x0pn (Nat.le_of_ble_eq_true rfl) ?_
  intro Γ hl hd hN C hE
  subst hl; subst hd
  show Go Γ 0 0 (XW Γ.d A L E s0) 0 [(0, .ref (A.1 0 0)), (1, .int v1)] []
  dsimp only [f0_standTogether] at h
  refine go_iconst (pc := 0) (v := (-1 : Int32)) C dX0_standTogether_0 (by decide) ?_
  refine go_istore_n (pc := 1) C hN dX0_standTogether_1 rfl (by decide) rfl ?_
  refine go_iconst (pc := 2) (v := (-1 : Int32)) C dX0_standTogether_2 (by decide) ?_
  refine go_istore_n (pc := 3) C hN dX0_standTogether_3 rfl (by decide) rfl ?_
  refine go_iconst (pc := 4) (v := (0 : Int32)) C dX0_standTogether_4 (by decide) ?_
  refine go_istore (pc := 5) C hN dX0_standTogether_5 (by decide) rfl ?_
  refine go_sub [3, 4, 2, 1, 0] rfl ?_
  exact w0_standTogether_7 hN C hE hL FU ((-1 : Int32), (-1 : Int32), (0 : Int32)) h
theorem w0_triesRows_69 {Γ : Gam} {A : XA} {L : List Nat} {E : va_W} {fr0 lo0 fr1 lo1 : Nat} {rec : (Nat → Bl) → Int32 → Int32 → Option (Nat → Bl)} {v1 : Int32} {v2 : Int32} {s9 : (Nat → Bl)} (hN : Γ.nL = 4) (C : Cx Γ cX0_triesRows RX0 (fr0, 0, 0) lo0) (hE : Rets Γ cX0_triesRows none 0 0 (fun v w => v = none ∧ w = (XW Γ.d A L E s9))) (hL : xOK L) (hf1 : fr1 + 1 ≤ fr0) (hl1 : 8 + (4 + 11) + lo1 ≤ lo0) (hf2 : 2 ≤ fr0) (hl2 : 45 ≤ lo0) (hrec : ∀ {s0 : (Nat → Bl)} {v1 : Int32} {v2 : Int32} {s9 : (Nat → Bl)}, rec s0 v1 v2 = some s9 → Mt Γ.l Γ.d yX0_triesRows cX0_triesRows 4 none (fr1, 0, 0) lo1 (XW Γ.d A L E s0) [.ref (A.1 0 0), .int v1, .int v2] (fun v w => v = none ∧ w = (XW Γ.d A L E s9))) : ∀ (n : Nat) (s : (Nat → Bl) × Int32), loop (g0_triesRows_69 rec v1 v2) n s = some s9 → (fun s : (Nat → Bl) × Int32 => Go Γ 0 0 (XW Γ.d A L E s.1) 69 [(0, .ref (A.1 0 0)), (1, .int v1), (2, .int v2), (3, .int s.2)] []) s := by
  refine loop_walk (P := fun s : (Nat → Bl) × Int32 => Go Γ 0 0 (XW Γ.d A L E s.1) 69 [(0, .ref (A.1 0 0)), (1, .int v1), (2, .int v2), (3, .int s.2)] []) ?_
  intro K69 hK69 s h
  obtain ⟨s0, v3⟩ := s
  dsimp only [g0_triesRows_69] at h
  show Go Γ 0 0 (XW Γ.d A L E s0) 69 [(0, .ref (A.1 0 0)), (1, .int v1), (2, .int v2), (3, .int v3)] []
  refine go_iload_n (pc := 69) C dX0_triesRows_69 rfl 3 rfl ?_
  refine go_aload_n (pc := 70) C dX0_triesRows_70 rfl 0 rfl ?_
  obtain ⟨hz9, h⟩ := chk_some h
  refine X0g_0_0 (pc := 71) C hL (of_decide_eq_true hz9) dX0_triesRows_71 ?_
  refine X0g_1_2 (pc := 74) C hL dX0_triesRows_74 ?_
  refine go_icmp_ge (pc := 77) (tgt := 118) C dX0_triesRows_77 (by decide) h (fun h => ?_) (fun h => ?_)
  · exact (hE 0 0 _ _ _ (Nat.zero_le _) (Nat.zero_le _)).2.2.2.1 rfl dX0_triesRows_118 ⟨rfl, congrArg (fun z => (XW Γ.d A L E z)) (some1 h)⟩
  · refine go_iload_n (pc := 80) C dX0_triesRows_80 rfl 2 rfl ?_
    refine go_iload_n (pc := 81) C dX0_triesRows_81 rfl 3 rfl ?_
    obtain ⟨r1, e1, h⟩ := bnd_some h
    refine go_callSi (pc := 82) C [.int v2, .int v3] (m0_has e1) q1051 q890 q138 q891 x0pd_has (Nat.le_trans (by decide) hf2) (Nat.le_trans (by decide) hl2) rfl (Nat.le_of_ble_eq_true rfl) ⟨Nat.zero_le _, Nat.zero_le _⟩ dX0_triesRows_82 rfl ?_
    refine go_if_ne (pc := 85) (tgt := 91) C dX0_triesRows_85 (by decide) h (fun h => ?_) (fun h => ?_)
    · refine go_aload_n (pc := 91) C dX0_triesRows_91 rfl 0 rfl ?_
      refine X0g_0_15 (pc := 92) C hL dX0_triesRows_92 ?_
      refine go_iload_n (pc := 95) C dX0_triesRows_95 rfl 1 rfl ?_
      refine go_iload_n (pc := 96) C dX0_triesRows_96 rfl 3 rfl ?_
      refine go_iast (pc := 97) C (xpa_0_15 hL) h dX0_triesRows_97 (fun h => ?_)
      refine go_aload_n (pc := 98) C dX0_triesRows_98 rfl 0 rfl ?_
      refine go_iload_n (pc := 99) C dX0_triesRows_99 rfl 1 rfl ?_
      refine go_iconst (pc := 100) (v := (1 : Int32)) C dX0_triesRows_100 (by decide) ?_
      refine go_iadd (pc := 101) C dX0_triesRows_101 ?_
      refine go_iload_n (pc := 102) C dX0_triesRows_102 rfl 2 rfl ?_
      refine go_iconst (pc := 103) (v := (1 : Int32)) C dX0_triesRows_103 (by decide) ?_
      refine go_iload_n (pc := 104) C dX0_triesRows_104 rfl 3 rfl ?_
      refine go_ishl (pc := 105) C dX0_triesRows_105 ?_
      refine go_iconst (pc := 106) (v := (-1 : Int32)) C dX0_triesRows_106 (by decide) ?_
      refine go_ixor (pc := 107) C dX0_triesRows_107 ?_
      refine go_iand (pc := 108) C dX0_triesRows_108 ?_
      obtain ⟨s2, e2, h⟩ := bnd_some h
      refine go_callVv (pc := 109) C [.int (v1 + (1 : Int32)), .int (v2 &&& (((1 : Int32) <<< (v3 &&& 31)) ^^^ (-1 : Int32)))] (hrec e2) q1133 q1135 qs44 q138 q1136 x0pd_triesRows hf1 hl1 (xO (hL.2 0 (by decide)) hL.1) xc0 rfl (Nat.le_of_ble_eq_true rfl) ⟨Nat.zero_le _, Nat.zero_le _⟩ dX0_triesRows_109 rfl ?_
      refine go_iinc (pc := 112) (v := (v3 + (1 : Int32))) C hN dX0_triesRows_112 (q := 3) rfl rfl (by decide) rfl ?_
      refine go_goto (pc := 115) (tgt := 69) C dX0_triesRows_115 (by decide) ?_
      refine go_sub [1, 2, 3, 0] rfl ?_
      exact hK69 (s2, (v3 + (1 : Int32))) h
    · refine go_goto (pc := 88) (tgt := 112) C dX0_triesRows_88 (by decide) ?_
      refine go_iinc (pc := 112) (v := (v3 + (1 : Int32))) C hN dX0_triesRows_112 (q := 3) rfl rfl (by decide) rfl ?_
      refine go_goto (pc := 115) (tgt := 69) C dX0_triesRows_115 (by decide) ?_
      refine go_sub [1, 2, 3, 0] rfl ?_
      exact hK69 (s0, (v3 + (1 : Int32))) h
theorem w0_triesRows_6 {Γ : Gam} {A : XA} {L : List Nat} {E : va_W} {fr0 lo0 fr1 lo1 : Nat} {s0 : (Nat → Bl)} {rec : (Nat → Bl) → Int32 → Int32 → Option (Nat → Bl)} {s9 : (Nat → Bl)} (hN : Γ.nL = 4) (C : Cx Γ cX0_triesRows RX0 (fr0, 0, 0) lo0) (hE : Rets Γ cX0_triesRows none 0 0 (fun v w => v = none ∧ w = (XW Γ.d A L E s9))) (hL : xOK L) (hf1 : fr1 + 1 ≤ fr0) (hl1 : 8 + (4 + 11) + lo1 ≤ lo0) (hf2 : 2 ≤ fr0) (hl2 : 45 ≤ lo0) (hrec : ∀ {s0 : (Nat → Bl)} {v1 : Int32} {v2 : Int32} {s9 : (Nat → Bl)}, rec s0 v1 v2 = some s9 → Mt Γ.l Γ.d yX0_triesRows cX0_triesRows 4 none (fr1, 0, 0) lo1 (XW Γ.d A L E s0) [.ref (A.1 0 0), .int v1, .int v2] (fun v w => v = none ∧ w = (XW Γ.d A L E s9))) : ∀ (n : Nat) (s : Int32), loop (g0_triesRows_6 s0 rec) n s = some s9 → (fun s : Int32 => Go Γ 0 0 (XW Γ.d A L E s0) 6 [(0, .ref (A.1 0 0)), (3, .int s)] []) s := by
  refine loop_walk (P := fun s : Int32 => Go Γ 0 0 (XW Γ.d A L E s0) 6 [(0, .ref (A.1 0 0)), (3, .int s)] []) ?_
  intro K6 hK6 s h
  obtain ⟨v3, rfl⟩ : ∃ z, z = s := ⟨_, rfl⟩
  dsimp only [g0_triesRows_6] at h
  show Go Γ 0 0 (XW Γ.d A L E s0) 6 [(0, .ref (A.1 0 0)), (3, .int v3)] []
  refine go_iload_n (pc := 6) C dX0_triesRows_6 rfl 1 rfl ?_
  refine go_aload_n (pc := 7) C dX0_triesRows_7 rfl 0 rfl ?_
  refine X0g_0_18 (pc := 8) C hL dX0_triesRows_8 ?_
  refine go_icmp_ge (pc := 11) (tgt := 34) C dX0_triesRows_11 (by decide) h (fun h => ?_) (fun h => ?_)
  · refine go_aload_n (pc := 34) C dX0_triesRows_34 rfl 0 rfl ?_
    refine X0g_0_20 (pc := 35) C hL dX0_triesRows_35 ?_
    refine go_if_ne (pc := 38) (tgt := 56) C dX0_triesRows_38 (by decide) h (fun h => ?_) (fun h => ?_)
    · refine go_aload_n (pc := 56) C dX0_triesRows_56 rfl 0 rfl ?_
      refine go_dup (pc := 57) C dX0_triesRows_57 rfl ?_
      refine X0g_0_20 (pc := 58) C hL dX0_triesRows_58 ?_
      refine go_iconst (pc := 61) (v := (1 : Int32)) C dX0_triesRows_61 (by decide) ?_
      refine go_iadd (pc := 62) C dX0_triesRows_62 ?_
      refine X0p_0_20 (pc := 63) C hL dX0_triesRows_63 ?_
      exact (hE 0 0 _ _ _ (Nat.zero_le _) (Nat.zero_le _)).2.2.2.1 rfl dX0_triesRows_66 ⟨rfl, congrArg (fun z => (XW Γ.d A L E z)) (some1 h)⟩
    · refine go_aload_n (pc := 41) C dX0_triesRows_41 rfl 0 rfl ?_
      refine X0g_0_15 (pc := 42) C hL dX0_triesRows_42 ?_
      refine go_iconst (pc := 45) (v := (0 : Int32)) C dX0_triesRows_45 (by decide) ?_
      refine go_aload_n (pc := 46) C dX0_triesRows_46 rfl 0 rfl ?_
      refine X0g_0_16 (pc := 47) C hL dX0_triesRows_47 ?_
      refine go_iconst (pc := 50) (v := (0 : Int32)) C dX0_triesRows_50 (by decide) ?_
      refine go_bipush (pc := 51) (v := (7 : Int32)) C dX0_triesRows_51 (by decide) ?_
      refine go_copy (pc := 53) (sp' := 0) (dp' := 0) (m' := 7) C (xa_0_15 hL) (xps_0_16 hL) (by decide) (by decide) (by decide) (by decide) q975 (Nat.le_trans (by decide) hf2) (Nat.le_trans (Nat.le_of_ble_eq_true rfl) hl2) dX0_triesRows_53 ?_
      refine go_aload_n (pc := 56) C dX0_triesRows_56 rfl 0 rfl ?_
      refine go_dup (pc := 57) C dX0_triesRows_57 rfl ?_
      refine X0g_0_20 (pc := 58) C hL dX0_triesRows_58 ?_
      refine go_iconst (pc := 61) (v := (1 : Int32)) C dX0_triesRows_61 (by decide) ?_
      refine go_iadd (pc := 62) C dX0_triesRows_62 ?_
      refine X0p_0_20 (pc := 63) C hL dX0_triesRows_63 ?_
      refine go_nm (pc := 66) (fun z9 => (XW Γ.d A L E z9)) (fun s3 es3 => ?_)
      have h := ltv_eq es3 h
      exact (hE 0 0 _ _ _ (Nat.zero_le _) (Nat.zero_le _)).2.2.2.1 rfl dX0_triesRows_66 ⟨rfl, congrArg (fun z => (XW Γ.d A L E z)) (some1 h)⟩
  · refine go_aload_n (pc := 14) C dX0_triesRows_14 rfl 0 rfl ?_
    refine go_aload_n (pc := 15) C dX0_triesRows_15 rfl 0 rfl ?_
    refine X0g_0_17 (pc := 16) C hL dX0_triesRows_16 ?_
    refine go_iload_n (pc := 19) C dX0_triesRows_19 rfl 1 rfl ?_
    refine go_iald (pc := 20) C (xa_0_17 hL) h dX0_triesRows_20 (fun h => ?_)
    obtain ⟨r4, e4, h⟩ := bnd_some h
    refine go_callVi (pc := 21) C [.int ((s0 0).2.1 17 (v3).toNatClampNeg)] (m0_standTogether hL e4) q1137 q1139 qs45 q138 q1140 x0pd_standTogether (Nat.le_trans (by decide) hf2) (Nat.le_trans (by decide) hl2) (xO (hL.2 0 (by decide)) hL.1) xc0 rfl (Nat.le_of_ble_eq_true rfl) ⟨Nat.zero_le _, Nat.zero_le _⟩ dX0_triesRows_21 rfl ?_
    refine go_if_ne (pc := 24) (tgt := 28) C dX0_triesRows_24 (by decide) h (fun h => ?_) (fun h => ?_)
    · refine go_iinc (pc := 28) (v := (v3 + (1 : Int32))) C hN dX0_triesRows_28 (q := 1) rfl rfl (by decide) rfl ?_
      refine go_goto (pc := 31) (tgt := 6) C dX0_triesRows_31 (by decide) ?_
      refine go_sub [1, 0] rfl ?_
      exact hK6 (v3 + (1 : Int32)) h
    · exact (hE 0 0 _ _ _ (Nat.zero_le _) (Nat.zero_le _)).2.2.2.1 rfl dX0_triesRows_27 ⟨rfl, congrArg (fun z => (XW Γ.d A L E z)) (some1 h)⟩
theorem m0_triesRows {l : Launch} {d : gD} {A : XA} {L : List Nat} {E : va_W} (hL : xOK L) : ∀ (n : Nat) {s0 : (Nat → Bl)} {v1 : Int32} {v2 : Int32} {s9 : (Nat → Bl)} (h : f0_triesRows n s0 v1 v2 = some s9), Mt l d yX0_triesRows cX0_triesRows 4 none (2 + n, 0, 0) (45 + n * 23) (XW d A L E s0) [.ref (A.1 0 0), .int v1, .int v2] (fun v w => v = none ∧ w = (XW d A L E s9)) := by
  intro n
  induction n with
  | zero => intros; rename_i h; cases h
  | succ n ih =>
    intro s0 v1 v2 s9 h
    have hf2 : 2 ≤ 2 + (n + 1) := by omega
    have hl2 : 45 ≤ 45 + (n + 1) * 23 := by omega
    have hf1 : 2 + n + 1 ≤ 2 + (n + 1) := by omega
    have hl1 : 8 + (4 + 11) + (45 + n * 23) ≤ 45 + (n + 1) * 23 := by omega
    refine Mt.of x0pn (Nat.le_of_ble_eq_true rfl) ?_
    intro Γ hl hd hN C hE
    subst hl; subst hd
    have hrec := @ih
    show Go Γ 0 0 (XW Γ.d A L E s0) 0 [(0, .ref (A.1 0 0)), (1, .int v1), (2, .int v2)] []
    dsimp only [f0_triesRows, b0_triesRows] at h
    refine go_iload_n (pc := 0) C dX0_triesRows_0 rfl 2 rfl ?_
    refine go_if_ne (pc := 1) (tgt := 67) C dX0_triesRows_1 (by decide) h (fun h => ?_) (fun h => ?_)
    · refine go_iconst (pc := 67) (v := (0 : Int32)) C dX0_triesRows_67 (by decide) ?_
      refine go_istore_n (pc := 68) C hN dX0_triesRows_68 rfl (by decide) rfl ?_
      refine go_sub [1, 2, 3, 0] rfl ?_
      exact w0_triesRows_69 hN C hE hL hf1 hl1 hf2 hl2 (@hrec) FU (s0, (0 : Int32)) h
    · refine go_iconst (pc := 4) (v := (0 : Int32)) C dX0_triesRows_4 (by decide) ?_
      refine go_istore_n (pc := 5) C hN dX0_triesRows_5 rfl (by decide) rfl ?_
      refine go_sub [1, 0] rfl ?_
      exact w0_triesRows_6 hN C hE hL hf1 hl1 hf2 hl2 (@hrec) FU (0 : Int32) h
theorem w0_plan_71 {Γ : Gam} {A : XA} {L : List Nat} {E : va_W} {s0 : (Nat → Bl)} {v1 : Int32} {r9 : Int32} {s9 : (Nat → Bl)} (hN : Γ.nL = 3) (C : Cx Γ cX0_plan RX0 (23, 0, 0) 528) (hE : Rets Γ cX0_plan (some .int) 0 0 (fun v w => v = some (.int r9) ∧ w = (XW Γ.d A L E s9))) (hL : xOK L) (h : g0_plan_71 s0 v1 = some (r9, s9)) : Go Γ 0 0 (XW Γ.d A L E s0) 71 [(0, .ref (A.1 0 0)), (1, .int v1)] [] := by
  dsimp only [g0_plan_71] at h
  refine go_iload_n (pc := 71) C dX0_plan_71 rfl 1 rfl ?_
  refine go_iconst (pc := 72) (v := (-1 : Int32)) C dX0_plan_72 (by decide) ?_
  refine go_icmp_ne (pc := 73) (tgt := 81) C dX0_plan_73 (by decide) h (fun h => ?_) (fun h => ?_)
  · refine go_aload_n (pc := 81) C dX0_plan_81 rfl 0 rfl ?_
    refine X0g_0_20 (pc := 82) C hL dX0_plan_82 ?_
    refine go_if_eq (pc := 85) (tgt := 96) C dX0_plan_85 (by decide) h (fun h => ?_) (fun h => ?_)
    · refine go_bipush (pc := 96) (v := (-2 : Int32)) C dX0_plan_96 (by decide) ?_
      refine go_goto (pc := 98) (tgt := 107) C dX0_plan_98 (by decide) ?_
      exact (hE 0 0 _ _ _ (Nat.zero_le _) (Nat.zero_le _)).1 _ rfl dX0_plan_107 ⟨congrArg (fun z => some (Value.int z)) (some2 h).1, congrArg (fun z => (XW Γ.d A L E z)) (some2 h).2⟩
    · refine go_iload_n (pc := 88) C dX0_plan_88 rfl 1 rfl ?_
      refine go_aload_n (pc := 89) C dX0_plan_89 rfl 0 rfl ?_
      refine X0g_0_19 (pc := 90) C hL dX0_plan_90 ?_
      refine go_icmp_lt (pc := 93) (tgt := 101) C dX0_plan_93 (by decide) h (fun h => ?_) (fun h => ?_)
      · refine go_aload_n (pc := 101) C dX0_plan_101 rfl 0 rfl ?_
        refine X0g_0_16 (pc := 102) C hL dX0_plan_102 ?_
        refine go_iload_n (pc := 105) C dX0_plan_105 rfl 1 rfl ?_
        refine go_iald (pc := 106) C (xa_0_16 hL) h dX0_plan_106 (fun h => ?_)
        exact (hE 0 0 _ _ _ (Nat.zero_le _) (Nat.zero_le _)).1 _ rfl dX0_plan_107 ⟨congrArg (fun z => some (Value.int z)) (some2 h).1, congrArg (fun z => (XW Γ.d A L E z)) (some2 h).2⟩
      · refine go_bipush (pc := 96) (v := (-2 : Int32)) C dX0_plan_96 (by decide) ?_
        refine go_goto (pc := 98) (tgt := 107) C dX0_plan_98 (by decide) ?_
        exact (hE 0 0 _ _ _ (Nat.zero_le _) (Nat.zero_le _)).1 _ rfl dX0_plan_107 ⟨congrArg (fun z => some (Value.int z)) (some2 h).1, congrArg (fun z => (XW Γ.d A L E z)) (some2 h).2⟩
  · refine go_aload_n (pc := 76) C dX0_plan_76 rfl 0 rfl ?_
    refine X0g_0_20 (pc := 77) C hL dX0_plan_77 ?_
    exact (hE 0 0 _ _ _ (Nat.zero_le _) (Nat.zero_le _)).1 _ rfl dX0_plan_80 ⟨congrArg (fun z => some (Value.int z)) (some2 h).1, congrArg (fun z => (XW Γ.d A L E z)) (some2 h).2⟩

/-! Text.fact: by the depth of fuel -/
set_option maxRecDepth 100000
theorem bndC_le {α β : Type} {r9 : Cn β} {r2 : Cn α} {f : α → (Nat → Bl) → Option (Cn β)} (hk9 : ∀ a s, r2.1 = .inr (a, s) → ∃ r3 : Cn β, f a s = some r3 ∧ r9 = (r3.1, (r2.2.1 + r3.2.1, r2.2.2 + r3.2.2))) (hx9 : ∀ s, r2.1 = .inl s → r9 = (.inl s, r2.2)) : r2.2.1 ≤ r9.2.1 ∧ r2.2.2 ≤ r9.2.2 := by
  cases hz : r2.1 with
  | inl z => rw [hx9 z hz]; exact ⟨Nat.le_refl _, Nat.le_refl _⟩
  | inr z => obtain ⟨r3, -, e3⟩ := hk9 z.1 z.2 hz; rw [e3]; exact ⟨Nat.le_add_right _ _, Nat.le_add_right _ _⟩
theorem m4_fact {l : Launch} {d : gD} {A : XA} {L : List Nat} (hL : xOK L) (hT : 14 ∈ L) : ∀ (n : Nat) (E : va_W) (s0 : Nat → Bl) (r9 : Cn Tf), f4_fact n s0 = some r9 → MtX l d yX4_fact cX4_fact 6 (some (.object "PartyRaft$Test")) (9 + 3 * n, r9.2.1, r9.2.2) (260 + 400 * n) (XW d A L E s0) [.ref (A.1 14 0)] (fun v w => ∃ (s9 : Nat → Bl) (f : Tf) (a9 : Nat) (E9 : va_W), r9.1 = .inr (f, s9) ∧ v = some (.ref a9) ∧ w = XW d A L (E ++ E9) s9 ∧ tAt (E ++ E9) f.2 a9 f.1) (fun w => ∃ (s9 : Nat → Bl) (E9 : va_W), r9.1 = .inl s9 ∧ w = XW d A L (E ++ E9) s9) := by
  intro n
  induction n with
  | zero => intro E s0 r9 h; simp only [f4_fact] at h; cases h
  | succ n ih =>
  intro E s0 r9 h
  refine MtX.of x4pn (Nat.le_of_ble_eq_true rfl) ?_
  intro Γ hl hd hN C hE hX
  subst hl; subst hd
  show Go Γ 0 0 (XW Γ.d A L E s0) 0 [(0, .ref (A.1 14 0))] []
  rw [f4_fact] at h
  refine go_aload_n (pc := 0) C dX4_fact_0 rfl 0 rfl ?_
  obtain ⟨r1, s1, e1, h⟩ := bnd2_some h
  refine go_callVi (pc := 1) C [] (m4_see hL hT e1) q562 q564 qs2 q145 q565 x4pd_see (by show 0 + 1 ≤ 9 + 3 * (n + 1); omega) (by omega) (xO hT hL.1) xc14 rfl (Nat.le_of_ble_eq_true rfl) ⟨Nat.zero_le _, Nat.zero_le _⟩ dX4_fact_1 rfl ?_
  refine go_istore_n (pc := 4) C hN dX4_fact_4 rfl (by decide) rfl ?_
  refine go_aload_n (pc := 5) C dX4_fact_5 rfl 1 rfl ?_
  refine X4g_14_2 (pc := 6) C hL hT dX4_fact_6 ?_
  refine go_istore_n (pc := 9) C hN dX4_fact_9 rfl (by decide) rfl ?_
  refine go_aload_n (pc := 10) C dX4_fact_10 rfl 2 rfl ?_
  refine go_ldcS 20 (pc := 11) C dX4_fact_11 (by decide +kernel) ?_
  obtain ⟨r2, s2, e2, h⟩ := bnd2_some h
  refine go_callVi (pc := 13) C [.ref (Γ.d.2.2.1 20)] (m4_isWord hL hT e2) q570 q572 qs4 q145 q573 x4pd_isWord (by show 4 + 1 ≤ 9 + 3 * (n + 1); omega) (by omega) (xO hT hL.1) xc14 rfl (Nat.le_of_ble_eq_true rfl) ⟨Nat.zero_le _, Nat.zero_le _⟩ dX4_fact_13 rfl ?_
  refine go_if_eq (pc := 16) (tgt := 58) C dX4_fact_16 (by decide) h (fun h => ?_) (fun h => ?_)
  · refine go_iload_n (pc := 58) C dX4_fact_58 rfl 1 rfl ?_
    refine go_bipush (pc := 59) (v := (91 : Int32)) C dX4_fact_59 (by decide) ?_
    refine go_icmp_ne (pc := 61) (tgt := 111) C dX4_fact_61 (by decide) h (fun h => ?_) (fun h => ?_)
    · -- a comparison
      refine go_aload_n (pc := 111) C dX4_fact_111 rfl 2 rfl ?_
      obtain ⟨r3, e3, hk3, hx3⟩ := bndC_some h
      have g3 := bndC_le hk3 hx3
      refine go_callVX (pc := 112) C [] (m4_sum hL hT e3) q740 q742 qs19 q145 q743 x4pd_sum (by show 8 + 1 ≤ 9 + 3 * (n + 1); omega) (by omega) (xO hT hL.1) xc14 rfl (Nat.le_of_ble_eq_true rfl) ⟨by show 0 + r3.2.1 ≤ r9.2.1; omega, by show 0 + r3.2.2 ≤ r9.2.2; omega⟩ dX4_fact_112 rfl (fun v9 w9 hp => ?_) (fun w9 hp => ?_)
      · obtain ⟨s3, v3, a3, E3, g5, rfl, rfl, hv3⟩ := hp
        obtain ⟨r4, h, er4⟩ := hk3 v3 s3 g5
        have k1 : r9.2.1 = r3.2.1 + r4.2.1 := by rw [er4]
        have k2 : r9.2.2 = r3.2.2 + r4.2.2 := by rw [er4]
        have k3 : r9.1 = r4.1 := by rw [er4]
        refine go_astore_n (pc := 115) C hN dX4_fact_115 rfl (by decide) rfl ?_
        refine go_aload_n (pc := 116) C dX4_fact_116 rfl 3 rfl ?_
        obtain ⟨x4, s4, e4, h⟩ := bnd2_some h
        refine go_callVi (pc := 117) C [] (m4_see hL hT e4) q562 q564 qs2 q145 q565 x4pd_see (by show 0 + 1 ≤ 9 + 3 * (n + 1); omega) (by omega) (xO hT hL.1) xc14 rfl (Nat.le_of_ble_eq_true rfl) ⟨by show 0 + r3.2.1 ≤ r9.2.1; omega, by show 0 + r3.2.2 ≤ r9.2.2; omega⟩ dX4_fact_117 rfl ?_
        refine go_pop (pc := 120) C dX4_fact_120 rfl ?_
        refine go_aload_n (pc := 121) C dX4_fact_121 rfl 3 rfl ?_
        refine X4g_14_2 (pc := 122) C hL hT dX4_fact_122 ?_
        refine go_istore (pc := 125) C hN dX4_fact_125 (by decide) rfl ?_
        refine go_aload_n (pc := 127) C dX4_fact_127 rfl 4 rfl ?_
        obtain ⟨t5, e5, hk5, hx5⟩ := bndXc2_some h
        refine go_callVXi (pc := 128) C [] (m4_sign hL hT e5) q831 q833 qs28 q145 q834 x4pd_sign (by show 1 + 1 ≤ 9 + 3 * (n + 1); omega) (by omega) (xO hT hL.1) xc14 rfl (Nat.le_of_ble_eq_true rfl) ⟨by show 0 + r3.2.1 ≤ r9.2.1; omega, by show 0 + r3.2.2 ≤ r9.2.2; omega⟩ dX4_fact_128 rfl (fun sg s5 q9 => ?_) (fun t9 q9 => hX _ _ _ _ _ _ (by show 0 + r3.2.1 ≤ r9.2.1; omega) (by show 0 + r3.2.2 ≤ r9.2.2; omega) ⟨t9, E3, by rw [k3, hx5 _ q9], rfl⟩)
        have h := hk5 _ _ q9
        refine go_istore (pc := 131) C hN dX4_fact_131 (by decide) rfl ?_
        refine go_aload_n (pc := 133) C dX4_fact_133 rfl 5 rfl ?_
        refine go_iload (pc := 134) C dX4_fact_134 1 rfl ?_
        obtain ⟨t6, e6, hk6, hx6⟩ := bndXc_some h
        refine go_callVXv (pc := 136) C [.int ((s4 14).1 2)] (m4_makes hL hT e6) q753 q755 qs22 q145 q756 x4pd_makes (by show 1 + 1 ≤ 9 + 3 * (n + 1); omega) (by omega) (xO hT hL.1) xc14 rfl (Nat.le_of_ble_eq_true rfl) ⟨by show 0 + r3.2.1 ≤ r9.2.1; omega, by show 0 + r3.2.2 ≤ r9.2.2; omega⟩ dX4_fact_136 rfl (fun s6 q9 => ?_) (fun t9 q9 => hX _ _ _ _ _ _ (by show 0 + r3.2.1 ≤ r9.2.1; omega) (by show 0 + r3.2.2 ≤ r9.2.2; omega) ⟨t9, E3, by rw [k3, hx6 _ q9], rfl⟩)
        have h := hk6 _ q9
        obtain ⟨r7, h, er7⟩ := cnt_some h
        obtain ⟨r8, e8, hk8, hx8⟩ := bndC_some h
        have g8 := bndC_le hk8 hx8
        have k4 : r4.2.1 = 1 + r7.2.1 := by rw [er7]
        have k5 : r4.2.2 = 3 + r7.2.2 := by rw [er7]
        have k6 : r4.1 = r7.1 := by rw [er7]
        refine go_new (pc := 139) (ci := 11) (T := TX13) (N := 3) (fs := [.null, .null, .int 0]) C in_X13 tyX13 tyX13_ok q835 q836 q160 rfl (dflt_all (by decide +kernel)) ⟨by show 0 + r3.2.1 + 1 ≤ r9.2.1; omega, by show 0 + r3.2.2 + 3 ≤ r9.2.2; omega⟩ dX4_fact_139 (fun q => ?_)
        rw [XW_app, List.append_assoc]
        refine go_dup (pc := 142) C dX4_fact_142 rfl ?_
        refine go_aload_n (pc := 143) C dX4_fact_143 rfl 2 rfl ?_
        refine go_iload (pc := 144) C dX4_fact_144 0 rfl ?_
        refine go_aload_n (pc := 146) C dX4_fact_146 rfl 5 rfl ?_
        refine go_callVX (pc := 147) C [] (m4_sum hL hT e8) q740 q742 qs19 q145 q743 x4pd_sum (by show 8 + 1 ≤ 9 + 3 * (n + 1); omega) (by omega) (xO hT hL.1) xc14 rfl (Nat.le_of_ble_eq_true rfl) ⟨by show 0 + r3.2.1 + 1 + r8.2.1 ≤ r9.2.1; omega, by show 0 + r3.2.2 + 3 + r8.2.2 ≤ r9.2.2; omega⟩ dX4_fact_147 rfl (fun v9 w9 hp => ?_) (fun w9 hp => ?_)
        · obtain ⟨s7, v7, a7, E7, g9, rfl, rfl, hv7⟩ := hp
          obtain ⟨r0, h, er0⟩ := hk8 v7 s7 g9
          have h := Option.some.inj h
          have k7 : r7.2.1 = r8.2.1 + r0.2.1 := by rw [er0]
          have k8 : r7.2.2 = r8.2.2 + r0.2.2 := by rw [er0]
          have k9 : r7.1 = r0.1 := by rw [er0]
          have ew : XW Γ.d A L (E ++ (E3 ++ [(q, .inr (11, [.null, .null, .int 0]))]) ++ E7) s7 = XW Γ.d A L (E ++ E3) s7 ++ ([(q, .inr (11, [.null, .null, .int 0]))] ++ E7) := by rw [XW_app]; simp only [List.append_assoc]
          rw [ew]
          refine go_callI (pc := 150) (nA := 3) C [.ref a3, .int sg, .ref a7] (Mt.frame (XW Γ.d A L (E ++ E3) s7) E7 (m13_init (b := q) (v1 := a3) (v2 := sg) (v3 := a7))) q837 q838 q160 q839 rfl (by decide +kernel) ⟨by show 2 + 1 ≤ 9 + 3 * (n + 1); omega, by omega⟩ rfl (Nat.le_of_ble_eq_true rfl) ⟨by show 0 + r3.2.1 + 1 + r8.2.1 + 0 ≤ r9.2.1; omega, by show 0 + r3.2.2 + 3 + r8.2.2 + 0 ≤ r9.2.2; omega⟩ dX4_fact_150 rfl (fun v8 w8 h8 => ?_)
          obtain ⟨w0, ⟨rfl, rfl⟩, rfl⟩ := h8
          refine (hE _ _ _ 153 _ (by show 0 + r3.2.1 + 1 + r8.2.1 + 0 ≤ r9.2.1; omega) (by show 0 + r3.2.2 + 3 + r8.2.2 + 0 ≤ r9.2.2; omega)).2.2.2.2.1 _ _ rfl dX4_fact_153 ⟨s7, _, q, E3 ++ ([(q, .inr (11, [.ref a3, .ref a7, .int sg]))] ++ E7), by rw [k3, k6, k9, ← h], rfl, by rw [XW_app]; simp only [List.append_assoc], ?_⟩
          have hm : ∀ b c9 gs, gs.head? ≠ some Value.null → hasO (E ++ (E3 ++ [(q, .inr (11, [.null, .null, .int 0]))]) ++ E7) b c9 gs → hasO (E ++ (E3 ++ ([(q, .inr (11, [.ref a3, .ref a7, .int sg]))] ++ E7))) b c9 gs := by
            intro b c9 gs hg hh
            have := hole_mono (E1 := E ++ E3) (E9 := E7) (q := q) (ci := 11) (fs := [.null, .null, .int 0]) (e := .inr (11, [.ref a3, .ref a7, .int sg])) rfl b c9 gs hg (by simpa [List.append_assoc] using hh)
            simpa [List.append_assoc] using this
          have hv3' := vAt.mono2 hm _ _ _ ((hv3.mono (w2 := E ++ (E3 ++ [(q, .inr (11, [.null, .null, .int 0]))]) ++ E7) (fun b c9 gs hh => by have := (hh.appL (w2 := [(q, .inr (11, [.null, .null, .int 0]))] ++ E7)); simpa [List.append_assoc] using this)))
          have hv7' := vAt.mono2 hm _ _ _ hv7
          exact Or.inr (Or.inl ⟨a3, a7, sg, v3.1, v7.1, (by have z : hasO (((E ++ E3) ++ [(q, .inr (11, [.ref a3, .ref a7, .int sg]))]) ++ E7) q 11 [.ref a3, .ref a7, .int sg] := hasO.appL (hasO.appR ⟨0, rfl⟩); simpa [List.append_assoc] using z), hv3'.le (Nat.le_max_left _ _), hv7'.le (Nat.le_max_right _ _), rfl⟩)
        · obtain ⟨s7, E7, g9, rfl⟩ := hp
          exact hX _ _ _ _ _ _ (by show 0 + r3.2.1 + 1 + r8.2.1 ≤ r9.2.1; omega) (by show 0 + r3.2.2 + 3 + r8.2.2 ≤ r9.2.2; omega) ⟨s7, E3 ++ ([(q, .inr (11, [.null, .null, .int 0]))] ++ E7), by rw [k3, k6, hx8 s7 g9], by simp only [List.append_assoc]⟩
      · obtain ⟨s3, E3, g5, rfl⟩ := hp
        exact hX _ _ _ _ _ _ (by show 0 + r3.2.1 ≤ r9.2.1; omega) (by show 0 + r3.2.2 ≤ r9.2.2; omega) ⟨s3, E3, by rw [hx3 s3 g5], rfl⟩
    · -- a bracket
      refine go_aload_n (pc := 64) C dX4_fact_64 rfl 2 rfl ?_
      refine go_iload_n (pc := 65) C dX4_fact_65 rfl 0 rfl ?_
      obtain ⟨t3, e3, hk9, hx9⟩ := bndXc_some h
      refine go_callVXv (pc := 66) C [.int ((s1 14).1 2)] (m4_opens hL hT e3) q814 q816 qs27 q145 q817 x4pd_opens (by show 1 + 1 ≤ 9 + 3 * (n + 1); omega) (by omega) (xO hT hL.1) xc14 rfl (Nat.le_of_ble_eq_true rfl) ⟨Nat.zero_le _, Nat.zero_le _⟩ dX4_fact_66 rfl (fun s3 q9 => ?_) (fun t9 q9 => hX _ _ _ _ _ _ (Nat.zero_le _) (Nat.zero_le _) ⟨t9, [], by rw [hx9 _ q9], by rw [List.append_nil]⟩)
      have h := hk9 _ q9
      refine go_aload_n (pc := 69) C dX4_fact_69 rfl 2 rfl ?_
      refine go_dup (pc := 70) C dX4_fact_70 rfl ?_
      refine X4g_14_2 (pc := 71) C hL hT dX4_fact_71 ?_
      refine go_iconst (pc := 74) (v := (1 : Int32)) C dX4_fact_74 (by decide) ?_
      refine go_iadd (pc := 75) C dX4_fact_75 ?_
      refine X4p_14_2 (pc := 76) C hL hT dX4_fact_76 ?_
      refine go_aload_n (pc := 79) C dX4_fact_79 rfl 2 rfl ?_
      obtain ⟨r4, e4, hk4, hx4⟩ := bndC_some h
      have g4 := bndC_le hk4 hx4
      have hP : ∀ (E : va_W) (s0 : Nat → Bl) (r : Cn Tf), fB (f4_fact n) 21 1 s0 = some r → MtX Γ.l Γ.d yX4_parted cX4_parted 2 (some (.object "PartyRaft$Test")) (9 + 3 * n + 1, r.2.1, r.2.2) (260 + 400 * n + 150) (XW Γ.d A L E s0) [.ref (A.1 14 0)] (fun v w => ∃ (s9 : Nat → Bl) (f : Tf) (a9 : Nat) (E9 : va_W), r.1 = .inr (f, s9) ∧ v = some (.ref a9) ∧ w = XW Γ.d A L (E ++ E9) s9 ∧ tAt (E ++ E9) f.2 a9 f.1) (fun w => ∃ (s9 : Nat → Bl) (E9 : va_W), r.1 = .inl s9 ∧ w = XW Γ.d A L (E ++ E9) s9) := fun E s0 r hh => h4_parted ih (by omega) hL hT hh
      refine go_callVX (pc := 80) C [] (h4_tested hP (by omega) hL hT e4) q801 q803 qs24 q145 q804 x4pd_tested (by show 9 + 3 * n + 1 + 1 + 1 ≤ 9 + 3 * (n + 1); omega) (by omega) (xO hT hL.1) xc14 rfl (Nat.le_of_ble_eq_true rfl) ⟨by show 0 + r4.2.1 ≤ r9.2.1; omega, by show 0 + r4.2.2 ≤ r9.2.2; omega⟩ dX4_fact_80 rfl (fun v9 w9 hp => ?_) (fun w9 hp => ?_)
      · obtain ⟨s4, v4, a4, E4, g5, rfl, rfl, hv4⟩ := hp
        obtain ⟨r5, h, er5⟩ := hk4 v4 s4 g5
        have k3 : r9.1 = r5.1 := by rw [er5]
        refine go_astore_n (pc := 83) C hN dX4_fact_83 rfl (by decide) rfl ?_
        refine go_aload_n (pc := 84) C dX4_fact_84 rfl 3 rfl ?_
        refine go_aload_n (pc := 85) C dX4_fact_85 rfl 3 rfl ?_
        refine go_bipush (pc := 86) (v := (93 : Int32)) C dX4_fact_86 (by decide) ?_
        obtain ⟨x6, s6, e6, h⟩ := bnd2_some h
        refine go_callVi (pc := 88) C [.int (93 : Int32)] (m4_takesSign hL hT e6) q683 q685 qs15 q145 q686 x4pd_takesSign (by show 1 + 1 ≤ 9 + 3 * (n + 1); omega) (by omega) (xO hT hL.1) xc14 rfl (Nat.le_of_ble_eq_true rfl) ⟨by show 0 + r4.2.1 ≤ r9.2.1; omega, by show 0 + r4.2.2 ≤ r9.2.2; omega⟩ dX4_fact_88 rfl ?_
        refine go_iconst (pc := 91) (v := (0 : Int32)) C dX4_fact_91 (by decide) ?_
        refine go_aload_n (pc := 92) C dX4_fact_92 rfl 3 rfl ?_
        refine X4g_14_2 (pc := 93) C hL hT dX4_fact_93 ?_
        obtain ⟨t7, e7, hk7, hx7⟩ := bndXc_some h
        refine go_callVXv (pc := 96) C [.int x6, .int (0 : Int32), .int ((s6 14).1 2)] (m4_demand hL hT e7) q626 q628 qs6 q145 q629 x4pd_demand (by show 0 + 1 ≤ 9 + 3 * (n + 1); omega) (by omega) (xO hT hL.1) xc14 rfl (Nat.le_of_ble_eq_true rfl) ⟨by show 0 + r4.2.1 ≤ r9.2.1; omega, by show 0 + r4.2.2 ≤ r9.2.2; omega⟩ dX4_fact_96 rfl (fun s7 q9 => ?_) (fun t9 q9 => hX _ _ _ _ _ _ (by show 0 + r4.2.1 ≤ r9.2.1; omega) (by show 0 + r4.2.2 ≤ r9.2.2; omega) ⟨t9, E4, by rw [k3, hx7 _ q9], rfl⟩)
        have h := Option.some.inj (hk7 _ q9)
        refine go_aload_n (pc := 99) C dX4_fact_99 rfl 3 rfl ?_
        refine go_dup (pc := 100) C dX4_fact_100 rfl ?_
        refine X4g_14_3 (pc := 101) C hL hT dX4_fact_101 ?_
        refine go_iconst (pc := 104) (v := (1 : Int32)) C dX4_fact_104 (by decide) ?_
        refine go_isub (pc := 105) C dX4_fact_105 ?_
        refine X4p_14_3 (pc := 106) C hL hT dX4_fact_106 ?_
        refine go_aload_n (pc := 109) C dX4_fact_109 rfl 0 rfl ?_
        exact (hE _ _ _ 110 _ (by show 0 + r4.2.1 ≤ r9.2.1; omega) (by show 0 + r4.2.2 ≤ r9.2.2; omega)).2.2.2.2.1 _ _ rfl dX4_fact_110 ⟨_, _, a4, E4, by rw [k3, ← h], rfl, rfl, hv4⟩
      · obtain ⟨s4, E4, g5, rfl⟩ := hp
        exact hX _ _ _ _ _ _ (by show 0 + r4.2.1 ≤ r9.2.1; omega) (by show 0 + r4.2.2 ≤ r9.2.2; omega) ⟨s4, E4, by rw [hx4 s4 g5], rfl⟩
  · -- not
    refine go_aload_n (pc := 19) C dX4_fact_19 rfl 2 rfl ?_
    refine go_iload_n (pc := 20) C dX4_fact_20 rfl 0 rfl ?_
    obtain ⟨t3, e3, hk9, hx9⟩ := bndXc_some h
    refine go_callVXv (pc := 21) C [.int ((s1 14).1 2)] (m4_opens hL hT e3) q814 q816 qs27 q145 q817 x4pd_opens (by show 1 + 1 ≤ 9 + 3 * (n + 1); omega) (by omega) (xO hT hL.1) xc14 rfl (Nat.le_of_ble_eq_true rfl) ⟨Nat.zero_le _, Nat.zero_le _⟩ dX4_fact_21 rfl (fun s3 q9 => ?_) (fun t9 q9 => hX _ _ _ _ _ _ (Nat.zero_le _) (Nat.zero_le _) ⟨t9, [], by rw [hx9 _ q9], by rw [List.append_nil]⟩)
    have h := hk9 _ q9
    refine go_aload_n (pc := 24) C dX4_fact_24 rfl 2 rfl ?_
    refine go_dup (pc := 25) C dX4_fact_25 rfl ?_
    refine X4g_14_2 (pc := 26) C hL hT dX4_fact_26 ?_
    refine go_iconst (pc := 29) (v := (3 : Int32)) C dX4_fact_29 (by decide) ?_
    refine go_iadd (pc := 30) C dX4_fact_30 ?_
    refine X4p_14_2 (pc := 31) C hL hT dX4_fact_31 ?_
    obtain ⟨r4, h, er4⟩ := cnt_some h
    obtain ⟨r5, e5, hk5, hx5⟩ := bndC_some h
    have g5 := bndC_le hk5 hx5
    have k1 : r9.2.1 = 1 + r4.2.1 := by rw [er4]
    have k2 : r9.2.2 = 1 + r4.2.2 := by rw [er4]
    have k3 : r9.1 = r4.1 := by rw [er4]
    refine go_new (pc := 34) (ci := 10) (T := TX12) (N := 1) (fs := [.null]) C in_X12 tyX12 tyX12_ok q818 q819 q159 rfl (dflt_all (by decide +kernel)) ⟨by show 0 + 1 ≤ r9.2.1; omega, by show 0 + 1 ≤ r9.2.2; omega⟩ dX4_fact_34 (fun q => ?_)
    rw [XW_app]
    refine go_dup (pc := 37) C dX4_fact_37 rfl ?_
    refine go_aload_n (pc := 38) C dX4_fact_38 rfl 2 rfl ?_
    refine go_callVX (pc := 39) C [] (ih _ _ _ e5) q809 q811 qs26 q145 q812 x4pd_fact (by show 9 + 3 * n + 1 ≤ 9 + 3 * (n + 1); omega) (by omega) (xO hT hL.1) xc14 rfl (Nat.le_of_ble_eq_true rfl) ⟨by show 0 + 1 + r5.2.1 ≤ r9.2.1; omega, by show 0 + 1 + r5.2.2 ≤ r9.2.2; omega⟩ dX4_fact_39 rfl (fun v9 w9 hp => ?_) (fun w9 hp => ?_)
    · obtain ⟨s6, v6, a6, E6, g6, rfl, rfl, hv6⟩ := hp
      obtain ⟨r7, h, er7⟩ := hk5 v6 s6 g6
      have h := Option.some.inj h
      have k6 : r4.1 = r7.1 := by rw [er7]
      have ew : XW Γ.d A L (E ++ [(q, .inr (10, [.null]))] ++ E6) s6 = XW Γ.d A L E s6 ++ ([(q, .inr (10, [.null]))] ++ E6) := by rw [XW_app]; simp only [List.append_assoc]
      rw [ew]
      refine go_callI (pc := 42) (nA := 1) C [.ref a6] (Mt.frame (XW Γ.d A L E s6) E6 (m12_init (b := q) (v1 := a6))) q820 q821 q159 q822 rfl (by decide +kernel) ⟨by show 2 + 1 ≤ 9 + 3 * (n + 1); omega, by omega⟩ rfl (Nat.le_of_ble_eq_true rfl) ⟨by show 0 + 1 + r5.2.1 + 0 ≤ r9.2.1; omega, by show 0 + 1 + r5.2.2 + 0 ≤ r9.2.2; omega⟩ dX4_fact_42 rfl (fun v8 w8 h8 => ?_)
      obtain ⟨w0, ⟨rfl, rfl⟩, rfl⟩ := h8
      have ew2 : XW Γ.d A L E s6 ++ ([(q, .inr (10, [.ref a6]))] ++ E6) = XW Γ.d A L (E ++ ([(q, .inr (10, [.ref a6]))] ++ E6)) s6 := by rw [XW_app]
      rw [ew2]
      refine go_astore_n (pc := 45) C hN dX4_fact_45 rfl (by decide) rfl ?_
      refine go_aload_n (pc := 46) C dX4_fact_46 rfl 3 rfl ?_
      refine go_dup (pc := 47) C dX4_fact_47 rfl ?_
      refine X4g_14_3 (pc := 48) C hL hT dX4_fact_48 ?_
      refine go_iconst (pc := 51) (v := (1 : Int32)) C dX4_fact_51 (by decide) ?_
      refine go_isub (pc := 52) C dX4_fact_52 ?_
      refine X4p_14_3 (pc := 53) C hL hT dX4_fact_53 ?_
      refine go_aload_n (pc := 56) C dX4_fact_56 rfl 0 rfl ?_
      refine (hE _ _ _ 57 _ (by show 0 + 1 + r5.2.1 + 0 ≤ r9.2.1; omega) (by show 0 + 1 + r5.2.2 + 0 ≤ r9.2.2; omega)).2.2.2.2.1 _ _ rfl dX4_fact_57 ⟨_, _, q, [(q, .inr (10, [.ref a6]))] ++ E6, by rw [k3, k6, ← h], rfl, rfl, ?_⟩
      have hm : ∀ b c9 gs, gs.head? ≠ some Value.null → hasO (E ++ [(q, .inr (10, [.null]))] ++ E6) b c9 gs → hasO (E ++ ([(q, .inr (10, [.ref a6]))] ++ E6)) b c9 gs := by
        intro b c9 gs hg hh
        have := hole_mono (E1 := E) (E9 := E6) (q := q) (ci := 10) (fs := [.null]) (e := .inr (10, [.ref a6])) rfl b c9 gs hg (by simpa [List.append_assoc] using hh)
        simpa [List.append_assoc] using this
      exact Or.inl ⟨a6, v6.1, (by have z : hasO ((E ++ [(q, .inr (10, [.ref a6]))]) ++ E6) q 10 [.ref a6] := hasO.appL (hasO.appR ⟨0, rfl⟩); simpa [List.append_assoc] using z), tAt.mono2 hm _ _ _ hv6, rfl⟩
    · obtain ⟨s6, E6, g6, rfl⟩ := hp
      exact hX _ _ _ _ _ _ (by show 0 + 1 + r5.2.1 ≤ r9.2.1; omega) (by show 0 + 1 + r5.2.2 ≤ r9.2.2; omega) ⟨s6, [(q, .inr (10, [.null]))] ++ E6, by rw [k3, hx5 s6 g6], by simp only [List.append_assoc]⟩

/-! walks of the reading of texts, printed by gen/text.py -/
theorem xs_9 {d : gD} {A : XA} {L : List Nat} {E : va_W} {x : Nat → Bl} (hL : xOK L) : hasA (XW d A L E x) (A.1 0 (9 + 1)) (d.2.1 4, 5, .inr (.inr (.inr (.inr (fun i => some (d.2.2.1 (1 + i))))))) := xa_0_9 hL
theorem xs_10 {d : gD} {A : XA} {L : List Nat} {E : va_W} {x : Nat → Bl} (hL : xOK L) : hasA (XW d A L E x) (A.1 0 (10 + 1)) (d.2.1 4, 1, .inr (.inr (.inr (.inr (fun i => some (d.2.2.1 (6 + i))))))) := xa_0_10 hL
theorem xs_11 {d : gD} {A : XA} {L : List Nat} {E : va_W} {x : Nat → Bl} (hL : xOK L) : hasA (XW d A L E x) (A.1 0 (11 + 1)) (d.2.1 4, 12, .inr (.inr (.inr (.inr (fun i => some (d.2.2.1 (7 + i))))))) := xa_0_11 hL
set_option maxRecDepth 100000
set_option maxHeartbeats 4000000
theorem w4_see_44 {Γ : Gam} {A : XA} {L : List Nat} {E : va_W} {s0 : (Nat → Bl)} {r9 : Int32} {s9 : (Nat → Bl)} (hN : Γ.nL = 1) (C : Cx Γ cX4_see RX4 (0, 0, 0) 0) (hE : Rets Γ cX4_see (some .int) 0 0 (fun v w => v = some (.int r9) ∧ w = (XW Γ.d A L E s9))) (hL : xOK L) (hT : 14 ∈ L) (h : g4_see_44 s0 = some (r9, s9)) : Go Γ 0 0 (XW Γ.d A L E s0) 44 [(0, .ref (A.1 14 0))] [] := by
  dsimp only [g4_see_44] at h
  refine go_aload_n (pc := 44) C dX4_see_44 rfl 0 rfl ?_
  refine X4g_14_2 (pc := 45) C hL hT dX4_see_45 ?_
  refine go_aload_n (pc := 48) C dX4_see_48 rfl 0 rfl ?_
  refine X4g_14_6 (pc := 49) C hL hT dX4_see_49 ?_
  refine X4g_0_8 (pc := 52) C hL dX4_see_52 ?_
  refine go_icmp_ge (pc := 55) (tgt := 77) C dX4_see_55 (by decide) h (fun h => ?_) (fun h => ?_)
  · refine go_iconst (pc := 77) (v := (-1 : Int32)) C dX4_see_77 (by decide) ?_
    exact (hE 0 0 _ _ _ (Nat.zero_le _) (Nat.zero_le _)).1 _ rfl dX4_see_78 ⟨congrArg (fun z => some (Value.int z)) (some2 h).1, congrArg (fun z => (XW Γ.d A L E z)) (some2 h).2⟩
  · refine go_aload_n (pc := 58) C dX4_see_58 rfl 0 rfl ?_
    refine X4g_14_6 (pc := 59) C hL hT dX4_see_59 ?_
    refine X4g_0_7 (pc := 62) C hL dX4_see_62 ?_
    refine go_aload_n (pc := 65) C dX4_see_65 rfl 0 rfl ?_
    refine X4g_14_2 (pc := 66) C hL hT dX4_see_66 ?_
    refine go_bald (pc := 69) C (xa_0_7 hL) h dX4_see_69 (fun h => ?_)
    refine go_sipush (pc := 70) (v := (255 : Int32)) C dX4_see_70 (by decide) ?_
    refine go_iand (pc := 73) C dX4_see_73 ?_
    refine go_goto (pc := 74) (tgt := 78) C dX4_see_74 (by decide) ?_
    exact (hE 0 0 _ _ _ (Nat.zero_le _) (Nat.zero_le _)).1 _ rfl dX4_see_78 ⟨congrArg (fun z => some (Value.int z)) (some2 h).1, congrArg (fun z => (XW Γ.d A L E z)) (some2 h).2⟩
theorem w4_see_0 {Γ : Gam} {A : XA} {L : List Nat} {E : va_W} {r9 : Int32} {s9 : (Nat → Bl)} (hN : Γ.nL = 1) (C : Cx Γ cX4_see RX4 (0, 0, 0) 0) (hE : Rets Γ cX4_see (some .int) 0 0 (fun v w => v = some (.int r9) ∧ w = (XW Γ.d A L E s9))) (hL : xOK L) (hT : 14 ∈ L) : ∀ (n : Nat) (s : (Nat → Bl)), loop (g4_see_0) n s = some (r9, s9) → (fun s : (Nat → Bl) => Go Γ 0 0 (XW Γ.d A L E s) 0 [(0, .ref (A.1 14 0))] []) s := by
  refine loop_walk (P := fun s : (Nat → Bl) => Go Γ 0 0 (XW Γ.d A L E s) 0 [(0, .ref (A.1 14 0))] []) ?_
  intro K0 hK0 s h
  obtain ⟨s0, rfl⟩ : ∃ z, z = s := ⟨_, rfl⟩
  dsimp only [g4_see_0] at h
  show Go Γ 0 0 (XW Γ.d A L E s0) 0 [(0, .ref (A.1 14 0))] []
  refine go_aload_n (pc := 0) C dX4_see_0 rfl 0 rfl ?_
  refine X4g_14_2 (pc := 1) C hL hT dX4_see_1 ?_
  refine go_aload_n (pc := 4) C dX4_see_4 rfl 0 rfl ?_
  refine X4g_14_6 (pc := 5) C hL hT dX4_see_5 ?_
  refine X4g_0_8 (pc := 8) C hL dX4_see_8 ?_
  refine go_icmp_ge (pc := 11) (tgt := 44) C dX4_see_11 (by decide) h (fun h => ?_) (fun h => ?_)
  · exact w4_see_44 hN C hE hL hT h
  · refine go_aload_n (pc := 14) C dX4_see_14 rfl 0 rfl ?_
    refine X4g_14_6 (pc := 15) C hL hT dX4_see_15 ?_
    refine X4g_0_7 (pc := 18) C hL dX4_see_18 ?_
    refine go_aload_n (pc := 21) C dX4_see_21 rfl 0 rfl ?_
    refine X4g_14_2 (pc := 22) C hL hT dX4_see_22 ?_
    refine go_bald (pc := 25) C (xa_0_7 hL) h dX4_see_25 (fun h => ?_)
    refine go_bipush (pc := 26) (v := (32 : Int32)) C dX4_see_26 (by decide) ?_
    refine go_icmp_ne (pc := 28) (tgt := 44) C dX4_see_28 (by decide) h (fun h => ?_) (fun h => ?_)
    · exact w4_see_44 hN C hE hL hT h
    · refine go_aload_n (pc := 31) C dX4_see_31 rfl 0 rfl ?_
      refine go_dup (pc := 32) C dX4_see_32 rfl ?_
      refine X4g_14_2 (pc := 33) C hL hT dX4_see_33 ?_
      refine go_iconst (pc := 36) (v := (1 : Int32)) C dX4_see_36 (by decide) ?_
      refine go_iadd (pc := 37) C dX4_see_37 ?_
      refine X4p_14_2 (pc := 38) C hL hT dX4_see_38 ?_
      refine go_goto (pc := 41) (tgt := 0) C dX4_see_41 (by decide) ?_
      exact hK0 (upX s0 14 (bI (s0 14) 2 (((s0 14).1 2) + (1 : Int32)))) h
theorem m4_see {l : Launch} {d : gD} {A : XA} {L : List Nat} {E : va_W} {s0 : (Nat → Bl)} {r9 : Int32} {s9 : (Nat → Bl)} (hL : xOK L) (hT : 14 ∈ L) (h : f4_see s0 = some (r9, s9)) : Mt l d yX4_see cX4_see 1 (some .int) (0, 0, 0) 0 (XW d A L E s0) [.ref (A.1 14 0)] (fun v w => v = some (.int r9) ∧ w = (XW d A L E s9)) := by
  refine Mt.of x4pn (Nat.le_of_ble_eq_true rfl) ?_
  intro Γ hl hd hN C hE
  subst hl; subst hd
  show Go Γ 0 0 (XW Γ.d A L E s0) 0 [(0, .ref (A.1 14 0))] []
  dsimp only [f4_see] at h
  exact w4_see_0 hN C hE hL hT FU s0 h
theorem m4_takesSign {l : Launch} {d : gD} {A : XA} {L : List Nat} {E : va_W} {s0 : (Nat → Bl)} {v1 : Int32} {r9 : Int32} {s9 : (Nat → Bl)} (hL : xOK L) (hT : 14 ∈ L) (h : f4_takesSign s0 v1 = some (r9, s9)) : Mt l d yX4_takesSign cX4_takesSign 2 (some .boolean) (1, 0, 0) 20 (XW d A L E s0) [.ref (A.1 14 0), .int v1] (fun v w => v = some (.int r9) ∧ w = (XW d A L E s9)) := by
  refine Mt.of x4pn (Nat.le_of_ble_eq_true rfl) ?_
  intro Γ hl hd hN C hE
  subst hl; subst hd
  show Go Γ 0 0 (XW Γ.d A L E s0) 0 [(0, .ref (A.1 14 0)), (1, .int v1)] []
  dsimp only [f4_takesSign] at h
  refine go_aload_n (pc := 0) C dX4_takesSign_0 rfl 0 rfl ?_
  obtain ⟨r1, s1, e1, h⟩ := bnd2_some h
  refine go_callVi (pc := 1) C [] (m4_see hL hT e1) q562 q564 qs2 q145 q565 x4pd_see (by decide) (by decide) (xO hT hL.1) xc14 rfl (Nat.le_of_ble_eq_true rfl) ⟨Nat.zero_le _, Nat.zero_le _⟩ dX4_takesSign_1 rfl ?_
  refine go_iload_n (pc := 4) C dX4_takesSign_4 rfl 1 rfl ?_
  refine go_icmp_eq (pc := 5) (tgt := 10) C dX4_takesSign_5 (by decide) h (fun h => ?_) (fun h => ?_)
  · refine go_aload_n (pc := 10) C dX4_takesSign_10 rfl 0 rfl ?_
    refine go_dup (pc := 11) C dX4_takesSign_11 rfl ?_
    refine X4g_14_2 (pc := 12) C hL hT dX4_takesSign_12 ?_
    refine go_iconst (pc := 15) (v := (1 : Int32)) C dX4_takesSign_15 (by decide) ?_
    refine go_iadd (pc := 16) C dX4_takesSign_16 ?_
    refine X4p_14_2 (pc := 17) C hL hT dX4_takesSign_17 ?_
    refine go_iconst (pc := 20) (v := (1 : Int32)) C dX4_takesSign_20 (by decide) ?_
    exact (hE 0 0 _ _ _ (Nat.zero_le _) (Nat.zero_le _)).2.1 _ rfl (Or.inr rfl) dX4_takesSign_21 ⟨congrArg (fun z => some (Value.int z)) (some2 h).1, congrArg (fun z => (XW Γ.d A L E z)) (some2 h).2⟩
  · refine go_iconst (pc := 8) (v := (0 : Int32)) C dX4_takesSign_8 (by decide) ?_
    exact (hE 0 0 _ _ _ (Nat.zero_le _) (Nat.zero_le _)).2.1 _ rfl (Or.inl rfl) dX4_takesSign_9 ⟨congrArg (fun z => some (Value.int z)) (some2 h).1, congrArg (fun z => (XW Γ.d A L E z)) (some2 h).2⟩
theorem w4_letters_7 {Γ : Gam} {A : XA} {L : List Nat} {E : va_W} {s0 : (Nat → Bl)} {r9 : Int32} {s9 : (Nat → Bl)} (hN : Γ.nL = 2) (C : Cx Γ cX4_letters RX4 (1, 0, 0) 20) (hE : Rets Γ cX4_letters (some .int) 0 0 (fun v w => v = some (.int r9) ∧ w = (XW Γ.d A L E s9))) (hL : xOK L) (hT : 14 ∈ L) : ∀ (n : Nat) (s : Int32), loop (g4_letters_7 s0) n s = some (r9, s9) → (fun s : Int32 => Go Γ 0 0 (XW Γ.d A L E s0) 7 [(0, .ref (A.1 14 0)), (1, .int s)] []) s := by
  refine loop_walk (P := fun s : Int32 => Go Γ 0 0 (XW Γ.d A L E s0) 7 [(0, .ref (A.1 14 0)), (1, .int s)] []) ?_
  intro K7 hK7 s h
  obtain ⟨v1, rfl⟩ : ∃ z, z = s := ⟨_, rfl⟩
  dsimp only [g4_letters_7] at h
  show Go Γ 0 0 (XW Γ.d A L E s0) 7 [(0, .ref (A.1 14 0)), (1, .int v1)] []
  refine go_aload_n (pc := 7) C dX4_letters_7 rfl 0 rfl ?_
  refine X4g_14_2 (pc := 8) C hL hT dX4_letters_8 ?_
  refine go_iload_n (pc := 11) C dX4_letters_11 rfl 1 rfl ?_
  refine go_iadd (pc := 12) C dX4_letters_12 ?_
  refine go_aload_n (pc := 13) C dX4_letters_13 rfl 0 rfl ?_
  refine X4g_14_6 (pc := 14) C hL hT dX4_letters_14 ?_
  refine X4g_0_8 (pc := 17) C hL dX4_letters_17 ?_
  refine go_icmp_ge (pc := 20) (tgt := 67) C dX4_letters_20 (by decide) h (fun h => ?_) (fun h => ?_)
  · refine go_iload_n (pc := 67) C dX4_letters_67 rfl 1 rfl ?_
    exact (hE 0 0 _ _ _ (Nat.zero_le _) (Nat.zero_le _)).1 _ rfl dX4_letters_68 ⟨congrArg (fun z => some (Value.int z)) (some2 h).1, congrArg (fun z => (XW Γ.d A L E z)) (some2 h).2⟩
  · refine go_aload_n (pc := 23) C dX4_letters_23 rfl 0 rfl ?_
    refine X4g_14_6 (pc := 24) C hL hT dX4_letters_24 ?_
    refine X4g_0_7 (pc := 27) C hL dX4_letters_27 ?_
    refine go_aload_n (pc := 30) C dX4_letters_30 rfl 0 rfl ?_
    refine X4g_14_2 (pc := 31) C hL hT dX4_letters_31 ?_
    refine go_iload_n (pc := 34) C dX4_letters_34 rfl 1 rfl ?_
    refine go_iadd (pc := 35) C dX4_letters_35 ?_
    refine go_bald (pc := 36) C (xa_0_7 hL) h dX4_letters_36 (fun h => ?_)
    refine go_bipush (pc := 37) (v := (97 : Int32)) C dX4_letters_37 (by decide) ?_
    refine go_icmp_lt (pc := 39) (tgt := 67) C dX4_letters_39 (by decide) h (fun h => ?_) (fun h => ?_)
    · refine go_iload_n (pc := 67) C dX4_letters_67 rfl 1 rfl ?_
      exact (hE 0 0 _ _ _ (Nat.zero_le _) (Nat.zero_le _)).1 _ rfl dX4_letters_68 ⟨congrArg (fun z => some (Value.int z)) (some2 h).1, congrArg (fun z => (XW Γ.d A L E z)) (some2 h).2⟩
    · refine go_aload_n (pc := 42) C dX4_letters_42 rfl 0 rfl ?_
      refine X4g_14_6 (pc := 43) C hL hT dX4_letters_43 ?_
      refine X4g_0_7 (pc := 46) C hL dX4_letters_46 ?_
      refine go_aload_n (pc := 49) C dX4_letters_49 rfl 0 rfl ?_
      refine X4g_14_2 (pc := 50) C hL hT dX4_letters_50 ?_
      refine go_iload_n (pc := 53) C dX4_letters_53 rfl 1 rfl ?_
      refine go_iadd (pc := 54) C dX4_letters_54 ?_
      refine go_bald (pc := 55) C (xa_0_7 hL) h dX4_letters_55 (fun h => ?_)
      refine go_bipush (pc := 56) (v := (122 : Int32)) C dX4_letters_56 (by decide) ?_
      refine go_icmp_gt (pc := 58) (tgt := 67) C dX4_letters_58 (by decide) h (fun h => ?_) (fun h => ?_)
      · refine go_iload_n (pc := 67) C dX4_letters_67 rfl 1 rfl ?_
        exact (hE 0 0 _ _ _ (Nat.zero_le _) (Nat.zero_le _)).1 _ rfl dX4_letters_68 ⟨congrArg (fun z => some (Value.int z)) (some2 h).1, congrArg (fun z => (XW Γ.d A L E z)) (some2 h).2⟩
      · refine go_iinc (pc := 61) (v := (v1 + (1 : Int32))) C hN dX4_letters_61 (q := 1) rfl rfl (by decide) rfl ?_
        refine go_goto (pc := 64) (tgt := 7) C dX4_letters_64 (by decide) ?_
        refine go_sub [1, 0] rfl ?_
        exact hK7 (v1 + (1 : Int32)) h
theorem m4_letters {l : Launch} {d : gD} {A : XA} {L : List Nat} {E : va_W} {s0 : (Nat → Bl)} {r9 : Int32} {s9 : (Nat → Bl)} (hL : xOK L) (hT : 14 ∈ L) (h : f4_letters s0 = some (r9, s9)) : Mt l d yX4_letters cX4_letters 2 (some .int) (1, 0, 0) 20 (XW d A L E s0) [.ref (A.1 14 0)] (fun v w => v = some (.int r9) ∧ w = (XW d A L E s9)) := by
  refine Mt.of x4pn (Nat.le_of_ble_eq_true rfl) ?_
  intro Γ hl hd hN C hE
  subst hl; subst hd
  show Go Γ 0 0 (XW Γ.d A L E s0) 0 [(0, .ref (A.1 14 0))] []
  dsimp only [f4_letters] at h
  refine go_aload_n (pc := 0) C dX4_letters_0 rfl 0 rfl ?_
  obtain ⟨r1, s1, e1, h⟩ := bnd2_some h
  refine go_callVi (pc := 1) C [] (m4_see hL hT e1) q562 q564 qs2 q145 q565 x4pd_see (by decide) (by decide) (xO hT hL.1) xc14 rfl (Nat.le_of_ble_eq_true rfl) ⟨Nat.zero_le _, Nat.zero_le _⟩ dX4_letters_1 rfl ?_
  refine go_pop (pc := 4) C dX4_letters_4 rfl ?_
  refine go_iconst (pc := 5) (v := (0 : Int32)) C dX4_letters_5 (by decide) ?_
  refine go_istore_n (pc := 6) C hN dX4_letters_6 rfl (by decide) rfl ?_
  refine go_sub [1, 0] rfl ?_
  exact w4_letters_7 hN C hE hL hT FU (0 : Int32) h
theorem w4_isWord_22 {Γ : Gam} {A : XA} {L : List Nat} {E : va_W} {s0 : (Nat → Bl)} {k1 : Nat} {v2 : Int32} {r9 : Int32} {s9 : (Nat → Bl)} (hN : Γ.nL = 5) (C : Cx Γ cX4_isWord RX4 (4, 0, 0) 85) (hE : Rets Γ cX4_isWord (some .boolean) 0 0 (fun v w => v = some (.int r9) ∧ w = (XW Γ.d A L E s9))) (hL : xOK L) (hT : 14 ∈ L) : ∀ (n : Nat) (s : Int32 × Int32), loop (g4_isWord_22 s0 k1 v2) n s = some (r9, s9) → (fun s : Int32 × Int32 => Go Γ 0 0 (XW Γ.d A L E s0) 22 [(0, .ref (A.1 14 0)), (1, .ref (Γ.d.2.2.1 k1)), (2, .int v2), (3, .int s.1), (4, .int s.2)] []) s := by
  refine loop_walk (P := fun s : Int32 × Int32 => Go Γ 0 0 (XW Γ.d A L E s0) 22 [(0, .ref (A.1 14 0)), (1, .ref (Γ.d.2.2.1 k1)), (2, .int v2), (3, .int s.1), (4, .int s.2)] []) ?_
  intro K22 hK22 s h
  obtain ⟨v3, v4⟩ := s
  dsimp only [g4_isWord_22] at h
  show Go Γ 0 0 (XW Γ.d A L E s0) 22 [(0, .ref (A.1 14 0)), (1, .ref (Γ.d.2.2.1 k1)), (2, .int v2), (3, .int v3), (4, .int v4)] []
  refine go_iload_n (pc := 22) C dX4_isWord_22 rfl 3 rfl ?_
  refine go_if_eq (pc := 23) (tgt := 68) C dX4_isWord_23 (by decide) h (fun h => ?_) (fun h => ?_)
  · refine go_iload_n (pc := 68) C dX4_isWord_68 rfl 3 rfl ?_
    obtain ⟨hz, h⟩ := chk_some h
    exact (hE 0 0 _ _ _ (Nat.zero_le _) (Nat.zero_le _)).2.1 _ rfl (isB_or hz) dX4_isWord_69 ⟨congrArg (fun z => some (Value.int z)) (some2 h).1, congrArg (fun z => (XW Γ.d A L E z)) (some2 h).2⟩
  · refine go_iload (pc := 26) C dX4_isWord_26 4 rfl ?_
    refine go_iload_n (pc := 28) C dX4_isWord_28 rfl 2 rfl ?_
    refine go_icmp_ge (pc := 29) (tgt := 68) C dX4_isWord_29 (by decide) h (fun h => ?_) (fun h => ?_)
    · refine go_iload_n (pc := 68) C dX4_isWord_68 rfl 3 rfl ?_
      obtain ⟨hz, h⟩ := chk_some h
      exact (hE 0 0 _ _ _ (Nat.zero_le _) (Nat.zero_le _)).2.1 _ rfl (isB_or hz) dX4_isWord_69 ⟨congrArg (fun z => some (Value.int z)) (some2 h).1, congrArg (fun z => (XW Γ.d A L E z)) (some2 h).2⟩
    · refine go_aload_n (pc := 32) C dX4_isWord_32 rfl 1 rfl ?_
      refine go_iload (pc := 33) C dX4_isWord_33 4 rfl ?_
      obtain ⟨hi9, h⟩ := chk_some h
      obtain ⟨hj9, h⟩ := chk_some h
      refine go_callVSi (pc := 35) C (of_decide_eq_true hi9) [.int v4] (m_J3_charAt (of_decide_eq_true hi9) hj9) q588 q589 q590 q591 pd_J3_charAt (by decide) (by decide) rfl (Nat.le_of_ble_eq_true rfl) ⟨Nat.zero_le _, Nat.zero_le _⟩ dX4_isWord_35 rfl ?_
      refine go_aload_n (pc := 38) C dX4_isWord_38 rfl 0 rfl ?_
      refine X4g_14_6 (pc := 39) C hL hT dX4_isWord_39 ?_
      refine X4g_0_7 (pc := 42) C hL dX4_isWord_42 ?_
      refine go_aload_n (pc := 45) C dX4_isWord_45 rfl 0 rfl ?_
      refine X4g_14_2 (pc := 46) C hL hT dX4_isWord_46 ?_
      refine go_iload (pc := 49) C dX4_isWord_49 4 rfl ?_
      refine go_iadd (pc := 51) C dX4_isWord_51 ?_
      refine go_bald (pc := 52) C (xa_0_7 hL) h dX4_isWord_52 (fun h => ?_)
      refine go_icmp_ne (pc := 53) (tgt := 60) C dX4_isWord_53 (by decide) h (fun h => ?_) (fun h => ?_)
      · refine go_iconst (pc := 60) (v := (0 : Int32)) C dX4_isWord_60 (by decide) ?_
        refine go_istore_n (pc := 61) C hN dX4_isWord_61 rfl (by decide) rfl ?_
        refine go_iinc (pc := 62) (v := (v4 + (1 : Int32))) C hN dX4_isWord_62 (q := 4) rfl rfl (by decide) rfl ?_
        refine go_goto (pc := 65) (tgt := 22) C dX4_isWord_65 (by decide) ?_
        refine go_sub [2, 3, 4, 1, 0] rfl ?_
        exact hK22 ((0 : Int32), (v4 + (1 : Int32))) h
      · refine go_iconst (pc := 56) (v := (1 : Int32)) C dX4_isWord_56 (by decide) ?_
        refine go_goto (pc := 57) (tgt := 61) C dX4_isWord_57 (by decide) ?_
        refine go_istore_n (pc := 61) C hN dX4_isWord_61 rfl (by decide) rfl ?_
        refine go_iinc (pc := 62) (v := (v4 + (1 : Int32))) C hN dX4_isWord_62 (q := 4) rfl rfl (by decide) rfl ?_
        refine go_goto (pc := 65) (tgt := 22) C dX4_isWord_65 (by decide) ?_
        refine go_sub [2, 3, 4, 1, 0] rfl ?_
        exact hK22 ((1 : Int32), (v4 + (1 : Int32))) h
theorem m4_isWord {l : Launch} {d : gD} {A : XA} {L : List Nat} {E : va_W} {s0 : (Nat → Bl)} {k1 : Nat} {r9 : Int32} {s9 : (Nat → Bl)} (hL : xOK L) (hT : 14 ∈ L) (h : f4_isWord s0 k1 = some (r9, s9)) : Mt l d yX4_isWord cX4_isWord 5 (some .boolean) (4, 0, 0) 85 (XW d A L E s0) [.ref (A.1 14 0), .ref (d.2.2.1 k1)] (fun v w => v = some (.int r9) ∧ w = (XW d A L E s9)) := by
  refine Mt.of x4pn (Nat.le_of_ble_eq_true rfl) ?_
  intro Γ hl hd hN C hE
  subst hl; subst hd
  show Go Γ 0 0 (XW Γ.d A L E s0) 0 [(0, .ref (A.1 14 0)), (1, .ref (Γ.d.2.2.1 k1))] []
  dsimp only [f4_isWord] at h
  refine go_aload_n (pc := 0) C dX4_isWord_0 rfl 0 rfl ?_
  obtain ⟨r1, s1, e1, h⟩ := bnd2_some h
  refine go_callVi (pc := 1) C [] (m4_letters hL hT e1) q574 q576 qs5 q145 q577 x4pd_letters (by decide) (by decide) (xO hT hL.1) xc14 rfl (Nat.le_of_ble_eq_true rfl) ⟨Nat.zero_le _, Nat.zero_le _⟩ dX4_isWord_1 rfl ?_
  refine go_istore_n (pc := 4) C hN dX4_isWord_4 rfl (by decide) rfl ?_
  refine go_iload_n (pc := 5) C dX4_isWord_5 rfl 0 rfl ?_
  refine go_aload_n (pc := 6) C dX4_isWord_6 rfl 2 rfl ?_
  obtain ⟨hi9, h⟩ := chk_some h
  refine go_callVSi (pc := 7) C (of_decide_eq_true hi9) [] (m_J3_length (of_decide_eq_true hi9)) q578 q579 q580 q581 pd_J3_length (by decide) (by decide) rfl (Nat.le_of_ble_eq_true rfl) ⟨Nat.zero_le _, Nat.zero_le _⟩ dX4_isWord_7 rfl ?_
  refine go_icmp_ne (pc := 10) (tgt := 17) C dX4_isWord_10 (by decide) h (fun h => ?_) (fun h => ?_)
  · refine go_iconst (pc := 17) (v := (0 : Int32)) C dX4_isWord_17 (by decide) ?_
    refine go_istore_n (pc := 18) C hN dX4_isWord_18 rfl (by decide) rfl ?_
    refine go_iconst (pc := 19) (v := (0 : Int32)) C dX4_isWord_19 (by decide) ?_
    refine go_istore (pc := 20) C hN dX4_isWord_20 (by decide) rfl ?_
    refine go_sub [3, 4, 2, 1, 0] rfl ?_
    exact w4_isWord_22 hN C hE hL hT FU ((0 : Int32), (0 : Int32)) h
  · refine go_iconst (pc := 13) (v := (1 : Int32)) C dX4_isWord_13 (by decide) ?_
    refine go_goto (pc := 14) (tgt := 18) C dX4_isWord_14 (by decide) ?_
    refine go_istore_n (pc := 18) C hN dX4_isWord_18 rfl (by decide) rfl ?_
    refine go_iconst (pc := 19) (v := (0 : Int32)) C dX4_isWord_19 (by decide) ?_
    refine go_istore (pc := 20) C hN dX4_isWord_20 (by decide) rfl ?_
    refine go_sub [3, 4, 2, 1, 0] rfl ?_
    exact w4_isWord_22 hN C hE hL hT FU ((1 : Int32), (0 : Int32)) h
theorem m4_takesWord {l : Launch} {d : gD} {A : XA} {L : List Nat} {E : va_W} {s0 : (Nat → Bl)} {k1 : Nat} {r9 : Int32} {s9 : (Nat → Bl)} (hL : xOK L) (hT : 14 ∈ L) (h : f4_takesWord s0 k1 = some (r9, s9)) : Mt l d yX4_takesWord cX4_takesWord 2 (some .boolean) (5, 0, 0) 109 (XW d A L E s0) [.ref (A.1 14 0), .ref (d.2.2.1 k1)] (fun v w => v = some (.int r9) ∧ w = (XW d A L E s9)) := by
  refine Mt.of x4pn (Nat.le_of_ble_eq_true rfl) ?_
  intro Γ hl hd hN C hE
  subst hl; subst hd
  show Go Γ 0 0 (XW Γ.d A L E s0) 0 [(0, .ref (A.1 14 0)), (1, .ref (Γ.d.2.2.1 k1))] []
  dsimp only [f4_takesWord] at h
  refine go_aload_n (pc := 0) C dX4_takesWord_0 rfl 0 rfl ?_
  refine go_aload_n (pc := 1) C dX4_takesWord_1 rfl 1 rfl ?_
  obtain ⟨r1, s1, e1, h⟩ := bnd2_some h
  refine go_callVi (pc := 2) C [.ref (Γ.d.2.2.1 k1)] (m4_isWord hL hT e1) q570 q572 qs4 q145 q573 x4pd_isWord (by decide) (by decide) (xO hT hL.1) xc14 rfl (Nat.le_of_ble_eq_true rfl) ⟨Nat.zero_le _, Nat.zero_le _⟩ dX4_takesWord_2 rfl ?_
  refine go_if_ne (pc := 5) (tgt := 10) C dX4_takesWord_5 (by decide) h (fun h => ?_) (fun h => ?_)
  · refine go_aload_n (pc := 10) C dX4_takesWord_10 rfl 0 rfl ?_
    refine go_dup (pc := 11) C dX4_takesWord_11 rfl ?_
    refine X4g_14_2 (pc := 12) C hL hT dX4_takesWord_12 ?_
    refine go_aload_n (pc := 15) C dX4_takesWord_15 rfl 1 rfl ?_
    obtain ⟨hi9, h⟩ := chk_some h
    refine go_callVSi (pc := 16) C (of_decide_eq_true hi9) [] (m_J3_length (of_decide_eq_true hi9)) q578 q579 q580 q581 pd_J3_length (by decide) (by decide) rfl (Nat.le_of_ble_eq_true rfl) ⟨Nat.zero_le _, Nat.zero_le _⟩ dX4_takesWord_16 rfl ?_
    refine go_iadd (pc := 19) C dX4_takesWord_19 ?_
    refine X4p_14_2 (pc := 20) C hL hT dX4_takesWord_20 ?_
    refine go_iconst (pc := 23) (v := (1 : Int32)) C dX4_takesWord_23 (by decide) ?_
    exact (hE 0 0 _ _ _ (Nat.zero_le _) (Nat.zero_le _)).2.1 _ rfl (Or.inr rfl) dX4_takesWord_24 ⟨congrArg (fun z => some (Value.int z)) (some2 h).1, congrArg (fun z => (XW Γ.d A L E z)) (some2 h).2⟩
  · refine go_iconst (pc := 8) (v := (0 : Int32)) C dX4_takesWord_8 (by decide) ?_
    exact (hE 0 0 _ _ _ (Nat.zero_le _) (Nat.zero_le _)).2.1 _ rfl (Or.inl rfl) dX4_takesWord_9 ⟨congrArg (fun z => some (Value.int z)) (some2 h).1, congrArg (fun z => (XW Γ.d A L E z)) (some2 h).2⟩
theorem w4_oneOf_2 {Γ : Gam} {A : XA} {L : List Nat} {E : va_W} {kf : Nat} {nf : Nat} {bs : Nat} {r9 : Int32} {s9 : (Nat → Bl)} (hN : Γ.nL = 3) (C : Cx Γ cX4_oneOf RX4 (5, 0, 0) 109) (hE : Rets Γ cX4_oneOf (some .int) 0 0 (fun v w => v = some (.int r9) ∧ w = (XW Γ.d A L E s9))) (hL : xOK L) (hT : 14 ∈ L) (hS : ∀ x : Nat → Bl, hasA (XW Γ.d A L E x) (A.1 0 (kf + 1)) (Γ.d.2.1 4, nf, .inr (.inr (.inr (.inr (fun i => some (Γ.d.2.2.1 (bs + i)))))))) : ∀ (n : Nat) (s : (Nat → Bl) × Int32), loop (g4_oneOf_2 nf bs) n s = some (r9, s9) → (fun s : (Nat → Bl) × Int32 => Go Γ 0 0 (XW Γ.d A L E s.1) 2 [(0, .ref (A.1 14 0)), (1, .ref (A.1 0 (kf + 1))), (2, .int s.2)] []) s := by
  refine loop_walk (P := fun s : (Nat → Bl) × Int32 => Go Γ 0 0 (XW Γ.d A L E s.1) 2 [(0, .ref (A.1 14 0)), (1, .ref (A.1 0 (kf + 1))), (2, .int s.2)] []) ?_
  intro K2 hK2 s h
  obtain ⟨s0, v2⟩ := s
  dsimp only [g4_oneOf_2] at h
  show Go Γ 0 0 (XW Γ.d A L E s0) 2 [(0, .ref (A.1 14 0)), (1, .ref (A.1 0 (kf + 1))), (2, .int v2)] []
  refine go_iload_n (pc := 2) C dX4_oneOf_2 rfl 2 rfl ?_
  refine go_aload_n (pc := 3) C dX4_oneOf_3 rfl 1 rfl ?_
  refine go_alen (pc := 4) (t := 4) C (hS _) rfl rfl dX4_oneOf_4 ?_
  refine go_icmp_ge (pc := 5) (tgt := 26) C dX4_oneOf_5 (by decide) h (fun h => ?_) (fun h => ?_)
  · refine go_iconst (pc := 26) (v := (-1 : Int32)) C dX4_oneOf_26 (by decide) ?_
    exact (hE 0 0 _ _ _ (Nat.zero_le _) (Nat.zero_le _)).1 _ rfl dX4_oneOf_27 ⟨congrArg (fun z => some (Value.int z)) (some2 h).1, congrArg (fun z => (XW Γ.d A L E z)) (some2 h).2⟩
  · refine go_aload_n (pc := 8) C dX4_oneOf_8 rfl 0 rfl ?_
    refine go_aload_n (pc := 9) C dX4_oneOf_9 rfl 1 rfl ?_
    refine go_iload_n (pc := 10) C dX4_oneOf_10 rfl 2 rfl ?_
    refine go_aald (pc := 11) (t := 4) C (hS _) rfl h dX4_oneOf_11 (fun h => ?_)
    dsimp only [va_rf]
    obtain ⟨r1, s1, e1, h⟩ := bnd2_some h
    refine go_callVi (pc := 12) C [.ref (Γ.d.2.2.1 (bs + (v2).toNatClampNeg))] (m4_isWord hL hT e1) q570 q572 qs4 q145 q573 x4pd_isWord (by decide) (by decide) (xO hT hL.1) xc14 rfl (Nat.le_of_ble_eq_true rfl) ⟨Nat.zero_le _, Nat.zero_le _⟩ dX4_oneOf_12 rfl ?_
    refine go_if_eq (pc := 15) (tgt := 20) C dX4_oneOf_15 (by decide) h (fun h => ?_) (fun h => ?_)
    · refine go_iinc (pc := 20) (v := (v2 + (1 : Int32))) C hN dX4_oneOf_20 (q := 2) rfl rfl (by decide) rfl ?_
      refine go_goto (pc := 23) (tgt := 2) C dX4_oneOf_23 (by decide) ?_
      refine go_sub [1, 2, 0] rfl ?_
      exact hK2 (s1, (v2 + (1 : Int32))) h
    · refine go_iload_n (pc := 18) C dX4_oneOf_18 rfl 2 rfl ?_
      exact (hE 0 0 _ _ _ (Nat.zero_le _) (Nat.zero_le _)).1 _ rfl dX4_oneOf_19 ⟨congrArg (fun z => some (Value.int z)) (some2 h).1, congrArg (fun z => (XW Γ.d A L E z)) (some2 h).2⟩
theorem m4_oneOf {l : Launch} {d : gD} {A : XA} {L : List Nat} {E : va_W} {kf : Nat} {s0 : (Nat → Bl)} {nf : Nat} {bs : Nat} {r9 : Int32} {s9 : (Nat → Bl)} (hL : xOK L) (hT : 14 ∈ L) (hS : ∀ x : Nat → Bl, hasA (XW d A L E x) (A.1 0 (kf + 1)) (d.2.1 4, nf, .inr (.inr (.inr (.inr (fun i => some (d.2.2.1 (bs + i)))))))) (h : f4_oneOf s0 nf bs = some (r9, s9)) : Mt l d yX4_oneOf cX4_oneOf 3 (some .int) (5, 0, 0) 109 (XW d A L E s0) [.ref (A.1 14 0), .ref (A.1 0 (kf + 1))] (fun v w => v = some (.int r9) ∧ w = (XW d A L E s9)) := by
  refine Mt.of x4pn (Nat.le_of_ble_eq_true rfl) ?_
  intro Γ hl hd hN C hE
  subst hl; subst hd
  show Go Γ 0 0 (XW Γ.d A L E s0) 0 [(0, .ref (A.1 14 0)), (1, .ref (A.1 0 (kf + 1)))] []
  dsimp only [f4_oneOf] at h
  refine go_iconst (pc := 0) (v := (0 : Int32)) C dX4_oneOf_0 (by decide) ?_
  refine go_istore_n (pc := 1) C hN dX4_oneOf_1 rfl (by decide) rfl ?_
  refine go_sub [1, 2, 0] rfl ?_
  exact w4_oneOf_2 hN C hE hL hT hS FU (s0, (0 : Int32)) h
theorem m4_isDigit {l : Launch} {d : gD} {A : XA} {L : List Nat} {E : va_W} {s0 : (Nat → Bl)} {v1 : Int32} {r9 : Int32} (hL : xOK L) (hT : 14 ∈ L) (h : f4_isDigit s0 v1 = some r9) : Mt l d yX4_isDigit cX4_isDigit 2 (some .boolean) (0, 0, 0) 0 (XW d A L E s0) [.ref (A.1 14 0), .int v1] (fun v w => v = some (.int r9) ∧ w = (XW d A L E s0)) := by
  refine Mt.of x4pn (Nat.le_of_ble_eq_true rfl) ?_
  intro Γ hl hd hN C hE
  subst hl; subst hd
  show Go Γ 0 0 (XW Γ.d A L E s0) 0 [(0, .ref (A.1 14 0)), (1, .int v1)] []
  dsimp only [f4_isDigit] at h
  refine go_iload_n (pc := 0) C dX4_isDigit_0 rfl 1 rfl ?_
  refine go_aload_n (pc := 1) C dX4_isDigit_1 rfl 0 rfl ?_
  refine X4g_14_6 (pc := 2) C hL hT dX4_isDigit_2 ?_
  refine X4g_0_8 (pc := 5) C hL dX4_isDigit_5 ?_
  refine go_icmp_ge (pc := 8) (tgt := 43) C dX4_isDigit_8 (by decide) h (fun h => ?_) (fun h => ?_)
  · refine go_iconst (pc := 43) (v := (0 : Int32)) C dX4_isDigit_43 (by decide) ?_
    exact (hE 0 0 _ _ _ (Nat.zero_le _) (Nat.zero_le _)).2.1 _ rfl (Or.inl rfl) dX4_isDigit_44 ⟨congrArg (fun z => some (Value.int z)) (some1 h), rfl⟩
  · refine go_aload_n (pc := 11) C dX4_isDigit_11 rfl 0 rfl ?_
    refine X4g_14_6 (pc := 12) C hL hT dX4_isDigit_12 ?_
    refine X4g_0_7 (pc := 15) C hL dX4_isDigit_15 ?_
    refine go_iload_n (pc := 18) C dX4_isDigit_18 rfl 1 rfl ?_
    refine go_bald (pc := 19) C (xa_0_7 hL) h dX4_isDigit_19 (fun h => ?_)
    refine go_bipush (pc := 20) (v := (48 : Int32)) C dX4_isDigit_20 (by decide) ?_
    refine go_icmp_lt (pc := 22) (tgt := 43) C dX4_isDigit_22 (by decide) h (fun h => ?_) (fun h => ?_)
    · refine go_iconst (pc := 43) (v := (0 : Int32)) C dX4_isDigit_43 (by decide) ?_
      exact (hE 0 0 _ _ _ (Nat.zero_le _) (Nat.zero_le _)).2.1 _ rfl (Or.inl rfl) dX4_isDigit_44 ⟨congrArg (fun z => some (Value.int z)) (some1 h), rfl⟩
    · refine go_aload_n (pc := 25) C dX4_isDigit_25 rfl 0 rfl ?_
      refine X4g_14_6 (pc := 26) C hL hT dX4_isDigit_26 ?_
      refine X4g_0_7 (pc := 29) C hL dX4_isDigit_29 ?_
      refine go_iload_n (pc := 32) C dX4_isDigit_32 rfl 1 rfl ?_
      refine go_bald (pc := 33) C (xa_0_7 hL) h dX4_isDigit_33 (fun h => ?_)
      refine go_bipush (pc := 34) (v := (57 : Int32)) C dX4_isDigit_34 (by decide) ?_
      refine go_icmp_gt (pc := 36) (tgt := 43) C dX4_isDigit_36 (by decide) h (fun h => ?_) (fun h => ?_)
      · refine go_iconst (pc := 43) (v := (0 : Int32)) C dX4_isDigit_43 (by decide) ?_
        exact (hE 0 0 _ _ _ (Nat.zero_le _) (Nat.zero_le _)).2.1 _ rfl (Or.inl rfl) dX4_isDigit_44 ⟨congrArg (fun z => some (Value.int z)) (some1 h), rfl⟩
      · refine go_iconst (pc := 39) (v := (1 : Int32)) C dX4_isDigit_39 (by decide) ?_
        refine go_goto (pc := 40) (tgt := 44) C dX4_isDigit_40 (by decide) ?_
        exact (hE 0 0 _ _ _ (Nat.zero_le _) (Nat.zero_le _)).2.1 _ rfl (Or.inr rfl) dX4_isDigit_44 ⟨congrArg (fun z => some (Value.int z)) (some1 h), rfl⟩
theorem w4_canBe_33 {Γ : Gam} {A : XA} {L : List Nat} {E : va_W} {s0 : (Nat → Bl)} {v1 : Int32} {z0 : Int32} {z1 : Int32} {r9 : Int32} (hN : Γ.nL = 2) (C : Cx Γ cX4_canBe RX4 (0, 0, 0) 0) (hE : Rets Γ cX4_canBe (some .boolean) 0 0 (fun v w => v = some (.int r9) ∧ w = (XW Γ.d A L E s0))) (hL : xOK L) (hT : 14 ∈ L) (h : g4_canBe_33 s0 v1 z0 z1 = some r9) : Go Γ 0 0 (XW Γ.d A L E s0) 33 [(0, .ref (A.1 14 0)), (1, .int v1)] [.int z0, .int z1] := by
  dsimp only [g4_canBe_33] at h
  refine go_icmp_eq (pc := 33) (tgt := 38) C dX4_canBe_33 (by decide) h (fun h => ?_) (fun h => ?_)
  · refine go_iload_n (pc := 38) C dX4_canBe_38 rfl 1 rfl ?_
    by_cases c39_1 : v1 = (1 : Int32)
    · have h := (if_pos c39_1).symm.trans h
      refine go_tableK (pc := 39) (tgt := 68) C c39_1 dX4_canBe_39 (by decide) (by decide) rfl (by decide) ?_
      refine go_aload_n (pc := 68) C dX4_canBe_68 rfl 0 rfl ?_
      refine X4g_14_1 (pc := 69) C hL hT dX4_canBe_69 ?_
      refine X4g_3_1 (pc := 72) C hL dX4_canBe_72 ?_
      refine go_bipush (pc := 75) (v := (6 : Int32)) C dX4_canBe_75 (by decide) ?_
      refine go_icmp_ge (pc := 77) (tgt := 84) C dX4_canBe_77 (by decide) h (fun h => ?_) (fun h => ?_)
      · refine go_iconst (pc := 84) (v := (0 : Int32)) C dX4_canBe_84 (by decide) ?_
        exact (hE 0 0 _ _ _ (Nat.zero_le _) (Nat.zero_le _)).2.1 _ rfl (Or.inl rfl) dX4_canBe_85 ⟨congrArg (fun z => some (Value.int z)) (some1 h), rfl⟩
      · refine go_iconst (pc := 80) (v := (1 : Int32)) C dX4_canBe_80 (by decide) ?_
        refine go_goto (pc := 81) (tgt := 85) C dX4_canBe_81 (by decide) ?_
        exact (hE 0 0 _ _ _ (Nat.zero_le _) (Nat.zero_le _)).2.1 _ rfl (Or.inr rfl) dX4_canBe_85 ⟨congrArg (fun z => some (Value.int z)) (some1 h), rfl⟩
    have h := (if_neg c39_1).symm.trans h
    by_cases c39_2 : v1 = (2 : Int32)
    · have h := (if_pos c39_2).symm.trans h
      refine go_tableK (pc := 39) (tgt := 86) C c39_2 dX4_canBe_39 (by decide) (by decide) rfl (by decide) ?_
      refine go_aload_n (pc := 86) C dX4_canBe_86 rfl 0 rfl ?_
      refine X4g_14_1 (pc := 87) C hL hT dX4_canBe_87 ?_
      refine X4g_3_2 (pc := 90) C hL dX4_canBe_90 ?_
      refine go_bipush (pc := 93) (v := (8 : Int32)) C dX4_canBe_93 (by decide) ?_
      refine go_icmp_ge (pc := 95) (tgt := 102) C dX4_canBe_95 (by decide) h (fun h => ?_) (fun h => ?_)
      · refine go_iconst (pc := 102) (v := (0 : Int32)) C dX4_canBe_102 (by decide) ?_
        exact (hE 0 0 _ _ _ (Nat.zero_le _) (Nat.zero_le _)).2.1 _ rfl (Or.inl rfl) dX4_canBe_103 ⟨congrArg (fun z => some (Value.int z)) (some1 h), rfl⟩
      · refine go_iconst (pc := 98) (v := (1 : Int32)) C dX4_canBe_98 (by decide) ?_
        refine go_goto (pc := 99) (tgt := 103) C dX4_canBe_99 (by decide) ?_
        exact (hE 0 0 _ _ _ (Nat.zero_le _) (Nat.zero_le _)).2.1 _ rfl (Or.inr rfl) dX4_canBe_103 ⟨congrArg (fun z => some (Value.int z)) (some1 h), rfl⟩
    have h := (if_neg c39_2).symm.trans h
    by_cases c39_3 : v1 = (3 : Int32)
    · have h := (if_pos c39_3).symm.trans h
      refine go_tableK (pc := 39) (tgt := 104) C c39_3 dX4_canBe_39 (by decide) (by decide) rfl (by decide) ?_
      refine go_aload_n (pc := 104) C dX4_canBe_104 rfl 0 rfl ?_
      refine X4g_14_1 (pc := 105) C hL hT dX4_canBe_105 ?_
      refine X4g_3_5 (pc := 108) C hL dX4_canBe_108 ?_
      refine go_bipush (pc := 111) (v := (12 : Int32)) C dX4_canBe_111 (by decide) ?_
      refine go_icmp_ge (pc := 113) (tgt := 120) C dX4_canBe_113 (by decide) h (fun h => ?_) (fun h => ?_)
      · refine go_iconst (pc := 120) (v := (0 : Int32)) C dX4_canBe_120 (by decide) ?_
        exact (hE 0 0 _ _ _ (Nat.zero_le _) (Nat.zero_le _)).2.1 _ rfl (Or.inl rfl) dX4_canBe_121 ⟨congrArg (fun z => some (Value.int z)) (some1 h), rfl⟩
      · refine go_iconst (pc := 116) (v := (1 : Int32)) C dX4_canBe_116 (by decide) ?_
        refine go_goto (pc := 117) (tgt := 121) C dX4_canBe_117 (by decide) ?_
        exact (hE 0 0 _ _ _ (Nat.zero_le _) (Nat.zero_le _)).2.1 _ rfl (Or.inr rfl) dX4_canBe_121 ⟨congrArg (fun z => some (Value.int z)) (some1 h), rfl⟩
    have h := (if_neg c39_3).symm.trans h
    by_cases c39_4 : v1 = (4 : Int32)
    · have h := (if_pos c39_4).symm.trans h
      refine go_tableK (pc := 39) (tgt := 122) C c39_4 dX4_canBe_39 (by decide) (by decide) rfl (by decide) ?_
      refine go_aload_n (pc := 122) C dX4_canBe_122 rfl 0 rfl ?_
      refine X4g_14_1 (pc := 123) C hL hT dX4_canBe_123 ?_
      refine X4g_3_3 (pc := 126) C hL dX4_canBe_126 ?_
      refine go_bipush (pc := 129) (v := (6 : Int32)) C dX4_canBe_129 (by decide) ?_
      refine go_icmp_ge (pc := 131) (tgt := 138) C dX4_canBe_131 (by decide) h (fun h => ?_) (fun h => ?_)
      · refine go_iconst (pc := 138) (v := (0 : Int32)) C dX4_canBe_138 (by decide) ?_
        exact (hE 0 0 _ _ _ (Nat.zero_le _) (Nat.zero_le _)).2.1 _ rfl (Or.inl rfl) dX4_canBe_139 ⟨congrArg (fun z => some (Value.int z)) (some1 h), rfl⟩
      · refine go_iconst (pc := 134) (v := (1 : Int32)) C dX4_canBe_134 (by decide) ?_
        refine go_goto (pc := 135) (tgt := 139) C dX4_canBe_135 (by decide) ?_
        exact (hE 0 0 _ _ _ (Nat.zero_le _) (Nat.zero_le _)).2.1 _ rfl (Or.inr rfl) dX4_canBe_139 ⟨congrArg (fun z => some (Value.int z)) (some1 h), rfl⟩
    have h := (if_neg c39_4).symm.trans h
    refine go_tableD (pc := 39) (tgt := 140) C [(1 : Int32), (2 : Int32), (3 : Int32), (4 : Int32)] (List.forall_mem_cons.mpr ⟨c39_1, List.forall_mem_cons.mpr ⟨c39_2, List.forall_mem_cons.mpr ⟨c39_3, List.forall_mem_cons.mpr ⟨c39_4, fun _ h9 => absurd h9 List.not_mem_nil⟩⟩⟩⟩) dX4_canBe_39 (by decide) (by decide +kernel) (by decide) (by decide) (by decide) ?_
    refine go_iconst (pc := 140) (v := (1 : Int32)) C dX4_canBe_140 (by decide) ?_
    exact (hE 0 0 _ _ _ (Nat.zero_le _) (Nat.zero_le _)).2.1 _ rfl (Or.inr rfl) dX4_canBe_141 ⟨congrArg (fun z => some (Value.int z)) (some1 h), rfl⟩
  · refine go_iconst (pc := 36) (v := (0 : Int32)) C dX4_canBe_36 (by decide) ?_
    exact (hE 0 0 _ _ _ (Nat.zero_le _) (Nat.zero_le _)).2.1 _ rfl (Or.inl rfl) dX4_canBe_37 ⟨congrArg (fun z => some (Value.int z)) (some1 h), rfl⟩
theorem m4_canBe {l : Launch} {d : gD} {A : XA} {L : List Nat} {E : va_W} {s0 : (Nat → Bl)} {v1 : Int32} {r9 : Int32} (hL : xOK L) (hT : 14 ∈ L) (h : f4_canBe s0 v1 = some r9) : Mt l d yX4_canBe cX4_canBe 2 (some .boolean) (0, 0, 0) 0 (XW d A L E s0) [.ref (A.1 14 0), .int v1] (fun v w => v = some (.int r9) ∧ w = (XW d A L E s0)) := by
  refine Mt.of x4pn (Nat.le_of_ble_eq_true rfl) ?_
  intro Γ hl hd hN C hE
  subst hl; subst hd
  show Go Γ 0 0 (XW Γ.d A L E s0) 0 [(0, .ref (A.1 14 0)), (1, .int v1)] []
  dsimp only [f4_canBe] at h
  refine go_aload_n (pc := 0) C dX4_canBe_0 rfl 0 rfl ?_
  refine X4g_14_5 (pc := 1) C hL hT dX4_canBe_1 ?_
  refine go_bipush (pc := 4) (v := (40 : Int32)) C dX4_canBe_4 (by decide) ?_
  refine go_icmp_ge (pc := 6) (tgt := 36) C dX4_canBe_6 (by decide) h (fun h => ?_) (fun h => ?_)
  · refine go_iconst (pc := 36) (v := (0 : Int32)) C dX4_canBe_36 (by decide) ?_
    exact (hE 0 0 _ _ _ (Nat.zero_le _) (Nat.zero_le _)).2.1 _ rfl (Or.inl rfl) dX4_canBe_37 ⟨congrArg (fun z => some (Value.int z)) (some1 h), rfl⟩
  · refine go_iload_n (pc := 9) C dX4_canBe_9 rfl 1 rfl ?_
    refine go_if_ne (pc := 10) (tgt := 17) C dX4_canBe_10 (by decide) h (fun h => ?_) (fun h => ?_)
    · refine go_iconst (pc := 17) (v := (0 : Int32)) C dX4_canBe_17 (by decide) ?_
      refine go_aload_n (pc := 18) C dX4_canBe_18 rfl 0 rfl ?_
      refine X4g_14_1 (pc := 19) C hL hT dX4_canBe_19 ?_
      refine X4g_3_0 (pc := 22) C hL dX4_canBe_22 ?_
      refine go_if_ne (pc := 25) (tgt := 32) C dX4_canBe_25 (by decide) h (fun h => ?_) (fun h => ?_)
      · refine go_iconst (pc := 32) (v := (0 : Int32)) C dX4_canBe_32 (by decide) ?_
        exact w4_canBe_33 hN C hE hL hT h
      · refine go_iconst (pc := 28) (v := (1 : Int32)) C dX4_canBe_28 (by decide) ?_
        refine go_goto (pc := 29) (tgt := 33) C dX4_canBe_29 (by decide) ?_
        exact w4_canBe_33 hN C hE hL hT h
    · refine go_iconst (pc := 13) (v := (1 : Int32)) C dX4_canBe_13 (by decide) ?_
      refine go_goto (pc := 14) (tgt := 18) C dX4_canBe_14 (by decide) ?_
      refine go_aload_n (pc := 18) C dX4_canBe_18 rfl 0 rfl ?_
      refine X4g_14_1 (pc := 19) C hL hT dX4_canBe_19 ?_
      refine X4g_3_0 (pc := 22) C hL dX4_canBe_22 ?_
      refine go_if_ne (pc := 25) (tgt := 32) C dX4_canBe_25 (by decide) h (fun h => ?_) (fun h => ?_)
      · refine go_iconst (pc := 32) (v := (0 : Int32)) C dX4_canBe_32 (by decide) ?_
        exact w4_canBe_33 hN C hE hL hT h
      · refine go_iconst (pc := 28) (v := (1 : Int32)) C dX4_canBe_28 (by decide) ?_
        refine go_goto (pc := 29) (tgt := 33) C dX4_canBe_29 (by decide) ?_
        exact w4_canBe_33 hN C hE hL hT h
theorem m4_demand {l : Launch} {d : gD} {A : XA} {L : List Nat} {E : va_W} {s0 : (Nat → Bl)} {v1 : Int32} {v2 : Int32} {v3 : Int32} {r9 : ((Nat → Bl) ⊕ (Nat → Bl))} (hL : xOK L) (hT : 14 ∈ L) (h : f4_demand s0 v1 v2 v3 = some r9) : MtX l d yX4_demand cX4_demand 4 none (0, 0, 0) 0 (XW d A L E s0) [.ref (A.1 14 0), .int v1, .int v2, .int v3] (fun v w => ∃ s9 : (Nat → Bl), r9 = .inr s9 ∧ v = none ∧ w = (XW d A L E s9)) (fun w => ∃ s9 : (Nat → Bl), r9 = .inl s9 ∧ w = (XW d A L E s9)) := by
  refine MtX.of x4pn (Nat.le_of_ble_eq_true rfl) ?_
  intro Γ hl hd hN C hE hX
  subst hl; subst hd
  show Go Γ 0 0 (XW Γ.d A L E s0) 0 [(0, .ref (A.1 14 0)), (1, .int v1), (2, .int v2), (3, .int v3)] []
  dsimp only [f4_demand] at h
  refine go_iload_n (pc := 0) C dX4_demand_0 rfl 1 rfl ?_
  refine go_if_eq (pc := 1) (tgt := 5) C dX4_demand_1 (by decide) h (fun h => ?_) (fun h => ?_)
  · refine go_aload_n (pc := 5) C dX4_demand_5 rfl 0 rfl ?_
    refine X4g_14_6 (pc := 6) C hL hT dX4_demand_6 ?_
    refine X4g_0_6 (pc := 9) C hL dX4_demand_9 ?_
    refine go_iload_n (pc := 12) C dX4_demand_12 rfl 2 rfl ?_
    refine X4p_13_6 (pc := 13) C hL dX4_demand_13 ?_
    refine go_aload_n (pc := 16) C dX4_demand_16 rfl 0 rfl ?_
    refine X4g_14_6 (pc := 17) C hL hT dX4_demand_17 ?_
    refine X4g_0_6 (pc := 20) C hL dX4_demand_20 ?_
    refine go_iload_n (pc := 23) C dX4_demand_23 rfl 3 rfl ?_
    refine X4p_13_7 (pc := 24) C hL dX4_demand_24 ?_
    refine go_aload_n (pc := 27) C dX4_demand_27 rfl 0 rfl ?_
    refine X4g_14_6 (pc := 28) C hL hT dX4_demand_28 ?_
    refine X4g_0_6 (pc := 31) C hL dX4_demand_31 ?_
    refine go_athrow C (xO (hL.2 13 (by decide)) hL.1) xc13 dX4_demand_34 ?_
    exact hX 0 0 _ _ _ _ (Nat.zero_le _) (Nat.zero_le _) ⟨_, (some1 h).symm, rfl⟩
  · exact (hE 0 0 _ _ _ (Nat.zero_le _) (Nat.zero_le _)).2.2.2.1 rfl dX4_demand_4 ⟨_, (some1 h).symm, rfl, rfl⟩
theorem w4_number_24 {Γ : Gam} {A : XA} {L : List Nat} {E : va_W} {v1 : Int32} {v2 : Int32} {v3 : Int32} {r9 : ((Nat → Bl) ⊕ (Int32 × (Nat → Bl)))} (hN : Γ.nL = 5) (C : Cx Γ cX4_number RX4 (1, 0, 0) 25) (hE : Rets Γ cX4_number (some .int) 0 0 (fun v w => ∃ (a9 : Int32) (s9 : (Nat → Bl)), r9 = .inr (a9, s9) ∧ v = some (.int a9) ∧ w = (XW Γ.d A L E s9))) (hL : xOK L) (hT : 14 ∈ L) (hX : ∀ (k n : Nat) (ws' : va_W) (pc : Nat) (lv : List (Nat × Value)) (st : List Value), k ≤ 0 → n ≤ 0 → (fun w => ∃ s9 : (Nat → Bl), r9 = .inl s9 ∧ w = (XW Γ.d A L E s9)) ws' → GoX Γ k n ws' pc lv st) : ∀ (n : Nat) (s : (Nat → Bl) × Int32), loop (g4_number_24 v1 v2 v3) n s = some r9 → (fun s : (Nat → Bl) × Int32 => Go Γ 0 0 (XW Γ.d A L E s.1) 24 [(0, .ref (A.1 14 0)), (1, .int v1), (2, .int v2), (3, .int v3), (4, .int s.2)] []) s := by
  refine loop_walk (P := fun s : (Nat → Bl) × Int32 => Go Γ 0 0 (XW Γ.d A L E s.1) 24 [(0, .ref (A.1 14 0)), (1, .int v1), (2, .int v2), (3, .int v3), (4, .int s.2)] []) ?_
  intro K24 hK24 s h
  obtain ⟨s0, v4⟩ := s
  dsimp only [g4_number_24] at h
  show Go Γ 0 0 (XW Γ.d A L E s0) 24 [(0, .ref (A.1 14 0)), (1, .int v1), (2, .int v2), (3, .int v3), (4, .int v4)] []
  refine go_aload_n (pc := 24) C dX4_number_24 rfl 0 rfl ?_
  refine go_aload_n (pc := 25) C dX4_number_25 rfl 0 rfl ?_
  refine X4g_14_2 (pc := 26) C hL hT dX4_number_26 ?_
  obtain ⟨r4, e4, h⟩ := bnd_some h
  refine go_callVi (pc := 29) C [.int ((s0 14).1 2)] (m4_isDigit hL hT e4) q642 q644 qs10 q145 q645 x4pd_isDigit (by decide) (by decide) (xO hT hL.1) xc14 rfl (Nat.le_of_ble_eq_true rfl) ⟨Nat.zero_le _, Nat.zero_le _⟩ dX4_number_29 rfl ?_
  refine go_if_eq (pc := 32) (tgt := 81) C dX4_number_32 (by decide) h (fun h => ?_) (fun h => ?_)
  · refine go_aload_n (pc := 81) C dX4_number_81 rfl 0 rfl ?_
    refine go_aload_n (pc := 82) C dX4_number_82 rfl 0 rfl ?_
    refine X4g_14_2 (pc := 83) C hL hT dX4_number_83 ?_
    refine go_iload_n (pc := 86) C dX4_number_86 rfl 3 rfl ?_
    refine go_isub (pc := 87) C dX4_number_87 ?_
    refine go_iconst (pc := 88) (v := (5 : Int32)) C dX4_number_88 (by decide) ?_
    refine go_icmp_gt (pc := 89) (tgt := 109) C dX4_number_89 (by decide) h (fun h => ?_) (fun h => ?_)
    · refine go_iconst (pc := 109) (v := (0 : Int32)) C dX4_number_109 (by decide) ?_
      refine go_iconst (pc := 110) (v := (1 : Int32)) C dX4_number_110 (by decide) ?_
      refine go_iload_n (pc := 111) C dX4_number_111 rfl 3 rfl ?_
      obtain ⟨t5, e5, hk9, hx9⟩ := bndX_some h
      refine go_callVXv (pc := 112) C [.int (0 : Int32), .int (1 : Int32), .int v3] (m4_demand hL hT e5) q626 q628 qs6 q145 q629 x4pd_demand (by decide) (by decide) (xO hT hL.1) xc14 rfl (Nat.le_of_ble_eq_true rfl) ⟨Nat.zero_le _, Nat.zero_le _⟩ dX4_number_112 rfl (fun s5 q9 => ?_) (fun t9 q9 => hX 0 0 _ _ _ _ (Nat.zero_le _) (Nat.zero_le _) ⟨_, hx9 _ q9, rfl⟩)
      have h := hk9 _ q9
      refine go_iload (pc := 115) C dX4_number_115 4 rfl ?_
      exact (hE 0 0 _ _ _ (Nat.zero_le _) (Nat.zero_le _)).1 _ rfl dX4_number_117 ⟨_, _, (some1 h).symm, rfl, rfl⟩
    · refine go_iload (pc := 92) C dX4_number_92 4 rfl ?_
      refine go_i2l (pc := 94) C dX4_number_94 ?_
      refine go_iload_n (pc := 95) C dX4_number_95 rfl 1 rfl ?_
      refine go_i2l (pc := 96) C dX4_number_96 ?_
      refine go_iload_n (pc := 97) C dX4_number_97 rfl 2 rfl ?_
      refine go_i2l (pc := 98) C dX4_number_98 ?_
      obtain ⟨r6, e6, h⟩ := bnd_some h
      refine go_callSNi (pc := 99) C [.long (v4).toInt64, .long (v1).toInt64, .long (v2).toInt64] (m0_in e6) q646 q647 q138 q648 x0pd_in (by decide) (by decide) rfl (Nat.le_of_ble_eq_true rfl) ⟨Nat.zero_le _, Nat.zero_le _⟩ dX4_number_99 rfl ?_
      refine go_if_eq (pc := 102) (tgt := 109) C dX4_number_102 (by decide) h (fun h => ?_) (fun h => ?_)
      · refine go_iconst (pc := 109) (v := (0 : Int32)) C dX4_number_109 (by decide) ?_
        refine go_iconst (pc := 110) (v := (1 : Int32)) C dX4_number_110 (by decide) ?_
        refine go_iload_n (pc := 111) C dX4_number_111 rfl 3 rfl ?_
        obtain ⟨t7, e7, hk9, hx9⟩ := bndX_some h
        refine go_callVXv (pc := 112) C [.int (0 : Int32), .int (1 : Int32), .int v3] (m4_demand hL hT e7) q626 q628 qs6 q145 q629 x4pd_demand (by decide) (by decide) (xO hT hL.1) xc14 rfl (Nat.le_of_ble_eq_true rfl) ⟨Nat.zero_le _, Nat.zero_le _⟩ dX4_number_112 rfl (fun s7 q9 => ?_) (fun t9 q9 => hX 0 0 _ _ _ _ (Nat.zero_le _) (Nat.zero_le _) ⟨_, hx9 _ q9, rfl⟩)
        have h := hk9 _ q9
        refine go_iload (pc := 115) C dX4_number_115 4 rfl ?_
        exact (hE 0 0 _ _ _ (Nat.zero_le _) (Nat.zero_le _)).1 _ rfl dX4_number_117 ⟨_, _, (some1 h).symm, rfl, rfl⟩
      · refine go_iconst (pc := 105) (v := (1 : Int32)) C dX4_number_105 (by decide) ?_
        refine go_goto (pc := 106) (tgt := 110) C dX4_number_106 (by decide) ?_
        refine go_iconst (pc := 110) (v := (1 : Int32)) C dX4_number_110 (by decide) ?_
        refine go_iload_n (pc := 111) C dX4_number_111 rfl 3 rfl ?_
        obtain ⟨t8, e8, hk9, hx9⟩ := bndX_some h
        refine go_callVXv (pc := 112) C [.int (1 : Int32), .int (1 : Int32), .int v3] (m4_demand hL hT e8) q626 q628 qs6 q145 q629 x4pd_demand (by decide) (by decide) (xO hT hL.1) xc14 rfl (Nat.le_of_ble_eq_true rfl) ⟨Nat.zero_le _, Nat.zero_le _⟩ dX4_number_112 rfl (fun s8 q9 => ?_) (fun t9 q9 => hX 0 0 _ _ _ _ (Nat.zero_le _) (Nat.zero_le _) ⟨_, hx9 _ q9, rfl⟩)
        have h := hk9 _ q9
        refine go_iload (pc := 115) C dX4_number_115 4 rfl ?_
        exact (hE 0 0 _ _ _ (Nat.zero_le _) (Nat.zero_le _)).1 _ rfl dX4_number_117 ⟨_, _, (some1 h).symm, rfl, rfl⟩
  · refine go_aload_n (pc := 35) C dX4_number_35 rfl 0 rfl ?_
    refine X4g_14_2 (pc := 36) C hL hT dX4_number_36 ?_
    refine go_iload_n (pc := 39) C dX4_number_39 rfl 3 rfl ?_
    refine go_isub (pc := 40) C dX4_number_40 ?_
    refine go_iconst (pc := 41) (v := (5 : Int32)) C dX4_number_41 (by decide) ?_
    refine go_icmp_ge (pc := 42) (tgt := 68) C dX4_number_42 (by decide) h (fun h => ?_) (fun h => ?_)
    · refine go_aload_n (pc := 68) C dX4_number_68 rfl 0 rfl ?_
      refine go_dup (pc := 69) C dX4_number_69 rfl ?_
      refine X4g_14_2 (pc := 70) C hL hT dX4_number_70 ?_
      refine go_iconst (pc := 73) (v := (1 : Int32)) C dX4_number_73 (by decide) ?_
      refine go_iadd (pc := 74) C dX4_number_74 ?_
      refine X4p_14_2 (pc := 75) C hL hT dX4_number_75 ?_
      refine go_goto (pc := 78) (tgt := 24) C dX4_number_78 (by decide) ?_
      exact hK24 ((upX s0 14 (bI (s0 14) 2 (((s0 14).1 2) + (1 : Int32)))), v4) h
    · refine go_bipush (pc := 45) (v := (10 : Int32)) C dX4_number_45 (by decide) ?_
      refine go_iload (pc := 47) C dX4_number_47 4 rfl ?_
      refine go_imul (pc := 49) C dX4_number_49 ?_
      refine go_aload_n (pc := 50) C dX4_number_50 rfl 0 rfl ?_
      refine X4g_14_6 (pc := 51) C hL hT dX4_number_51 ?_
      refine X4g_0_7 (pc := 54) C hL dX4_number_54 ?_
      refine go_aload_n (pc := 57) C dX4_number_57 rfl 0 rfl ?_
      refine X4g_14_2 (pc := 58) C hL hT dX4_number_58 ?_
      refine go_bald (pc := 61) C (xa_0_7 hL) h dX4_number_61 (fun h => ?_)
      refine go_iadd (pc := 62) C dX4_number_62 ?_
      refine go_bipush (pc := 63) (v := (48 : Int32)) C dX4_number_63 (by decide) ?_
      refine go_isub (pc := 65) C dX4_number_65 ?_
      refine go_topi (pc := 66) (fun y9 ey9 => ?_)
      have h := ltv_eq ey9 h
      refine go_istore (pc := 66) C hN dX4_number_66 (by decide) rfl ?_
      refine go_aload_n (pc := 68) C dX4_number_68 rfl 1 rfl ?_
      refine go_dup (pc := 69) C dX4_number_69 rfl ?_
      refine X4g_14_2 (pc := 70) C hL hT dX4_number_70 ?_
      refine go_iconst (pc := 73) (v := (1 : Int32)) C dX4_number_73 (by decide) ?_
      refine go_iadd (pc := 74) C dX4_number_74 ?_
      refine X4p_14_2 (pc := 75) C hL hT dX4_number_75 ?_
      refine go_goto (pc := 78) (tgt := 24) C dX4_number_78 (by decide) ?_
      refine go_sub [1, 2, 3, 4, 0] rfl ?_
      exact hK24 ((upX s0 14 (bI (s0 14) 2 (((s0 14).1 2) + (1 : Int32)))), y9) h
theorem m4_number {l : Launch} {d : gD} {A : XA} {L : List Nat} {E : va_W} {s0 : (Nat → Bl)} {v1 : Int32} {v2 : Int32} {r9 : ((Nat → Bl) ⊕ (Int32 × (Nat → Bl)))} (hL : xOK L) (hT : 14 ∈ L) (h : f4_number s0 v1 v2 = some r9) : MtX l d yX4_number cX4_number 5 (some .int) (1, 0, 0) 25 (XW d A L E s0) [.ref (A.1 14 0), .int v1, .int v2] (fun v w => ∃ (a9 : Int32) (s9 : (Nat → Bl)), r9 = .inr (a9, s9) ∧ v = some (.int a9) ∧ w = (XW d A L E s9)) (fun w => ∃ s9 : (Nat → Bl), r9 = .inl s9 ∧ w = (XW d A L E s9)) := by
  refine MtX.of x4pn (Nat.le_of_ble_eq_true rfl) ?_
  intro Γ hl hd hN C hE hX
  subst hl; subst hd
  show Go Γ 0 0 (XW Γ.d A L E s0) 0 [(0, .ref (A.1 14 0)), (1, .int v1), (2, .int v2)] []
  dsimp only [f4_number] at h
  refine go_aload_n (pc := 0) C dX4_number_0 rfl 0 rfl ?_
  obtain ⟨r1, s1, e1, h⟩ := bnd2_some h
  refine go_callVi (pc := 1) C [] (m4_see hL hT e1) q562 q564 qs2 q145 q565 x4pd_see (by decide) (by decide) (xO hT hL.1) xc14 rfl (Nat.le_of_ble_eq_true rfl) ⟨Nat.zero_le _, Nat.zero_le _⟩ dX4_number_1 rfl ?_
  refine go_pop (pc := 4) C dX4_number_4 rfl ?_
  refine go_aload_n (pc := 5) C dX4_number_5 rfl 0 rfl ?_
  refine X4g_14_2 (pc := 6) C hL hT dX4_number_6 ?_
  refine go_istore_n (pc := 9) C hN dX4_number_9 rfl (by decide) rfl ?_
  refine go_aload_n (pc := 10) C dX4_number_10 rfl 1 rfl ?_
  refine go_aload_n (pc := 11) C dX4_number_11 rfl 1 rfl ?_
  refine go_iload_n (pc := 12) C dX4_number_12 rfl 0 rfl ?_
  obtain ⟨r2, e2, h⟩ := bnd_some h
  refine go_callVi (pc := 13) C [.int ((s1 14).1 2)] (m4_isDigit hL hT e2) q642 q644 qs10 q145 q645 x4pd_isDigit (by decide) (by decide) (xO hT hL.1) xc14 rfl (Nat.le_of_ble_eq_true rfl) ⟨Nat.zero_le _, Nat.zero_le _⟩ dX4_number_13 rfl ?_
  refine go_iconst (pc := 16) (v := (0 : Int32)) C dX4_number_16 (by decide) ?_
  refine go_iload_n (pc := 17) C dX4_number_17 rfl 0 rfl ?_
  obtain ⟨t3, e3, hk9, hx9⟩ := bndX_some h
  refine go_callVXv (pc := 18) C [.int r2, .int (0 : Int32), .int ((s1 14).1 2)] (m4_demand hL hT e3) q626 q628 qs6 q145 q629 x4pd_demand (by decide) (by decide) (xO hT hL.1) xc14 rfl (Nat.le_of_ble_eq_true rfl) ⟨Nat.zero_le _, Nat.zero_le _⟩ dX4_number_18 rfl (fun s3 q9 => ?_) (fun t9 q9 => hX 0 0 _ _ _ _ (Nat.zero_le _) (Nat.zero_le _) ⟨_, hx9 _ q9, rfl⟩)
  have h := hk9 _ q9
  refine go_iconst (pc := 21) (v := (0 : Int32)) C dX4_number_21 (by decide) ?_
  refine go_istore (pc := 22) C hN dX4_number_22 (by decide) rfl ?_
  refine go_sub [2, 3, 4, 1, 0] rfl ?_
  exact w4_number_24 hN C hE hL hT hX FU (s3, (0 : Int32)) h
theorem m4_makes {l : Launch} {d : gD} {A : XA} {L : List Nat} {E : va_W} {s0 : (Nat → Bl)} {v1 : Int32} {r9 : ((Nat → Bl) ⊕ (Nat → Bl))} (hL : xOK L) (hT : 14 ∈ L) (h : f4_makes s0 v1 = some r9) : MtX l d yX4_makes cX4_makes 2 none (1, 0, 0) 23 (XW d A L E s0) [.ref (A.1 14 0), .int v1] (fun v w => ∃ s9 : (Nat → Bl), r9 = .inr s9 ∧ v = none ∧ w = (XW d A L E s9)) (fun w => ∃ s9 : (Nat → Bl), r9 = .inl s9 ∧ w = (XW d A L E s9)) := by
  refine MtX.of x4pn (Nat.le_of_ble_eq_true rfl) ?_
  intro Γ hl hd hN C hE hX
  subst hl; subst hd
  show Go Γ 0 0 (XW Γ.d A L E s0) 0 [(0, .ref (A.1 14 0)), (1, .int v1)] []
  dsimp only [f4_makes] at h
  refine go_aload_n (pc := 0) C dX4_makes_0 rfl 0 rfl ?_
  refine go_aload_n (pc := 1) C dX4_makes_1 rfl 0 rfl ?_
  refine X4g_14_4 (pc := 2) C hL hT dX4_makes_2 ?_
  refine go_bipush (pc := 5) (v := (60 : Int32)) C dX4_makes_5 (by decide) ?_
  refine go_icmp_ge (pc := 7) (tgt := 14) C dX4_makes_7 (by decide) h (fun h => ?_) (fun h => ?_)
  · refine go_iconst (pc := 14) (v := (0 : Int32)) C dX4_makes_14 (by decide) ?_
    refine go_iconst (pc := 15) (v := (3 : Int32)) C dX4_makes_15 (by decide) ?_
    refine go_iload_n (pc := 16) C dX4_makes_16 rfl 1 rfl ?_
    obtain ⟨t1, e1, hk9, hx9⟩ := bndX_some h
    refine go_callVXv (pc := 17) C [.int (0 : Int32), .int (3 : Int32), .int v1] (m4_demand hL hT e1) q626 q628 qs6 q145 q629 x4pd_demand (by decide) (by decide) (xO hT hL.1) xc14 rfl (Nat.le_of_ble_eq_true rfl) ⟨Nat.zero_le _, Nat.zero_le _⟩ dX4_makes_17 rfl (fun s1 q9 => ?_) (fun t9 q9 => hX 0 0 _ _ _ _ (Nat.zero_le _) (Nat.zero_le _) ⟨_, hx9 _ q9, rfl⟩)
    have h := hk9 _ q9
    refine go_aload_n (pc := 20) C dX4_makes_20 rfl 0 rfl ?_
    refine go_dup (pc := 21) C dX4_makes_21 rfl ?_
    refine X4g_14_4 (pc := 22) C hL hT dX4_makes_22 ?_
    refine go_iconst (pc := 25) (v := (1 : Int32)) C dX4_makes_25 (by decide) ?_
    refine go_iadd (pc := 26) C dX4_makes_26 ?_
    refine X4p_14_4 (pc := 27) C hL hT dX4_makes_27 ?_
    exact (hE 0 0 _ _ _ (Nat.zero_le _) (Nat.zero_le _)).2.2.2.1 rfl dX4_makes_30 ⟨_, (some1 h).symm, rfl, rfl⟩
  · refine go_iconst (pc := 10) (v := (1 : Int32)) C dX4_makes_10 (by decide) ?_
    refine go_goto (pc := 11) (tgt := 15) C dX4_makes_11 (by decide) ?_
    refine go_iconst (pc := 15) (v := (3 : Int32)) C dX4_makes_15 (by decide) ?_
    refine go_iload_n (pc := 16) C dX4_makes_16 rfl 1 rfl ?_
    obtain ⟨t2, e2, hk9, hx9⟩ := bndX_some h
    refine go_callVXv (pc := 17) C [.int (1 : Int32), .int (3 : Int32), .int v1] (m4_demand hL hT e2) q626 q628 qs6 q145 q629 x4pd_demand (by decide) (by decide) (xO hT hL.1) xc14 rfl (Nat.le_of_ble_eq_true rfl) ⟨Nat.zero_le _, Nat.zero_le _⟩ dX4_makes_17 rfl (fun s2 q9 => ?_) (fun t9 q9 => hX 0 0 _ _ _ _ (Nat.zero_le _) (Nat.zero_le _) ⟨_, hx9 _ q9, rfl⟩)
    have h := hk9 _ q9
    refine go_aload_n (pc := 20) C dX4_makes_20 rfl 0 rfl ?_
    refine go_dup (pc := 21) C dX4_makes_21 rfl ?_
    refine X4g_14_4 (pc := 22) C hL hT dX4_makes_22 ?_
    refine go_iconst (pc := 25) (v := (1 : Int32)) C dX4_makes_25 (by decide) ?_
    refine go_iadd (pc := 26) C dX4_makes_26 ?_
    refine X4p_14_4 (pc := 27) C hL hT dX4_makes_27 ?_
    exact (hE 0 0 _ _ _ (Nat.zero_le _) (Nat.zero_le _)).2.2.2.1 rfl dX4_makes_30 ⟨_, (some1 h).symm, rfl, rfl⟩
theorem m4_opens {l : Launch} {d : gD} {A : XA} {L : List Nat} {E : va_W} {s0 : (Nat → Bl)} {v1 : Int32} {r9 : ((Nat → Bl) ⊕ (Nat → Bl))} (hL : xOK L) (hT : 14 ∈ L) (h : f4_opens s0 v1 = some r9) : MtX l d yX4_opens cX4_opens 2 none (1, 0, 0) 23 (XW d A L E s0) [.ref (A.1 14 0), .int v1] (fun v w => ∃ s9 : (Nat → Bl), r9 = .inr s9 ∧ v = none ∧ w = (XW d A L E s9)) (fun w => ∃ s9 : (Nat → Bl), r9 = .inl s9 ∧ w = (XW d A L E s9)) := by
  refine MtX.of x4pn (Nat.le_of_ble_eq_true rfl) ?_
  intro Γ hl hd hN C hE hX
  subst hl; subst hd
  show Go Γ 0 0 (XW Γ.d A L E s0) 0 [(0, .ref (A.1 14 0)), (1, .int v1)] []
  dsimp only [f4_opens] at h
  refine go_aload_n (pc := 0) C dX4_opens_0 rfl 0 rfl ?_
  refine go_aload_n (pc := 1) C dX4_opens_1 rfl 0 rfl ?_
  refine X4g_14_3 (pc := 2) C hL hT dX4_opens_2 ?_
  refine go_bipush (pc := 5) (v := (10 : Int32)) C dX4_opens_5 (by decide) ?_
  refine go_icmp_ge (pc := 7) (tgt := 14) C dX4_opens_7 (by decide) h (fun h => ?_) (fun h => ?_)
  · refine go_iconst (pc := 14) (v := (0 : Int32)) C dX4_opens_14 (by decide) ?_
    refine go_iconst (pc := 15) (v := (2 : Int32)) C dX4_opens_15 (by decide) ?_
    refine go_iload_n (pc := 16) C dX4_opens_16 rfl 1 rfl ?_
    obtain ⟨t1, e1, hk9, hx9⟩ := bndX_some h
    refine go_callVXv (pc := 17) C [.int (0 : Int32), .int (2 : Int32), .int v1] (m4_demand hL hT e1) q626 q628 qs6 q145 q629 x4pd_demand (by decide) (by decide) (xO hT hL.1) xc14 rfl (Nat.le_of_ble_eq_true rfl) ⟨Nat.zero_le _, Nat.zero_le _⟩ dX4_opens_17 rfl (fun s1 q9 => ?_) (fun t9 q9 => hX 0 0 _ _ _ _ (Nat.zero_le _) (Nat.zero_le _) ⟨_, hx9 _ q9, rfl⟩)
    have h := hk9 _ q9
    refine go_aload_n (pc := 20) C dX4_opens_20 rfl 0 rfl ?_
    refine go_dup (pc := 21) C dX4_opens_21 rfl ?_
    refine X4g_14_3 (pc := 22) C hL hT dX4_opens_22 ?_
    refine go_iconst (pc := 25) (v := (1 : Int32)) C dX4_opens_25 (by decide) ?_
    refine go_iadd (pc := 26) C dX4_opens_26 ?_
    refine X4p_14_3 (pc := 27) C hL hT dX4_opens_27 ?_
    exact (hE 0 0 _ _ _ (Nat.zero_le _) (Nat.zero_le _)).2.2.2.1 rfl dX4_opens_30 ⟨_, (some1 h).symm, rfl, rfl⟩
  · refine go_iconst (pc := 10) (v := (1 : Int32)) C dX4_opens_10 (by decide) ?_
    refine go_goto (pc := 11) (tgt := 15) C dX4_opens_11 (by decide) ?_
    refine go_iconst (pc := 15) (v := (2 : Int32)) C dX4_opens_15 (by decide) ?_
    refine go_iload_n (pc := 16) C dX4_opens_16 rfl 1 rfl ?_
    obtain ⟨t2, e2, hk9, hx9⟩ := bndX_some h
    refine go_callVXv (pc := 17) C [.int (1 : Int32), .int (2 : Int32), .int v1] (m4_demand hL hT e2) q626 q628 qs6 q145 q629 x4pd_demand (by decide) (by decide) (xO hT hL.1) xc14 rfl (Nat.le_of_ble_eq_true rfl) ⟨Nat.zero_le _, Nat.zero_le _⟩ dX4_opens_17 rfl (fun s2 q9 => ?_) (fun t9 q9 => hX 0 0 _ _ _ _ (Nat.zero_le _) (Nat.zero_le _) ⟨_, hx9 _ q9, rfl⟩)
    have h := hk9 _ q9
    refine go_aload_n (pc := 20) C dX4_opens_20 rfl 0 rfl ?_
    refine go_dup (pc := 21) C dX4_opens_21 rfl ?_
    refine X4g_14_3 (pc := 22) C hL hT dX4_opens_22 ?_
    refine go_iconst (pc := 25) (v := (1 : Int32)) C dX4_opens_25 (by decide) ?_
    refine go_iadd (pc := 26) C dX4_opens_26 ?_
    refine X4p_14_3 (pc := 27) C hL hT dX4_opens_27 ?_
    exact (hE 0 0 _ _ _ (Nat.zero_le _) (Nat.zero_le _)).2.2.2.1 rfl dX4_opens_30 ⟨_, (some1 h).symm, rfl, rfl⟩
theorem m4_ends {l : Launch} {d : gD} {A : XA} {L : List Nat} {E : va_W} {s0 : (Nat → Bl)} {r9 : ((Nat → Bl) ⊕ (Nat → Bl))} (hL : xOK L) (hT : 14 ∈ L) (h : f4_ends s0 = some r9) : MtX l d yX4_ends cX4_ends 1 none (1, 0, 0) 23 (XW d A L E s0) [.ref (A.1 14 0)] (fun v w => ∃ s9 : (Nat → Bl), r9 = .inr s9 ∧ v = none ∧ w = (XW d A L E s9)) (fun w => ∃ s9 : (Nat → Bl), r9 = .inl s9 ∧ w = (XW d A L E s9)) := by
  refine MtX.of x4pn (Nat.le_of_ble_eq_true rfl) ?_
  intro Γ hl hd hN C hE hX
  subst hl; subst hd
  show Go Γ 0 0 (XW Γ.d A L E s0) 0 [(0, .ref (A.1 14 0))] []
  dsimp only [f4_ends] at h
  refine go_aload_n (pc := 0) C dX4_ends_0 rfl 0 rfl ?_
  refine go_aload_n (pc := 1) C dX4_ends_1 rfl 0 rfl ?_
  obtain ⟨r1, s1, e1, h⟩ := bnd2_some h
  refine go_callVi (pc := 2) C [] (m4_see hL hT e1) q562 q564 qs2 q145 q565 x4pd_see (by decide) (by decide) (xO hT hL.1) xc14 rfl (Nat.le_of_ble_eq_true rfl) ⟨Nat.zero_le _, Nat.zero_le _⟩ dX4_ends_2 rfl ?_
  refine go_iconst (pc := 5) (v := (-1 : Int32)) C dX4_ends_5 (by decide) ?_
  refine go_icmp_ne (pc := 6) (tgt := 13) C dX4_ends_6 (by decide) h (fun h => ?_) (fun h => ?_)
  · refine go_iconst (pc := 13) (v := (0 : Int32)) C dX4_ends_13 (by decide) ?_
    refine go_iconst (pc := 14) (v := (0 : Int32)) C dX4_ends_14 (by decide) ?_
    refine go_aload_n (pc := 15) C dX4_ends_15 rfl 0 rfl ?_
    refine X4g_14_2 (pc := 16) C hL hT dX4_ends_16 ?_
    obtain ⟨t2, e2, hk9, hx9⟩ := bndX_some h
    refine go_callVXv (pc := 19) C [.int (0 : Int32), .int (0 : Int32), .int ((s1 14).1 2)] (m4_demand hL hT e2) q626 q628 qs6 q145 q629 x4pd_demand (by decide) (by decide) (xO hT hL.1) xc14 rfl (Nat.le_of_ble_eq_true rfl) ⟨Nat.zero_le _, Nat.zero_le _⟩ dX4_ends_19 rfl (fun s2 q9 => ?_) (fun t9 q9 => hX 0 0 _ _ _ _ (Nat.zero_le _) (Nat.zero_le _) ⟨_, hx9 _ q9, rfl⟩)
    have h := hk9 _ q9
    exact (hE 0 0 _ _ _ (Nat.zero_le _) (Nat.zero_le _)).2.2.2.1 rfl dX4_ends_22 ⟨_, (some1 h).symm, rfl, rfl⟩
  · refine go_iconst (pc := 9) (v := (1 : Int32)) C dX4_ends_9 (by decide) ?_
    refine go_goto (pc := 10) (tgt := 14) C dX4_ends_10 (by decide) ?_
    refine go_iconst (pc := 14) (v := (0 : Int32)) C dX4_ends_14 (by decide) ?_
    refine go_aload_n (pc := 15) C dX4_ends_15 rfl 0 rfl ?_
    refine X4g_14_2 (pc := 16) C hL hT dX4_ends_16 ?_
    obtain ⟨t3, e3, hk9, hx9⟩ := bndX_some h
    refine go_callVXv (pc := 19) C [.int (1 : Int32), .int (0 : Int32), .int ((s1 14).1 2)] (m4_demand hL hT e3) q626 q628 qs6 q145 q629 x4pd_demand (by decide) (by decide) (xO hT hL.1) xc14 rfl (Nat.le_of_ble_eq_true rfl) ⟨Nat.zero_le _, Nat.zero_le _⟩ dX4_ends_19 rfl (fun s3 q9 => ?_) (fun t9 q9 => hX 0 0 _ _ _ _ (Nat.zero_le _) (Nat.zero_le _) ⟨_, hx9 _ q9, rfl⟩)
    have h := hk9 _ q9
    exact (hE 0 0 _ _ _ (Nat.zero_le _) (Nat.zero_le _)).2.2.2.1 rfl dX4_ends_22 ⟨_, (some1 h).symm, rfl, rfl⟩
theorem w4_sign_106 {Γ : Gam} {A : XA} {L : List Nat} {E : va_W} {s0 : (Nat → Bl)} {v1 : Int32} {v2 : Int32} {r9 : ((Nat → Bl) ⊕ (Int32 × (Nat → Bl)))} (hN : Γ.nL = 3) (C : Cx Γ cX4_sign RX4 (1, 0, 0) 23) (hE : Rets Γ cX4_sign (some .int) 0 0 (fun v w => ∃ (a9 : Int32) (s9 : (Nat → Bl)), r9 = .inr (a9, s9) ∧ v = some (.int a9) ∧ w = (XW Γ.d A L E s9))) (hL : xOK L) (hT : 14 ∈ L) (hX : ∀ (k n : Nat) (ws' : va_W) (pc : Nat) (lv : List (Nat × Value)) (st : List Value), k ≤ 0 → n ≤ 0 → (fun w => ∃ s9 : (Nat → Bl), r9 = .inl s9 ∧ w = (XW Γ.d A L E s9)) ws' → GoX Γ k n ws' pc lv st) (h : g4_sign_106 s0 v1 v2 = some r9) : Go Γ 0 0 (XW Γ.d A L E s0) 106 [(1, .int v1), (2, .int v2)] [] := by
  dsimp only [g4_sign_106] at h
  refine go_iload_n (pc := 106) C dX4_sign_106 rfl 0 rfl ?_
  refine go_bipush (pc := 107) (v := (60 : Int32)) C dX4_sign_107 (by decide) ?_
  refine go_icmp_ne (pc := 109) (tgt := 124) C dX4_sign_109 (by decide) h (fun h => ?_) (fun h => ?_)
  · refine go_iload_n (pc := 124) C dX4_sign_124 rfl 1 rfl ?_
    refine go_if_eq (pc := 125) (tgt := 132) C dX4_sign_125 (by decide) h (fun h => ?_) (fun h => ?_)
    · refine go_iconst (pc := 132) (v := (4 : Int32)) C dX4_sign_132 (by decide) ?_
      exact (hE 0 0 _ _ _ (Nat.zero_le _) (Nat.zero_le _)).1 _ rfl dX4_sign_133 ⟨_, _, (some1 h).symm, rfl, rfl⟩
    · refine go_iconst (pc := 128) (v := (3 : Int32)) C dX4_sign_128 (by decide) ?_
      refine go_goto (pc := 129) (tgt := 133) C dX4_sign_129 (by decide) ?_
      exact (hE 0 0 _ _ _ (Nat.zero_le _) (Nat.zero_le _)).1 _ rfl dX4_sign_133 ⟨_, _, (some1 h).symm, rfl, rfl⟩
  · refine go_iload_n (pc := 112) C dX4_sign_112 rfl 1 rfl ?_
    refine go_if_eq (pc := 113) (tgt := 120) C dX4_sign_113 (by decide) h (fun h => ?_) (fun h => ?_)
    · refine go_iconst (pc := 120) (v := (0 : Int32)) C dX4_sign_120 (by decide) ?_
      refine go_goto (pc := 121) (tgt := 133) C dX4_sign_121 (by decide) ?_
      exact (hE 0 0 _ _ _ (Nat.zero_le _) (Nat.zero_le _)).1 _ rfl dX4_sign_133 ⟨_, _, (some1 h).symm, rfl, rfl⟩
    · refine go_iconst (pc := 116) (v := (1 : Int32)) C dX4_sign_116 (by decide) ?_
      refine go_goto (pc := 117) (tgt := 133) C dX4_sign_117 (by decide) ?_
      exact (hE 0 0 _ _ _ (Nat.zero_le _) (Nat.zero_le _)).1 _ rfl dX4_sign_133 ⟨_, _, (some1 h).symm, rfl, rfl⟩
theorem w4_sign_29 {Γ : Gam} {A : XA} {L : List Nat} {E : va_W} {s0 : (Nat → Bl)} {v1 : Int32} {z0 : Int32} {r9 : ((Nat → Bl) ⊕ (Int32 × (Nat → Bl)))} (hN : Γ.nL = 3) (C : Cx Γ cX4_sign RX4 (1, 0, 0) 23) (hE : Rets Γ cX4_sign (some .int) 0 0 (fun v w => ∃ (a9 : Int32) (s9 : (Nat → Bl)), r9 = .inr (a9, s9) ∧ v = some (.int a9) ∧ w = (XW Γ.d A L E s9))) (hL : xOK L) (hT : 14 ∈ L) (hX : ∀ (k n : Nat) (ws' : va_W) (pc : Nat) (lv : List (Nat × Value)) (st : List Value), k ≤ 0 → n ≤ 0 → (fun w => ∃ s9 : (Nat → Bl), r9 = .inl s9 ∧ w = (XW Γ.d A L E s9)) ws' → GoX Γ k n ws' pc lv st) (h : g4_sign_29 s0 v1 z0 = some r9) : Go Γ 0 0 (XW Γ.d A L E s0) 29 [(0, .ref (A.1 14 0)), (1, .int v1)] [.int z0, .ref (A.1 14 0)] := by
  dsimp only [g4_sign_29] at h
  refine go_iconst (pc := 29) (v := (0 : Int32)) C dX4_sign_29 (by decide) ?_
  refine go_aload_n (pc := 30) C dX4_sign_30 rfl 0 rfl ?_
  refine X4g_14_2 (pc := 31) C hL hT dX4_sign_31 ?_
  obtain ⟨t2, e2, hk9, hx9⟩ := bndX_some h
  refine go_callVXv (pc := 34) C [.int z0, .int (0 : Int32), .int ((s0 14).1 2)] (m4_demand hL hT e2) q626 q628 qs6 q145 q629 x4pd_demand (by decide) (by decide) (xO hT hL.1) xc14 rfl (Nat.le_of_ble_eq_true rfl) ⟨Nat.zero_le _, Nat.zero_le _⟩ dX4_sign_34 rfl (fun s2 q9 => ?_) (fun t9 q9 => hX 0 0 _ _ _ _ (Nat.zero_le _) (Nat.zero_le _) ⟨_, hx9 _ q9, rfl⟩)
  have h := hk9 _ q9
  refine go_aload_n (pc := 37) C dX4_sign_37 rfl 0 rfl ?_
  refine go_dup (pc := 38) C dX4_sign_38 rfl ?_
  refine X4g_14_2 (pc := 39) C hL hT dX4_sign_39 ?_
  refine go_iconst (pc := 42) (v := (1 : Int32)) C dX4_sign_42 (by decide) ?_
  refine go_iadd (pc := 43) C dX4_sign_43 ?_
  refine X4p_14_2 (pc := 44) C hL hT dX4_sign_44 ?_
  refine go_iload_n (pc := 47) C dX4_sign_47 rfl 1 rfl ?_
  refine go_bipush (pc := 48) (v := (61 : Int32)) C dX4_sign_48 (by decide) ?_
  refine go_icmp_ne (pc := 50) (tgt := 55) C dX4_sign_50 (by decide) h (fun h => ?_) (fun h => ?_)
  · refine go_aload_n (pc := 55) C dX4_sign_55 rfl 0 rfl ?_
    refine X4g_14_2 (pc := 56) C hL hT dX4_sign_56 ?_
    refine go_aload_n (pc := 59) C dX4_sign_59 rfl 0 rfl ?_
    refine X4g_14_6 (pc := 60) C hL hT dX4_sign_60 ?_
    refine X4g_0_8 (pc := 63) C hL dX4_sign_63 ?_
    refine go_icmp_ge (pc := 66) (tgt := 90) C dX4_sign_66 (by decide) h (fun h => ?_) (fun h => ?_)
    · refine go_iconst (pc := 90) (v := (0 : Int32)) C dX4_sign_90 (by decide) ?_
      refine go_istore_n (pc := 91) C hN dX4_sign_91 rfl (by decide) rfl ?_
      refine go_iload_n (pc := 92) C dX4_sign_92 rfl 0 rfl ?_
      refine go_if_eqT (pc := 93) (tgt := 106) C dX4_sign_93 (by decide) (by decide) ?_
      refine go_sub [2, 0] rfl ?_
      exact w4_sign_106 hN C hE hL hT hX h
    · refine go_aload_n (pc := 69) C dX4_sign_69 rfl 0 rfl ?_
      refine X4g_14_6 (pc := 70) C hL hT dX4_sign_70 ?_
      refine X4g_0_7 (pc := 73) C hL dX4_sign_73 ?_
      refine go_aload_n (pc := 76) C dX4_sign_76 rfl 0 rfl ?_
      refine X4g_14_2 (pc := 77) C hL hT dX4_sign_77 ?_
      refine go_bald (pc := 80) C (xa_0_7 hL) h dX4_sign_80 (fun h => ?_)
      refine go_bipush (pc := 81) (v := (61 : Int32)) C dX4_sign_81 (by decide) ?_
      refine go_icmp_ne (pc := 83) (tgt := 90) C dX4_sign_83 (by decide) h (fun h => ?_) (fun h => ?_)
      · refine go_iconst (pc := 90) (v := (0 : Int32)) C dX4_sign_90 (by decide) ?_
        refine go_istore_n (pc := 91) C hN dX4_sign_91 rfl (by decide) rfl ?_
        refine go_iload_n (pc := 92) C dX4_sign_92 rfl 0 rfl ?_
        refine go_if_eqT (pc := 93) (tgt := 106) C dX4_sign_93 (by decide) (by decide) ?_
        refine go_sub [2, 0] rfl ?_
        exact w4_sign_106 hN C hE hL hT hX h
      · refine go_iconst (pc := 86) (v := (1 : Int32)) C dX4_sign_86 (by decide) ?_
        refine go_goto (pc := 87) (tgt := 91) C dX4_sign_87 (by decide) ?_
        refine go_istore_n (pc := 91) C hN dX4_sign_91 rfl (by decide) rfl ?_
        refine go_iload_n (pc := 92) C dX4_sign_92 rfl 0 rfl ?_
        refine go_if_eqF (pc := 93) (tgt := 106) C dX4_sign_93 (by decide) (by decide) ?_
        refine go_aload_n (pc := 96) C dX4_sign_96 rfl 1 rfl ?_
        refine go_dup (pc := 97) C dX4_sign_97 rfl ?_
        refine X4g_14_2 (pc := 98) C hL hT dX4_sign_98 ?_
        refine go_iconst (pc := 101) (v := (1 : Int32)) C dX4_sign_101 (by decide) ?_
        refine go_iadd (pc := 102) C dX4_sign_102 ?_
        refine X4p_14_2 (pc := 103) C hL hT dX4_sign_103 ?_
        refine go_nm (pc := 106) (fun z9 => (XW Γ.d A L E z9)) (fun s3 es3 => ?_)
        have h := ltv_eq es3 h
        refine go_sub [2, 0] rfl ?_
        exact w4_sign_106 hN C hE hL hT hX h
  · refine go_iconst (pc := 53) (v := (2 : Int32)) C dX4_sign_53 (by decide) ?_
    exact (hE 0 0 _ _ _ (Nat.zero_le _) (Nat.zero_le _)).1 _ rfl dX4_sign_54 ⟨_, _, (some1 h).symm, rfl, rfl⟩
theorem m4_sign {l : Launch} {d : gD} {A : XA} {L : List Nat} {E : va_W} {s0 : (Nat → Bl)} {r9 : ((Nat → Bl) ⊕ (Int32 × (Nat → Bl)))} (hL : xOK L) (hT : 14 ∈ L) (h : f4_sign s0 = some r9) : MtX l d yX4_sign cX4_sign 3 (some .int) (1, 0, 0) 23 (XW d A L E s0) [.ref (A.1 14 0)] (fun v w => ∃ (a9 : Int32) (s9 : (Nat → Bl)), r9 = .inr (a9, s9) ∧ v = some (.int a9) ∧ w = (XW d A L E s9)) (fun w => ∃ s9 : (Nat → Bl), r9 = .inl s9 ∧ w = (XW d A L E s9)) := by
  refine MtX.of x4pn (Nat.le_of_ble_eq_true rfl) ?_
  intro Γ hl hd hN C hE hX
  subst hl; subst hd
  show Go Γ 0 0 (XW Γ.d A L E s0) 0 [(0, .ref (A.1 14 0))] []
  dsimp only [f4_sign] at h
  refine go_aload_n (pc := 0) C dX4_sign_0 rfl 0 rfl ?_
  obtain ⟨r1, s1, e1, h⟩ := bnd2_some h
  refine go_callVi (pc := 1) C [] (m4_see hL hT e1) q562 q564 qs2 q145 q565 x4pd_see (by decide) (by decide) (xO hT hL.1) xc14 rfl (Nat.le_of_ble_eq_true rfl) ⟨Nat.zero_le _, Nat.zero_le _⟩ dX4_sign_1 rfl ?_
  refine go_istore_n (pc := 4) C hN dX4_sign_4 rfl (by decide) rfl ?_
  refine go_aload_n (pc := 5) C dX4_sign_5 rfl 1 rfl ?_
  refine go_iload_n (pc := 6) C dX4_sign_6 rfl 0 rfl ?_
  refine go_bipush (pc := 7) (v := (60 : Int32)) C dX4_sign_7 (by decide) ?_
  refine go_icmp_eq (pc := 9) (tgt := 24) C dX4_sign_9 (by decide) h (fun h => ?_) (fun h => ?_)
  · refine go_iconst (pc := 24) (v := (1 : Int32)) C dX4_sign_24 (by decide) ?_
    refine go_goto (pc := 25) (tgt := 29) C dX4_sign_25 (by decide) ?_
    refine go_sub [1, 0] rfl ?_
    exact w4_sign_29 hN C hE hL hT hX h
  · refine go_iload_n (pc := 12) C dX4_sign_12 rfl 0 rfl ?_
    refine go_bipush (pc := 13) (v := (61 : Int32)) C dX4_sign_13 (by decide) ?_
    refine go_icmp_eq (pc := 15) (tgt := 24) C dX4_sign_15 (by decide) h (fun h => ?_) (fun h => ?_)
    · refine go_iconst (pc := 24) (v := (1 : Int32)) C dX4_sign_24 (by decide) ?_
      refine go_goto (pc := 25) (tgt := 29) C dX4_sign_25 (by decide) ?_
      refine go_sub [1, 0] rfl ?_
      exact w4_sign_29 hN C hE hL hT hX h
    · refine go_iload_n (pc := 18) C dX4_sign_18 rfl 0 rfl ?_
      refine go_bipush (pc := 19) (v := (62 : Int32)) C dX4_sign_19 (by decide) ?_
      refine go_icmp_ne (pc := 21) (tgt := 28) C dX4_sign_21 (by decide) h (fun h => ?_) (fun h => ?_)
      · refine go_iconst (pc := 28) (v := (0 : Int32)) C dX4_sign_28 (by decide) ?_
        refine go_sub [1, 0] rfl ?_
        exact w4_sign_29 hN C hE hL hT hX h
      · refine go_iconst (pc := 24) (v := (1 : Int32)) C dX4_sign_24 (by decide) ?_
        refine go_goto (pc := 25) (tgt := 29) C dX4_sign_25 (by decide) ?_
        refine go_sub [1, 0] rfl ?_
        exact w4_sign_29 hN C hE hL hT hX h
theorem m4_ownerHere {l : Launch} {d : gD} {A : XA} {L : List Nat} {E : va_W} {s0 : (Nat → Bl)} {r9 : ((Nat → Bl) ⊕ (Nat → Bl))} (hL : xOK L) (hT : 14 ∈ L) (h : f4_ownerHere s0 = some r9) : MtX l d yX4_ownerHere cX4_ownerHere 2 none (2, 0, 0) 49 (XW d A L E s0) [.ref (A.1 14 0)] (fun v w => ∃ s9 : (Nat → Bl), r9 = .inr s9 ∧ v = none ∧ w = (XW d A L E s9)) (fun w => ∃ s9 : (Nat → Bl), r9 = .inl s9 ∧ w = (XW d A L E s9)) := by
  refine MtX.of x4pn (Nat.le_of_ble_eq_true rfl) ?_
  intro Γ hl hd hN C hE hX
  subst hl; subst hd
  show Go Γ 0 0 (XW Γ.d A L E s0) 0 [(0, .ref (A.1 14 0))] []
  dsimp only [f4_ownerHere] at h
  refine go_aload_n (pc := 0) C dX4_ownerHere_0 rfl 0 rfl ?_
  refine X4g_14_1 (pc := 1) C hL hT dX4_ownerHere_1 ?_
  refine X4g_3_1 (pc := 4) C hL dX4_ownerHere_4 ?_
  refine go_istore_n (pc := 7) C hN dX4_ownerHere_7 rfl (by decide) rfl ?_
  refine go_aload_n (pc := 8) C dX4_ownerHere_8 rfl 1 rfl ?_
  refine X4g_14_1 (pc := 9) C hL hT dX4_ownerHere_9 ?_
  refine X4g_3_9 (pc := 12) C hL dX4_ownerHere_12 ?_
  refine go_iload_n (pc := 15) C dX4_ownerHere_15 rfl 0 rfl ?_
  refine go_aload_n (pc := 16) C dX4_ownerHere_16 rfl 1 rfl ?_
  refine go_iconst (pc := 17) (v := (1 : Int32)) C dX4_ownerHere_17 (by decide) ?_
  refine go_aload_n (pc := 18) C dX4_ownerHere_18 rfl 1 rfl ?_
  refine X4g_14_1 (pc := 19) C hL hT dX4_ownerHere_19 ?_
  refine X4g_3_0 (pc := 22) C hL dX4_ownerHere_22 ?_
  obtain ⟨t1, e1, hk9, hx9⟩ := bndX2_some h
  refine go_callVXi (pc := 25) C [.int (1 : Int32), .int ((s0 3).1 0)] (m4_number hL hT e1) q638 q640 qs9 q145 q641 x4pd_number (by decide) (by decide) (xO hT hL.1) xc14 rfl (Nat.le_of_ble_eq_true rfl) ⟨Nat.zero_le _, Nat.zero_le _⟩ dX4_ownerHere_25 rfl (fun r1 s1 q9 => ?_) (fun t9 q9 => hX 0 0 _ _ _ _ (Nat.zero_le _) (Nat.zero_le _) ⟨_, hx9 _ q9, rfl⟩)
  have h := hk9 _ _ q9
  refine go_iast (pc := 28) C (xpa_3_9 hL) h dX4_ownerHere_28 (fun h => ?_)
  refine go_aload_n (pc := 29) C dX4_ownerHere_29 rfl 1 rfl ?_
  refine X4g_14_1 (pc := 30) C hL hT dX4_ownerHere_30 ?_
  refine X4g_3_10 (pc := 33) C hL dX4_ownerHere_33 ?_
  refine go_iload_n (pc := 36) C dX4_ownerHere_36 rfl 0 rfl ?_
  refine go_aload_n (pc := 37) C dX4_ownerHere_37 rfl 1 rfl ?_
  refine go_iconst (pc := 38) (v := (0 : Int32)) C dX4_ownerHere_38 (by decide) ?_
  refine go_bipush (pc := 39) (v := (20 : Int32)) C dX4_ownerHere_39 (by decide) ?_
  obtain ⟨t2, e2, hk9, hx9⟩ := bndX2_some h
  refine go_callVXi (pc := 41) C [.int (0 : Int32), .int (20 : Int32)] (m4_number hL hT e2) q638 q640 qs9 q145 q641 x4pd_number (by decide) (by decide) (xO hT hL.1) xc14 rfl (Nat.le_of_ble_eq_true rfl) ⟨Nat.zero_le _, Nat.zero_le _⟩ dX4_ownerHere_41 rfl (fun r2 s2 q9 => ?_) (fun t9 q9 => hX 0 0 _ _ _ _ (Nat.zero_le _) (Nat.zero_le _) ⟨_, hx9 _ q9, rfl⟩)
  have h := hk9 _ _ q9
  refine go_iast (pc := 44) C (xpa_3_10 hL) h dX4_ownerHere_44 (fun h => ?_)
  refine go_aload_n (pc := 45) C dX4_ownerHere_45 rfl 1 rfl ?_
  refine X4g_14_1 (pc := 46) C hL hT dX4_ownerHere_46 ?_
  refine go_dup (pc := 49) C dX4_ownerHere_49 rfl ?_
  refine X4g_3_1 (pc := 50) C hL dX4_ownerHere_50 ?_
  refine go_iconst (pc := 53) (v := (1 : Int32)) C dX4_ownerHere_53 (by decide) ?_
  refine go_iadd (pc := 54) C dX4_ownerHere_54 ?_
  refine X4p_3_1 (pc := 55) C hL dX4_ownerHere_55 ?_
  refine go_nm (pc := 58) (fun z9 => (XW Γ.d A L E z9)) (fun s3 es3 => ?_)
  have h := ltv_eq es3 h
  exact (hE 0 0 _ _ _ (Nat.zero_le _) (Nat.zero_le _)).2.2.2.1 rfl dX4_ownerHere_58 ⟨_, (some1 h).symm, rfl, rfl⟩
theorem m4_thingHere {l : Launch} {d : gD} {A : XA} {L : List Nat} {E : va_W} {s0 : (Nat → Bl)} {r9 : ((Nat → Bl) ⊕ (Nat → Bl))} (hL : xOK L) (hT : 14 ∈ L) (h : f4_thingHere s0 = some r9) : MtX l d yX4_thingHere cX4_thingHere 2 none (2, 0, 0) 49 (XW d A L E s0) [.ref (A.1 14 0)] (fun v w => ∃ s9 : (Nat → Bl), r9 = .inr s9 ∧ v = none ∧ w = (XW d A L E s9)) (fun w => ∃ s9 : (Nat → Bl), r9 = .inl s9 ∧ w = (XW d A L E s9)) := by
  refine MtX.of x4pn (Nat.le_of_ble_eq_true rfl) ?_
  intro Γ hl hd hN C hE hX
  subst hl; subst hd
  show Go Γ 0 0 (XW Γ.d A L E s0) 0 [(0, .ref (A.1 14 0))] []
  dsimp only [f4_thingHere] at h
  refine go_aload_n (pc := 0) C dX4_thingHere_0 rfl 0 rfl ?_
  refine X4g_14_1 (pc := 1) C hL hT dX4_thingHere_1 ?_
  refine X4g_3_2 (pc := 4) C hL dX4_thingHere_4 ?_
  refine go_istore_n (pc := 7) C hN dX4_thingHere_7 rfl (by decide) rfl ?_
  refine go_aload_n (pc := 8) C dX4_thingHere_8 rfl 1 rfl ?_
  refine X4g_14_1 (pc := 9) C hL hT dX4_thingHere_9 ?_
  refine X4g_3_12 (pc := 12) C hL dX4_thingHere_12 ?_
  refine go_iload_n (pc := 15) C dX4_thingHere_15 rfl 0 rfl ?_
  refine go_aload_n (pc := 16) C dX4_thingHere_16 rfl 1 rfl ?_
  refine go_iconst (pc := 17) (v := (0 : Int32)) C dX4_thingHere_17 (by decide) ?_
  refine go_aload_n (pc := 18) C dX4_thingHere_18 rfl 1 rfl ?_
  refine X4g_14_1 (pc := 19) C hL hT dX4_thingHere_19 ?_
  refine X4g_3_1 (pc := 22) C hL dX4_thingHere_22 ?_
  refine go_iconst (pc := 25) (v := (1 : Int32)) C dX4_thingHere_25 (by decide) ?_
  refine go_isub (pc := 26) C dX4_thingHere_26 ?_
  obtain ⟨t1, e1, hk9, hx9⟩ := bndX2_some h
  refine go_callVXi (pc := 27) C [.int (0 : Int32), .int (((s0 3).1 1) - (1 : Int32))] (m4_number hL hT e1) q638 q640 qs9 q145 q641 x4pd_number (by decide) (by decide) (xO hT hL.1) xc14 rfl (Nat.le_of_ble_eq_true rfl) ⟨Nat.zero_le _, Nat.zero_le _⟩ dX4_thingHere_27 rfl (fun r1 s1 q9 => ?_) (fun t9 q9 => hX 0 0 _ _ _ _ (Nat.zero_le _) (Nat.zero_le _) ⟨_, hx9 _ q9, rfl⟩)
  have h := hk9 _ _ q9
  refine go_iast (pc := 30) C (xpa_3_12 hL) h dX4_thingHere_30 (fun h => ?_)
  refine go_aload_n (pc := 31) C dX4_thingHere_31 rfl 1 rfl ?_
  refine X4g_14_1 (pc := 32) C hL hT dX4_thingHere_32 ?_
  refine X4g_3_13 (pc := 35) C hL dX4_thingHere_35 ?_
  refine go_iload_n (pc := 38) C dX4_thingHere_38 rfl 0 rfl ?_
  refine go_aload_n (pc := 39) C dX4_thingHere_39 rfl 1 rfl ?_
  refine go_iconst (pc := 40) (v := (0 : Int32)) C dX4_thingHere_40 (by decide) ?_
  refine go_bipush (pc := 41) (v := (50 : Int32)) C dX4_thingHere_41 (by decide) ?_
  obtain ⟨t2, e2, hk9, hx9⟩ := bndX2_some h
  refine go_callVXi (pc := 43) C [.int (0 : Int32), .int (50 : Int32)] (m4_number hL hT e2) q638 q640 qs9 q145 q641 x4pd_number (by decide) (by decide) (xO hT hL.1) xc14 rfl (Nat.le_of_ble_eq_true rfl) ⟨Nat.zero_le _, Nat.zero_le _⟩ dX4_thingHere_43 rfl (fun r2 s2 q9 => ?_) (fun t9 q9 => hX 0 0 _ _ _ _ (Nat.zero_le _) (Nat.zero_le _) ⟨_, hx9 _ q9, rfl⟩)
  have h := hk9 _ _ q9
  refine go_iast (pc := 46) C (xpa_3_13 hL) h dX4_thingHere_46 (fun h => ?_)
  refine go_aload_n (pc := 47) C dX4_thingHere_47 rfl 1 rfl ?_
  refine X4g_14_1 (pc := 48) C hL hT dX4_thingHere_48 ?_
  refine X4g_3_14 (pc := 51) C hL dX4_thingHere_51 ?_
  refine go_iload_n (pc := 54) C dX4_thingHere_54 rfl 0 rfl ?_
  refine go_aload_n (pc := 55) C dX4_thingHere_55 rfl 1 rfl ?_
  refine go_iconst (pc := 56) (v := (0 : Int32)) C dX4_thingHere_56 (by decide) ?_
  refine go_bipush (pc := 57) (v := (99 : Int32)) C dX4_thingHere_57 (by decide) ?_
  obtain ⟨t3, e3, hk9, hx9⟩ := bndX2_some h
  refine go_callVXi (pc := 59) C [.int (0 : Int32), .int (99 : Int32)] (m4_number hL hT e3) q638 q640 qs9 q145 q641 x4pd_number (by decide) (by decide) (xO hT hL.1) xc14 rfl (Nat.le_of_ble_eq_true rfl) ⟨Nat.zero_le _, Nat.zero_le _⟩ dX4_thingHere_59 rfl (fun r3 s3 q9 => ?_) (fun t9 q9 => hX 0 0 _ _ _ _ (Nat.zero_le _) (Nat.zero_le _) ⟨_, hx9 _ q9, rfl⟩)
  have h := hk9 _ _ q9
  refine go_iast (pc := 62) C (xpa_3_14 hL) h dX4_thingHere_62 (fun h => ?_)
  refine go_aload_n (pc := 63) C dX4_thingHere_63 rfl 1 rfl ?_
  refine X4g_14_1 (pc := 64) C hL hT dX4_thingHere_64 ?_
  refine X4g_3_15 (pc := 67) C hL dX4_thingHere_67 ?_
  refine go_iload_n (pc := 70) C dX4_thingHere_70 rfl 0 rfl ?_
  refine go_aload_n (pc := 71) C dX4_thingHere_71 rfl 1 rfl ?_
  refine go_iconst (pc := 72) (v := (0 : Int32)) C dX4_thingHere_72 (by decide) ?_
  refine go_bipush (pc := 73) (v := (9 : Int32)) C dX4_thingHere_73 (by decide) ?_
  obtain ⟨t4, e4, hk9, hx9⟩ := bndX2_some h
  refine go_callVXi (pc := 75) C [.int (0 : Int32), .int (9 : Int32)] (m4_number hL hT e4) q638 q640 qs9 q145 q641 x4pd_number (by decide) (by decide) (xO hT hL.1) xc14 rfl (Nat.le_of_ble_eq_true rfl) ⟨Nat.zero_le _, Nat.zero_le _⟩ dX4_thingHere_75 rfl (fun r4 s4 q9 => ?_) (fun t9 q9 => hX 0 0 _ _ _ _ (Nat.zero_le _) (Nat.zero_le _) ⟨_, hx9 _ q9, rfl⟩)
  have h := hk9 _ _ q9
  refine go_iast (pc := 78) C (xpa_3_15 hL) h dX4_thingHere_78 (fun h => ?_)
  refine go_aload_n (pc := 79) C dX4_thingHere_79 rfl 1 rfl ?_
  refine X4g_14_1 (pc := 80) C hL hT dX4_thingHere_80 ?_
  refine go_dup (pc := 83) C dX4_thingHere_83 rfl ?_
  refine X4g_3_2 (pc := 84) C hL dX4_thingHere_84 ?_
  refine go_iconst (pc := 87) (v := (1 : Int32)) C dX4_thingHere_87 (by decide) ?_
  refine go_iadd (pc := 88) C dX4_thingHere_88 ?_
  refine X4p_3_2 (pc := 89) C hL dX4_thingHere_89 ?_
  refine go_nm (pc := 92) (fun z9 => (XW Γ.d A L E z9)) (fun s5 es5 => ?_)
  have h := ltv_eq es5 h
  exact (hE 0 0 _ _ _ (Nat.zero_le _) (Nat.zero_le _)).2.2.2.1 rfl dX4_thingHere_92 ⟨_, (some1 h).symm, rfl, rfl⟩
theorem m4_boundHere {l : Launch} {d : gD} {A : XA} {L : List Nat} {E : va_W} {s0 : (Nat → Bl)} {r9 : ((Nat → Bl) ⊕ (Nat → Bl))} (hL : xOK L) (hT : 14 ∈ L) (h : f4_boundHere s0 = some r9) : MtX l d yX4_boundHere cX4_boundHere 4 none (2, 0, 0) 49 (XW d A L E s0) [.ref (A.1 14 0)] (fun v w => ∃ s9 : (Nat → Bl), r9 = .inr s9 ∧ v = none ∧ w = (XW d A L E s9)) (fun w => ∃ s9 : (Nat → Bl), r9 = .inl s9 ∧ w = (XW d A L E s9)) := by
  refine MtX.of x4pn (Nat.le_of_ble_eq_true rfl) ?_
  intro Γ hl hd hN C hE hX
  subst hl; subst hd
  show Go Γ 0 0 (XW Γ.d A L E s0) 0 [(0, .ref (A.1 14 0))] []
  dsimp only [f4_boundHere] at h
  refine go_aload_n (pc := 0) C dX4_boundHere_0 rfl 0 rfl ?_
  refine go_iconst (pc := 1) (v := (0 : Int32)) C dX4_boundHere_1 (by decide) ?_
  refine go_aload_n (pc := 2) C dX4_boundHere_2 rfl 0 rfl ?_
  refine X4g_14_1 (pc := 3) C hL hT dX4_boundHere_3 ?_
  refine X4g_3_2 (pc := 6) C hL dX4_boundHere_6 ?_
  refine go_iconst (pc := 9) (v := (1 : Int32)) C dX4_boundHere_9 (by decide) ?_
  refine go_isub (pc := 10) C dX4_boundHere_10 ?_
  obtain ⟨t1, e1, hk9, hx9⟩ := bndX2_some h
  refine go_callVXi (pc := 11) C [.int (0 : Int32), .int (((s0 3).1 2) - (1 : Int32))] (m4_number hL hT e1) q638 q640 qs9 q145 q641 x4pd_number (by decide) (by decide) (xO hT hL.1) xc14 rfl (Nat.le_of_ble_eq_true rfl) ⟨Nat.zero_le _, Nat.zero_le _⟩ dX4_boundHere_11 rfl (fun r1 s1 q9 => ?_) (fun t9 q9 => hX 0 0 _ _ _ _ (Nat.zero_le _) (Nat.zero_le _) ⟨_, hx9 _ q9, rfl⟩)
  have h := hk9 _ _ q9
  refine go_istore_n (pc := 14) C hN dX4_boundHere_14 rfl (by decide) rfl ?_
  refine go_aload_n (pc := 15) C dX4_boundHere_15 rfl 1 rfl ?_
  obtain ⟨r2, s2, e2, h⟩ := bnd2_some h
  refine go_callVi (pc := 16) C [] (m4_see hL hT e2) q562 q564 qs2 q145 q565 x4pd_see (by decide) (by decide) (xO hT hL.1) xc14 rfl (Nat.le_of_ble_eq_true rfl) ⟨Nat.zero_le _, Nat.zero_le _⟩ dX4_boundHere_16 rfl ?_
  refine go_pop (pc := 19) C dX4_boundHere_19 rfl ?_
  refine go_aload_n (pc := 20) C dX4_boundHere_20 rfl 1 rfl ?_
  refine X4g_14_2 (pc := 21) C hL hT dX4_boundHere_21 ?_
  refine go_istore_n (pc := 24) C hN dX4_boundHere_24 rfl (by decide) rfl ?_
  refine go_aload_n (pc := 25) C dX4_boundHere_25 rfl 2 rfl ?_
  refine go_iconst (pc := 26) (v := (0 : Int32)) C dX4_boundHere_26 (by decide) ?_
  refine go_aload_n (pc := 27) C dX4_boundHere_27 rfl 2 rfl ?_
  refine X4g_14_1 (pc := 28) C hL hT dX4_boundHere_28 ?_
  refine X4g_3_2 (pc := 31) C hL dX4_boundHere_31 ?_
  refine go_iconst (pc := 34) (v := (1 : Int32)) C dX4_boundHere_34 (by decide) ?_
  refine go_isub (pc := 35) C dX4_boundHere_35 ?_
  obtain ⟨t3, e3, hk9, hx9⟩ := bndX2_some h
  refine go_callVXi (pc := 36) C [.int (0 : Int32), .int (((s2 3).1 2) - (1 : Int32))] (m4_number hL hT e3) q638 q640 qs9 q145 q641 x4pd_number (by decide) (by decide) (xO hT hL.1) xc14 rfl (Nat.le_of_ble_eq_true rfl) ⟨Nat.zero_le _, Nat.zero_le _⟩ dX4_boundHere_36 rfl (fun r3 s3 q9 => ?_) (fun t9 q9 => hX 0 0 _ _ _ _ (Nat.zero_le _) (Nat.zero_le _) ⟨_, hx9 _ q9, rfl⟩)
  have h := hk9 _ _ q9
  refine go_istore_n (pc := 39) C hN dX4_boundHere_39 rfl (by decide) rfl ?_
  refine go_aload_n (pc := 40) C dX4_boundHere_40 rfl 3 rfl ?_
  refine go_iload_n (pc := 41) C dX4_boundHere_41 rfl 2 rfl ?_
  refine go_iload_n (pc := 42) C dX4_boundHere_42 rfl 0 rfl ?_
  refine go_icmp_eq (pc := 43) (tgt := 63) C dX4_boundHere_43 (by decide) h (fun h => ?_) (fun h => ?_)
  · refine go_iconst (pc := 63) (v := (0 : Int32)) C dX4_boundHere_63 (by decide) ?_
    refine go_iconst (pc := 64) (v := (1 : Int32)) C dX4_boundHere_64 (by decide) ?_
    refine go_iload_n (pc := 65) C dX4_boundHere_65 rfl 1 rfl ?_
    obtain ⟨t4, e4, hk9, hx9⟩ := bndX_some h
    refine go_callVXv (pc := 66) C [.int (0 : Int32), .int (1 : Int32), .int ((s2 14).1 2)] (m4_demand hL hT e4) q626 q628 qs6 q145 q629 x4pd_demand (by decide) (by decide) (xO hT hL.1) xc14 rfl (Nat.le_of_ble_eq_true rfl) ⟨Nat.zero_le _, Nat.zero_le _⟩ dX4_boundHere_66 rfl (fun s4 q9 => ?_) (fun t9 q9 => hX 0 0 _ _ _ _ (Nat.zero_le _) (Nat.zero_le _) ⟨_, hx9 _ q9, rfl⟩)
    have h := hk9 _ q9
    refine go_aload_n (pc := 69) C dX4_boundHere_69 rfl 3 rfl ?_
    refine X4g_14_1 (pc := 70) C hL hT dX4_boundHere_70 ?_
    refine go_iload_n (pc := 73) C dX4_boundHere_73 rfl 2 rfl ?_
    refine go_iload_n (pc := 74) C dX4_boundHere_74 rfl 0 rfl ?_
    refine go_aload_n (pc := 75) C dX4_boundHere_75 rfl 3 rfl ?_
    refine go_iconst (pc := 76) (v := (1 : Int32)) C dX4_boundHere_76 (by decide) ?_
    refine go_bipush (pc := 77) (v := (9 : Int32)) C dX4_boundHere_77 (by decide) ?_
    obtain ⟨t5, e5, hk9, hx9⟩ := bndX2_some h
    refine go_callVXi (pc := 79) C [.int (1 : Int32), .int (9 : Int32)] (m4_number hL hT e5) q638 q640 qs9 q145 q641 x4pd_number (by decide) (by decide) (xO hT hL.1) xc14 rfl (Nat.le_of_ble_eq_true rfl) ⟨Nat.zero_le _, Nat.zero_le _⟩ dX4_boundHere_79 rfl (fun r5 s5 q9 => ?_) (fun t9 q9 => hX 0 0 _ _ _ _ (Nat.zero_le _) (Nat.zero_le _) ⟨_, hx9 _ q9, rfl⟩)
    have h := hk9 _ _ q9
    obtain ⟨s6, e6, h⟩ := bnd_some h
    refine go_callVv (pc := 82) C [.int r1, .int r3, .int r5] (Mt.x1 (hL.2 3 (by decide)) hL.1 (m1_binds e6)) q671 q672 q673 q139 q674 x1pd_binds (by decide) (by decide) (xO (hL.2 3 (by decide)) hL.1) xc3 rfl (Nat.le_of_ble_eq_true rfl) ⟨Nat.zero_le _, Nat.zero_le _⟩ dX4_boundHere_82 rfl ?_
    exact (hE 0 0 _ _ _ (Nat.zero_le _) (Nat.zero_le _)).2.2.2.1 rfl dX4_boundHere_85 ⟨_, (some1 h).symm, rfl, rfl⟩
  · refine go_aload_n (pc := 46) C dX4_boundHere_46 rfl 3 rfl ?_
    refine X4g_14_1 (pc := 47) C hL hT dX4_boundHere_47 ?_
    refine go_iload_n (pc := 50) C dX4_boundHere_50 rfl 2 rfl ?_
    refine go_iload_n (pc := 51) C dX4_boundHere_51 rfl 0 rfl ?_
    obtain ⟨r7, e7, h⟩ := bnd_some h
    refine go_callVi (pc := 52) C [.int r1, .int r3] (Mt.x0 (hL.2 3 (by decide)) hL.1 (m1_ropeOf e7)) q661 q662 q663 q139 q664 x1pd_ropeOf (by decide) (by decide) (xO (hL.2 3 (by decide)) hL.1) xc3 rfl (Nat.le_of_ble_eq_true rfl) ⟨Nat.zero_le _, Nat.zero_le _⟩ dX4_boundHere_52 rfl ?_
    refine go_iconst (pc := 55) (v := (-1 : Int32)) C dX4_boundHere_55 (by decide) ?_
    refine go_icmp_ne (pc := 56) (tgt := 63) C dX4_boundHere_56 (by decide) h (fun h => ?_) (fun h => ?_)
    · refine go_iconst (pc := 63) (v := (0 : Int32)) C dX4_boundHere_63 (by decide) ?_
      refine go_iconst (pc := 64) (v := (1 : Int32)) C dX4_boundHere_64 (by decide) ?_
      refine go_iload_n (pc := 65) C dX4_boundHere_65 rfl 1 rfl ?_
      obtain ⟨t8, e8, hk9, hx9⟩ := bndX_some h
      refine go_callVXv (pc := 66) C [.int (0 : Int32), .int (1 : Int32), .int ((s2 14).1 2)] (m4_demand hL hT e8) q626 q628 qs6 q145 q629 x4pd_demand (by decide) (by decide) (xO hT hL.1) xc14 rfl (Nat.le_of_ble_eq_true rfl) ⟨Nat.zero_le _, Nat.zero_le _⟩ dX4_boundHere_66 rfl (fun s8 q9 => ?_) (fun t9 q9 => hX 0 0 _ _ _ _ (Nat.zero_le _) (Nat.zero_le _) ⟨_, hx9 _ q9, rfl⟩)
      have h := hk9 _ q9
      refine go_aload_n (pc := 69) C dX4_boundHere_69 rfl 3 rfl ?_
      refine X4g_14_1 (pc := 70) C hL hT dX4_boundHere_70 ?_
      refine go_iload_n (pc := 73) C dX4_boundHere_73 rfl 2 rfl ?_
      refine go_iload_n (pc := 74) C dX4_boundHere_74 rfl 0 rfl ?_
      refine go_aload_n (pc := 75) C dX4_boundHere_75 rfl 3 rfl ?_
      refine go_iconst (pc := 76) (v := (1 : Int32)) C dX4_boundHere_76 (by decide) ?_
      refine go_bipush (pc := 77) (v := (9 : Int32)) C dX4_boundHere_77 (by decide) ?_
      obtain ⟨t9, e9, hk9, hx9⟩ := bndX2_some h
      refine go_callVXi (pc := 79) C [.int (1 : Int32), .int (9 : Int32)] (m4_number hL hT e9) q638 q640 qs9 q145 q641 x4pd_number (by decide) (by decide) (xO hT hL.1) xc14 rfl (Nat.le_of_ble_eq_true rfl) ⟨Nat.zero_le _, Nat.zero_le _⟩ dX4_boundHere_79 rfl (fun r9 s9 q9 => ?_) (fun t9 q9 => hX 0 0 _ _ _ _ (Nat.zero_le _) (Nat.zero_le _) ⟨_, hx9 _ q9, rfl⟩)
      have h := hk9 _ _ q9
      obtain ⟨s10, e10, h⟩ := bnd_some h
      refine go_callVv (pc := 82) C [.int r1, .int r3, .int r9] (Mt.x1 (hL.2 3 (by decide)) hL.1 (m1_binds e10)) q671 q672 q673 q139 q674 x1pd_binds (by decide) (by decide) (xO (hL.2 3 (by decide)) hL.1) xc3 rfl (Nat.le_of_ble_eq_true rfl) ⟨Nat.zero_le _, Nat.zero_le _⟩ dX4_boundHere_82 rfl ?_
      exact (hE 0 0 _ _ _ (Nat.zero_le _) (Nat.zero_le _)).2.2.2.1 rfl dX4_boundHere_85 ⟨_, (some1 h).symm, rfl, rfl⟩
    · refine go_iconst (pc := 59) (v := (1 : Int32)) C dX4_boundHere_59 (by decide) ?_
      refine go_goto (pc := 60) (tgt := 64) C dX4_boundHere_60 (by decide) ?_
      refine go_iconst (pc := 64) (v := (1 : Int32)) C dX4_boundHere_64 (by decide) ?_
      refine go_iload_n (pc := 65) C dX4_boundHere_65 rfl 1 rfl ?_
      obtain ⟨t11, e11, hk9, hx9⟩ := bndX_some h
      refine go_callVXv (pc := 66) C [.int (1 : Int32), .int (1 : Int32), .int ((s2 14).1 2)] (m4_demand hL hT e11) q626 q628 qs6 q145 q629 x4pd_demand (by decide) (by decide) (xO hT hL.1) xc14 rfl (Nat.le_of_ble_eq_true rfl) ⟨Nat.zero_le _, Nat.zero_le _⟩ dX4_boundHere_66 rfl (fun s11 q9 => ?_) (fun t9 q9 => hX 0 0 _ _ _ _ (Nat.zero_le _) (Nat.zero_le _) ⟨_, hx9 _ q9, rfl⟩)
      have h := hk9 _ q9
      refine go_aload_n (pc := 69) C dX4_boundHere_69 rfl 3 rfl ?_
      refine X4g_14_1 (pc := 70) C hL hT dX4_boundHere_70 ?_
      refine go_iload_n (pc := 73) C dX4_boundHere_73 rfl 2 rfl ?_
      refine go_iload_n (pc := 74) C dX4_boundHere_74 rfl 0 rfl ?_
      refine go_aload_n (pc := 75) C dX4_boundHere_75 rfl 3 rfl ?_
      refine go_iconst (pc := 76) (v := (1 : Int32)) C dX4_boundHere_76 (by decide) ?_
      refine go_bipush (pc := 77) (v := (9 : Int32)) C dX4_boundHere_77 (by decide) ?_
      obtain ⟨t12, e12, hk9, hx9⟩ := bndX2_some h
      refine go_callVXi (pc := 79) C [.int (1 : Int32), .int (9 : Int32)] (m4_number hL hT e12) q638 q640 qs9 q145 q641 x4pd_number (by decide) (by decide) (xO hT hL.1) xc14 rfl (Nat.le_of_ble_eq_true rfl) ⟨Nat.zero_le _, Nat.zero_le _⟩ dX4_boundHere_79 rfl (fun r12 s12 q9 => ?_) (fun t9 q9 => hX 0 0 _ _ _ _ (Nat.zero_le _) (Nat.zero_le _) ⟨_, hx9 _ q9, rfl⟩)
      have h := hk9 _ _ q9
      obtain ⟨s13, e13, h⟩ := bnd_some h
      refine go_callVv (pc := 82) C [.int r1, .int r3, .int r12] (Mt.x1 (hL.2 3 (by decide)) hL.1 (m1_binds e13)) q671 q672 q673 q139 q674 x1pd_binds (by decide) (by decide) (xO (hL.2 3 (by decide)) hL.1) xc3 rfl (Nat.le_of_ble_eq_true rfl) ⟨Nat.zero_le _, Nat.zero_le _⟩ dX4_boundHere_82 rfl ?_
      exact (hE 0 0 _ _ _ (Nat.zero_le _) (Nat.zero_le _)).2.2.2.1 rfl dX4_boundHere_85 ⟨_, (some1 h).symm, rfl, rfl⟩
theorem w4_rapidHere_40 {Γ : Gam} {A : XA} {L : List Nat} {E : va_W} {s0 : (Nat → Bl)} {v1 : Int32} {v2 : Int32} {z0 : Int32} {r9 : ((Nat → Bl) ⊕ (Nat → Bl))} (hN : Γ.nL = 3) (C : Cx Γ cX4_rapidHere RX4 (2, 0, 0) 49) (hE : Rets Γ cX4_rapidHere none 0 0 (fun v w => ∃ s9 : (Nat → Bl), r9 = .inr s9 ∧ v = none ∧ w = (XW Γ.d A L E s9))) (hL : xOK L) (hT : 14 ∈ L) (hX : ∀ (k n : Nat) (ws' : va_W) (pc : Nat) (lv : List (Nat × Value)) (st : List Value), k ≤ 0 → n ≤ 0 → (fun w => ∃ s9 : (Nat → Bl), r9 = .inl s9 ∧ w = (XW Γ.d A L E s9)) ws' → GoX Γ k n ws' pc lv st) (h : g4_rapidHere_40 s0 v1 v2 z0 = some r9) : Go Γ 0 0 (XW Γ.d A L E s0) 40 [(0, .ref (A.1 14 0)), (1, .int v1), (2, .int v2)] [.int z0, .ref (A.1 14 0)] := by
  dsimp only [g4_rapidHere_40] at h
  refine go_iconst (pc := 40) (v := (1 : Int32)) C dX4_rapidHere_40 (by decide) ?_
  refine go_iload_n (pc := 41) C dX4_rapidHere_41 rfl 1 rfl ?_
  obtain ⟨t4, e4, hk9, hx9⟩ := bndX_some h
  refine go_callVXv (pc := 42) C [.int z0, .int (1 : Int32), .int v1] (m4_demand hL hT e4) q626 q628 qs6 q145 q629 x4pd_demand (by decide) (by decide) (xO hT hL.1) xc14 rfl (Nat.le_of_ble_eq_true rfl) ⟨Nat.zero_le _, Nat.zero_le _⟩ dX4_rapidHere_42 rfl (fun s4 q9 => ?_) (fun t9 q9 => hX 0 0 _ _ _ _ (Nat.zero_le _) (Nat.zero_le _) ⟨_, hx9 _ q9, rfl⟩)
  have h := hk9 _ q9
  refine go_aload_n (pc := 45) C dX4_rapidHere_45 rfl 0 rfl ?_
  refine X4g_14_1 (pc := 46) C hL hT dX4_rapidHere_46 ?_
  refine X4g_3_21 (pc := 49) C hL dX4_rapidHere_49 ?_
  refine go_aload_n (pc := 52) C dX4_rapidHere_52 rfl 0 rfl ?_
  refine X4g_14_1 (pc := 53) C hL hT dX4_rapidHere_53 ?_
  refine X4g_3_3 (pc := 56) C hL dX4_rapidHere_56 ?_
  refine go_iload_n (pc := 59) C dX4_rapidHere_59 rfl 2 rfl ?_
  refine go_iast (pc := 60) C (xpa_3_21 hL) h dX4_rapidHere_60 (fun h => ?_)
  refine go_aload_n (pc := 61) C dX4_rapidHere_61 rfl 0 rfl ?_
  refine X4g_14_1 (pc := 62) C hL hT dX4_rapidHere_62 ?_
  refine X4g_3_22 (pc := 65) C hL dX4_rapidHere_65 ?_
  refine go_aload_n (pc := 68) C dX4_rapidHere_68 rfl 0 rfl ?_
  refine X4g_14_1 (pc := 69) C hL hT dX4_rapidHere_69 ?_
  refine X4g_3_3 (pc := 72) C hL dX4_rapidHere_72 ?_
  refine go_aload_n (pc := 75) C dX4_rapidHere_75 rfl 0 rfl ?_
  refine go_iconst (pc := 76) (v := (1 : Int32)) C dX4_rapidHere_76 (by decide) ?_
  refine go_bipush (pc := 77) (v := (9 : Int32)) C dX4_rapidHere_77 (by decide) ?_
  obtain ⟨t5, e5, hk9, hx9⟩ := bndX2_some h
  refine go_callVXi (pc := 79) C [.int (1 : Int32), .int (9 : Int32)] (m4_number hL hT e5) q638 q640 qs9 q145 q641 x4pd_number (by decide) (by decide) (xO hT hL.1) xc14 rfl (Nat.le_of_ble_eq_true rfl) ⟨Nat.zero_le _, Nat.zero_le _⟩ dX4_rapidHere_79 rfl (fun r5 s5 q9 => ?_) (fun t9 q9 => hX 0 0 _ _ _ _ (Nat.zero_le _) (Nat.zero_le _) ⟨_, hx9 _ q9, rfl⟩)
  have h := hk9 _ _ q9
  refine go_iast (pc := 82) C (xpa_3_22 hL) h dX4_rapidHere_82 (fun h => ?_)
  refine go_aload_n (pc := 83) C dX4_rapidHere_83 rfl 0 rfl ?_
  refine X4g_14_1 (pc := 84) C hL hT dX4_rapidHere_84 ?_
  refine go_dup (pc := 87) C dX4_rapidHere_87 rfl ?_
  refine X4g_3_3 (pc := 88) C hL dX4_rapidHere_88 ?_
  refine go_iconst (pc := 91) (v := (1 : Int32)) C dX4_rapidHere_91 (by decide) ?_
  refine go_iadd (pc := 92) C dX4_rapidHere_92 ?_
  refine X4p_3_3 (pc := 93) C hL dX4_rapidHere_93 ?_
  refine go_nm (pc := 96) (fun z9 => (XW Γ.d A L E z9)) (fun s6 es6 => ?_)
  have h := ltv_eq es6 h
  exact (hE 0 0 _ _ _ (Nat.zero_le _) (Nat.zero_le _)).2.2.2.1 rfl dX4_rapidHere_96 ⟨_, (some1 h).symm, rfl, rfl⟩
theorem m4_rapidHere {l : Launch} {d : gD} {A : XA} {L : List Nat} {E : va_W} {s0 : (Nat → Bl)} {r9 : ((Nat → Bl) ⊕ (Nat → Bl))} (hL : xOK L) (hT : 14 ∈ L) (h : f4_rapidHere s0 = some r9) : MtX l d yX4_rapidHere cX4_rapidHere 3 none (2, 0, 0) 49 (XW d A L E s0) [.ref (A.1 14 0)] (fun v w => ∃ s9 : (Nat → Bl), r9 = .inr s9 ∧ v = none ∧ w = (XW d A L E s9)) (fun w => ∃ s9 : (Nat → Bl), r9 = .inl s9 ∧ w = (XW d A L E s9)) := by
  refine MtX.of x4pn (Nat.le_of_ble_eq_true rfl) ?_
  intro Γ hl hd hN C hE hX
  subst hl; subst hd
  show Go Γ 0 0 (XW Γ.d A L E s0) 0 [(0, .ref (A.1 14 0))] []
  dsimp only [f4_rapidHere] at h
  refine go_aload_n (pc := 0) C dX4_rapidHere_0 rfl 0 rfl ?_
  obtain ⟨r1, s1, e1, h⟩ := bnd2_some h
  refine go_callVi (pc := 1) C [] (m4_see hL hT e1) q562 q564 qs2 q145 q565 x4pd_see (by decide) (by decide) (xO hT hL.1) xc14 rfl (Nat.le_of_ble_eq_true rfl) ⟨Nat.zero_le _, Nat.zero_le _⟩ dX4_rapidHere_1 rfl ?_
  refine go_pop (pc := 4) C dX4_rapidHere_4 rfl ?_
  refine go_aload_n (pc := 5) C dX4_rapidHere_5 rfl 0 rfl ?_
  refine X4g_14_2 (pc := 6) C hL hT dX4_rapidHere_6 ?_
  refine go_istore_n (pc := 9) C hN dX4_rapidHere_9 rfl (by decide) rfl ?_
  refine go_aload_n (pc := 10) C dX4_rapidHere_10 rfl 1 rfl ?_
  refine go_iconst (pc := 11) (v := (1 : Int32)) C dX4_rapidHere_11 (by decide) ?_
  refine go_aload_n (pc := 12) C dX4_rapidHere_12 rfl 1 rfl ?_
  refine X4g_14_1 (pc := 13) C hL hT dX4_rapidHere_13 ?_
  refine X4g_3_0 (pc := 16) C hL dX4_rapidHere_16 ?_
  obtain ⟨t2, e2, hk9, hx9⟩ := bndX2_some h
  refine go_callVXi (pc := 19) C [.int (1 : Int32), .int ((s1 3).1 0)] (m4_number hL hT e2) q638 q640 qs9 q145 q641 x4pd_number (by decide) (by decide) (xO hT hL.1) xc14 rfl (Nat.le_of_ble_eq_true rfl) ⟨Nat.zero_le _, Nat.zero_le _⟩ dX4_rapidHere_19 rfl (fun r2 s2 q9 => ?_) (fun t9 q9 => hX 0 0 _ _ _ _ (Nat.zero_le _) (Nat.zero_le _) ⟨_, hx9 _ q9, rfl⟩)
  have h := hk9 _ _ q9
  refine go_istore_n (pc := 22) C hN dX4_rapidHere_22 rfl (by decide) rfl ?_
  refine go_aload_n (pc := 23) C dX4_rapidHere_23 rfl 2 rfl ?_
  refine go_aload_n (pc := 24) C dX4_rapidHere_24 rfl 2 rfl ?_
  refine X4g_14_1 (pc := 25) C hL hT dX4_rapidHere_25 ?_
  refine go_iload_n (pc := 28) C dX4_rapidHere_28 rfl 0 rfl ?_
  obtain ⟨r3, e3, h⟩ := bnd_some h
  refine go_callVi (pc := 29) C [.int r2] (Mt.x0 (hL.2 3 (by decide)) hL.1 (m1_forceAt e3)) q679 q680 q681 q139 q682 x1pd_forceAt (by decide) (by decide) (xO (hL.2 3 (by decide)) hL.1) xc3 rfl (Nat.le_of_ble_eq_true rfl) ⟨Nat.zero_le _, Nat.zero_le _⟩ dX4_rapidHere_29 rfl ?_
  refine go_if_ne (pc := 32) (tgt := 39) C dX4_rapidHere_32 (by decide) h (fun h => ?_) (fun h => ?_)
  · refine go_iconst (pc := 39) (v := (0 : Int32)) C dX4_rapidHere_39 (by decide) ?_
    refine go_sub [2, 1, 0] rfl ?_
    exact w4_rapidHere_40 hN C hE hL hT hX h
  · refine go_iconst (pc := 35) (v := (1 : Int32)) C dX4_rapidHere_35 (by decide) ?_
    refine go_goto (pc := 36) (tgt := 40) C dX4_rapidHere_36 (by decide) ?_
    refine go_sub [2, 1, 0] rfl ?_
    exact w4_rapidHere_40 hN C hE hL hT hX h
theorem m4_line {l : Launch} {d : gD} {A : XA} {L : List Nat} {E : va_W} {s0 : (Nat → Bl)} {v1 : Int32} {r9 : ((Nat → Bl) ⊕ (Nat → Bl))} (hL : xOK L) (hT : 14 ∈ L) (h : f4_line s0 v1 = some r9) : MtX l d yX4_line cX4_line 2 none (3, 0, 0) 72 (XW d A L E s0) [.ref (A.1 14 0), .int v1] (fun v w => ∃ s9 : (Nat → Bl), r9 = .inr s9 ∧ v = none ∧ w = (XW d A L E s9)) (fun w => ∃ s9 : (Nat → Bl), r9 = .inl s9 ∧ w = (XW d A L E s9)) := by
  refine MtX.of x4pn (Nat.le_of_ble_eq_true rfl) ?_
  intro Γ hl hd hN C hE hX
  subst hl; subst hd
  show Go Γ 0 0 (XW Γ.d A L E s0) 0 [(0, .ref (A.1 14 0)), (1, .int v1)] []
  dsimp only [f4_line] at h
  refine go_iload_n (pc := 0) C dX4_line_0 rfl 1 rfl ?_
  by_cases c1_0 : v1 = (0 : Int32)
  · have h := (if_pos c1_0).symm.trans h
    refine go_tableK (pc := 1) (tgt := 32) C c1_0 dX4_line_1 (by decide) (by decide) rfl (by decide) ?_
    refine go_aload_n (pc := 32) C dX4_line_32 rfl 0 rfl ?_
    refine X4g_14_1 (pc := 33) C hL hT dX4_line_33 ?_
    refine go_aload_n (pc := 36) C dX4_line_36 rfl 0 rfl ?_
    refine go_iconst (pc := 37) (v := (2 : Int32)) C dX4_line_37 (by decide) ?_
    refine go_bipush (pc := 38) (v := (99 : Int32)) C dX4_line_38 (by decide) ?_
    obtain ⟨t2, e2, hk9, hx9⟩ := bndX2_some h
    refine go_callVXi (pc := 40) C [.int (2 : Int32), .int (99 : Int32)] (m4_number hL hT e2) q638 q640 qs9 q145 q641 x4pd_number (by decide) (by decide) (xO hT hL.1) xc14 rfl (Nat.le_of_ble_eq_true rfl) ⟨Nat.zero_le _, Nat.zero_le _⟩ dX4_line_40 rfl (fun r2 s2 q9 => ?_) (fun t9 q9 => hX 0 0 _ _ _ _ (Nat.zero_le _) (Nat.zero_le _) ⟨_, hx9 _ q9, rfl⟩)
    have h := hk9 _ _ q9
    refine X4p_3_0 (pc := 43) C hL dX4_line_43 ?_
    refine go_aload_n (pc := 46) C dX4_line_46 rfl 0 rfl ?_
    refine X4g_14_1 (pc := 47) C hL hT dX4_line_47 ?_
    refine go_aload_n (pc := 50) C dX4_line_50 rfl 0 rfl ?_
    refine go_iconst (pc := 51) (v := (0 : Int32)) C dX4_line_51 (by decide) ?_
    refine go_bipush (pc := 52) (v := (99 : Int32)) C dX4_line_52 (by decide) ?_
    obtain ⟨t3, e3, hk9, hx9⟩ := bndX2_some h
    refine go_callVXi (pc := 54) C [.int (0 : Int32), .int (99 : Int32)] (m4_number hL hT e3) q638 q640 qs9 q145 q641 x4pd_number (by decide) (by decide) (xO hT hL.1) xc14 rfl (Nat.le_of_ble_eq_true rfl) ⟨Nat.zero_le _, Nat.zero_le _⟩ dX4_line_54 rfl (fun r3 s3 q9 => ?_) (fun t9 q9 => hX 0 0 _ _ _ _ (Nat.zero_le _) (Nat.zero_le _) ⟨_, hx9 _ q9, rfl⟩)
    have h := hk9 _ _ q9
    refine X4p_3_4 (pc := 57) C hL dX4_line_57 ?_
    exact (hE 0 0 _ _ _ (Nat.zero_le _) (Nat.zero_le _)).2.2.2.1 rfl dX4_line_60 ⟨_, (some1 h).symm, rfl, rfl⟩
  have h := (if_neg c1_0).symm.trans h
  by_cases c1_1 : v1 = (1 : Int32)
  · have h := (if_pos c1_1).symm.trans h
    refine go_tableK (pc := 1) (tgt := 61) C c1_1 dX4_line_1 (by decide) (by decide) rfl (by decide) ?_
    refine go_aload_n (pc := 61) C dX4_line_61 rfl 0 rfl ?_
    obtain ⟨t4, e4, hk9, hx9⟩ := bndX_some h
    refine go_callVXv (pc := 62) C [] (m4_ownerHere hL hT e4) q649 q651 qs11 q145 q652 x4pd_ownerHere (by decide) (by decide) (xO hT hL.1) xc14 rfl (Nat.le_of_ble_eq_true rfl) ⟨Nat.zero_le _, Nat.zero_le _⟩ dX4_line_62 rfl (fun s4 q9 => ?_) (fun t9 q9 => hX 0 0 _ _ _ _ (Nat.zero_le _) (Nat.zero_le _) ⟨_, hx9 _ q9, rfl⟩)
    have h := hk9 _ q9
    exact (hE 0 0 _ _ _ (Nat.zero_le _) (Nat.zero_le _)).2.2.2.1 rfl dX4_line_65 ⟨_, (some1 h).symm, rfl, rfl⟩
  have h := (if_neg c1_1).symm.trans h
  by_cases c1_2 : v1 = (2 : Int32)
  · have h := (if_pos c1_2).symm.trans h
    refine go_tableK (pc := 1) (tgt := 66) C c1_2 dX4_line_1 (by decide) (by decide) rfl (by decide) ?_
    refine go_aload_n (pc := 66) C dX4_line_66 rfl 0 rfl ?_
    obtain ⟨t5, e5, hk9, hx9⟩ := bndX_some h
    refine go_callVXv (pc := 67) C [] (m4_thingHere hL hT e5) q653 q655 qs12 q145 q656 x4pd_thingHere (by decide) (by decide) (xO hT hL.1) xc14 rfl (Nat.le_of_ble_eq_true rfl) ⟨Nat.zero_le _, Nat.zero_le _⟩ dX4_line_67 rfl (fun s5 q9 => ?_) (fun t9 q9 => hX 0 0 _ _ _ _ (Nat.zero_le _) (Nat.zero_le _) ⟨_, hx9 _ q9, rfl⟩)
    have h := hk9 _ q9
    exact (hE 0 0 _ _ _ (Nat.zero_le _) (Nat.zero_le _)).2.2.2.1 rfl dX4_line_70 ⟨_, (some1 h).symm, rfl, rfl⟩
  have h := (if_neg c1_2).symm.trans h
  by_cases c1_3 : v1 = (3 : Int32)
  · have h := (if_pos c1_3).symm.trans h
    refine go_tableK (pc := 1) (tgt := 71) C c1_3 dX4_line_1 (by decide) (by decide) rfl (by decide) ?_
    refine go_aload_n (pc := 71) C dX4_line_71 rfl 0 rfl ?_
    obtain ⟨t6, e6, hk9, hx9⟩ := bndX_some h
    refine go_callVXv (pc := 72) C [] (m4_boundHere hL hT e6) q657 q659 qs13 q145 q660 x4pd_boundHere (by decide) (by decide) (xO hT hL.1) xc14 rfl (Nat.le_of_ble_eq_true rfl) ⟨Nat.zero_le _, Nat.zero_le _⟩ dX4_line_72 rfl (fun s6 q9 => ?_) (fun t9 q9 => hX 0 0 _ _ _ _ (Nat.zero_le _) (Nat.zero_le _) ⟨_, hx9 _ q9, rfl⟩)
    have h := hk9 _ q9
    exact (hE 0 0 _ _ _ (Nat.zero_le _) (Nat.zero_le _)).2.2.2.1 rfl dX4_line_75 ⟨_, (some1 h).symm, rfl, rfl⟩
  have h := (if_neg c1_3).symm.trans h
  refine go_tableD (pc := 1) (tgt := 76) C [(0 : Int32), (1 : Int32), (2 : Int32), (3 : Int32)] (List.forall_mem_cons.mpr ⟨c1_0, List.forall_mem_cons.mpr ⟨c1_1, List.forall_mem_cons.mpr ⟨c1_2, List.forall_mem_cons.mpr ⟨c1_3, fun _ h9 => absurd h9 List.not_mem_nil⟩⟩⟩⟩) dX4_line_1 (by decide) (by decide +kernel) (by decide) (by decide) (by decide) ?_
  refine go_aload_n (pc := 76) C dX4_line_76 rfl 0 rfl ?_
  obtain ⟨t7, e7, hk9, hx9⟩ := bndX_some h
  refine go_callVXv (pc := 77) C [] (m4_rapidHere hL hT e7) q675 q677 qs14 q145 q678 x4pd_rapidHere (by decide) (by decide) (xO hT hL.1) xc14 rfl (Nat.le_of_ble_eq_true rfl) ⟨Nat.zero_le _, Nat.zero_le _⟩ dX4_line_77 rfl (fun s7 q9 => ?_) (fun t9 q9 => hX 0 0 _ _ _ _ (Nat.zero_le _) (Nat.zero_le _) ⟨_, hx9 _ q9, rfl⟩)
  have h := hk9 _ q9
  exact (hE 0 0 _ _ _ (Nat.zero_le _) (Nat.zero_le _)).2.2.2.1 rfl dX4_line_80 ⟨_, (some1 h).symm, rfl, rfl⟩
theorem w4_riverTold_48 {Γ : Gam} {A : XA} {L : List Nat} {E : va_W} {s0 : (Nat → Bl)} {v1 : Int32} {v2 : Int32} {z0 : Int32} {r9 : ((Nat → Bl) ⊕ (Nat → Bl))} {K15 : (Nat → Bl) → Option ((Nat → Bl) ⊕ (Nat → Bl))} (hN : Γ.nL = 3) (C : Cx Γ cX4_riverTold RX4 (6, 0, 0) 131) (hE : Rets Γ cX4_riverTold (some (.object "PartyRaft$Flow")) 0 0 (fun v w => ∃ s9 : (Nat → Bl), r9 = .inr s9 ∧ v = some (.ref (A.1 3 0)) ∧ w = (XW Γ.d A L E s9))) (hL : xOK L) (hT : 14 ∈ L) (hX : ∀ (k n : Nat) (ws' : va_W) (pc : Nat) (lv : List (Nat × Value)) (st : List Value), k ≤ 0 → n ≤ 0 → (fun w => ∃ s9 : (Nat → Bl), r9 = .inl s9 ∧ w = (XW Γ.d A L E s9)) ws' → GoX Γ k n ws' pc lv st)
    (hK15 : ∀ s, K15 s = some r9 → (fun s : (Nat → Bl) => Go Γ 0 0 (XW Γ.d A L E s) 15 [(0, .ref (A.1 14 0))] []) s) (h : g4_riverTold_48 K15 s0 v1 v2 z0 = some r9) : Go Γ 0 0 (XW Γ.d A L E s0) 48 [(0, .ref (A.1 14 0)), (1, .int v1), (2, .int v2)] [.int z0, .ref (A.1 14 0)] := by
  dsimp only [g4_riverTold_48] at h
  refine go_iconst (pc := 48) (v := (0 : Int32)) C dX4_riverTold_48 (by decide) ?_
  refine go_iload_n (pc := 49) C dX4_riverTold_49 rfl 1 rfl ?_
  obtain ⟨t4, e4, hk9, hx9⟩ := bndX_some h
  refine go_callVXv (pc := 50) C [.int z0, .int (0 : Int32), .int v1] (m4_demand hL hT e4) q626 q628 qs6 q145 q629 x4pd_demand (by decide) (by decide) (xO hT hL.1) xc14 rfl (Nat.le_of_ble_eq_true rfl) ⟨Nat.zero_le _, Nat.zero_le _⟩ dX4_riverTold_50 rfl (fun s4 q9 => ?_) (fun t9 q9 => hX 0 0 _ _ _ _ (Nat.zero_le _) (Nat.zero_le _) ⟨_, hx9 _ q9, rfl⟩)
  have h := hk9 _ q9
  refine go_aload_n (pc := 53) C dX4_riverTold_53 rfl 0 rfl ?_
  refine go_aload_n (pc := 54) C dX4_riverTold_54 rfl 0 rfl ?_
  refine go_iload_n (pc := 55) C dX4_riverTold_55 rfl 2 rfl ?_
  obtain ⟨r5, e5, h⟩ := bnd_some h
  refine go_callVi (pc := 56) C [.int v2] (m4_canBe hL hT e5) q630 q632 qs7 q145 q633 x4pd_canBe (by decide) (by decide) (xO hT hL.1) xc14 rfl (Nat.le_of_ble_eq_true rfl) ⟨Nat.zero_le _, Nat.zero_le _⟩ dX4_riverTold_56 rfl ?_
  refine go_iconst (pc := 59) (v := (4 : Int32)) C dX4_riverTold_59 (by decide) ?_
  refine go_iload_n (pc := 60) C dX4_riverTold_60 rfl 1 rfl ?_
  obtain ⟨t6, e6, hk9, hx9⟩ := bndX_some h
  refine go_callVXv (pc := 61) C [.int r5, .int (4 : Int32), .int v1] (m4_demand hL hT e6) q626 q628 qs6 q145 q629 x4pd_demand (by decide) (by decide) (xO hT hL.1) xc14 rfl (Nat.le_of_ble_eq_true rfl) ⟨Nat.zero_le _, Nat.zero_le _⟩ dX4_riverTold_61 rfl (fun s6 q9 => ?_) (fun t9 q9 => hX 0 0 _ _ _ _ (Nat.zero_le _) (Nat.zero_le _) ⟨_, hx9 _ q9, rfl⟩)
  have h := hk9 _ q9
  refine go_aload_n (pc := 64) C dX4_riverTold_64 rfl 0 rfl ?_
  refine go_dup (pc := 65) C dX4_riverTold_65 rfl ?_
  refine X4g_14_5 (pc := 66) C hL hT dX4_riverTold_66 ?_
  refine go_iconst (pc := 69) (v := (1 : Int32)) C dX4_riverTold_69 (by decide) ?_
  refine go_iadd (pc := 70) C dX4_riverTold_70 ?_
  refine X4p_14_5 (pc := 71) C hL hT dX4_riverTold_71 ?_
  refine go_aload_n (pc := 74) C dX4_riverTold_74 rfl 0 rfl ?_
  refine go_dup (pc := 75) C dX4_riverTold_75 rfl ?_
  refine X4g_14_2 (pc := 76) C hL hT dX4_riverTold_76 ?_
  refine go_aload_n (pc := 79) C dX4_riverTold_79 rfl 0 rfl ?_
  refine X4g_14_6 (pc := 80) C hL hT dX4_riverTold_80 ?_
  refine X4g_0_9 (pc := 83) C hL dX4_riverTold_83 ?_
  refine go_iload_n (pc := 86) C dX4_riverTold_86 rfl 2 rfl ?_
  refine go_aald (pc := 87) (t := 4) C (xs_9 hL) rfl h dX4_riverTold_87 (fun h => ?_)
  dsimp only [va_rf]
  obtain ⟨hi9, h⟩ := chk_some h
  refine go_callVSi (pc := 88) C (of_decide_eq_true hi9) [] (m_J3_length (of_decide_eq_true hi9)) q578 q579 q580 q581 pd_J3_length (by decide) (by decide) rfl (Nat.le_of_ble_eq_true rfl) ⟨Nat.zero_le _, Nat.zero_le _⟩ dX4_riverTold_88 rfl ?_
  refine go_iadd (pc := 91) C dX4_riverTold_91 ?_
  refine X4p_14_2 (pc := 92) C hL hT dX4_riverTold_92 ?_
  refine go_nm (pc := 95) (fun z9 => (XW Γ.d A L E z9)) (fun s7 es7 => ?_)
  have h := ltv_eq es7 h
  refine go_aload_n (pc := 95) C dX4_riverTold_95 rfl 0 rfl ?_
  refine go_iload_n (pc := 96) C dX4_riverTold_96 rfl 2 rfl ?_
  obtain ⟨t8, e8, hk9, hx9⟩ := bndX_some h
  refine go_callVXv (pc := 97) C [.int v2] (m4_line hL hT e8) q634 q636 qs8 q145 q637 x4pd_line (by decide) (by decide) (xO hT hL.1) xc14 rfl (Nat.le_of_ble_eq_true rfl) ⟨Nat.zero_le _, Nat.zero_le _⟩ dX4_riverTold_97 rfl (fun s8 q9 => ?_) (fun t9 q9 => hX 0 0 _ _ _ _ (Nat.zero_le _) (Nat.zero_le _) ⟨_, hx9 _ q9, rfl⟩)
  have h := hk9 _ q9
  refine go_aload_n (pc := 100) C dX4_riverTold_100 rfl 0 rfl ?_
  refine go_bipush (pc := 101) (v := (59 : Int32)) C dX4_riverTold_101 (by decide) ?_
  obtain ⟨r9, s9, e9, h⟩ := bnd2_some h
  refine go_callVi (pc := 103) C [.int (59 : Int32)] (m4_takesSign hL hT e9) q683 q685 qs15 q145 q686 x4pd_takesSign (by decide) (by decide) (xO hT hL.1) xc14 rfl (Nat.le_of_ble_eq_true rfl) ⟨Nat.zero_le _, Nat.zero_le _⟩ dX4_riverTold_103 rfl ?_
  refine go_if_ne (pc := 106) (tgt := 15) C dX4_riverTold_106 (by decide) h (fun h => ?_) (fun h => ?_)
  · refine go_sub [0] rfl ?_
    exact hK15 s9 h
  · refine go_aload_n (pc := 109) C dX4_riverTold_109 rfl 0 rfl ?_
    obtain ⟨t10, e10, hk9, hx9⟩ := bndX_some h
    refine go_callVXv (pc := 110) C [] (m4_ends hL hT e10) q687 q689 qs16 q145 q690 x4pd_ends (by decide) (by decide) (xO hT hL.1) xc14 rfl (Nat.le_of_ble_eq_true rfl) ⟨Nat.zero_le _, Nat.zero_le _⟩ dX4_riverTold_110 rfl (fun s10 q9 => ?_) (fun t9 q9 => hX 0 0 _ _ _ _ (Nat.zero_le _) (Nat.zero_le _) ⟨_, hx9 _ q9, rfl⟩)
    have h := hk9 _ q9
    refine go_aload_n (pc := 113) C dX4_riverTold_113 rfl 0 rfl ?_
    refine X4g_14_1 (pc := 114) C hL hT dX4_riverTold_114 ?_
    exact (hE 0 0 _ _ _ (Nat.zero_le _) (Nat.zero_le _)).2.2.2.2.1 _ _ rfl dX4_riverTold_117 ⟨_, (some1 h).symm, rfl, rfl⟩
theorem w4_riverTold_15 {Γ : Gam} {A : XA} {L : List Nat} {E : va_W} {r9 : ((Nat → Bl) ⊕ (Nat → Bl))} (hN : Γ.nL = 3) (C : Cx Γ cX4_riverTold RX4 (6, 0, 0) 131) (hE : Rets Γ cX4_riverTold (some (.object "PartyRaft$Flow")) 0 0 (fun v w => ∃ s9 : (Nat → Bl), r9 = .inr s9 ∧ v = some (.ref (A.1 3 0)) ∧ w = (XW Γ.d A L E s9))) (hL : xOK L) (hT : 14 ∈ L) (hX : ∀ (k n : Nat) (ws' : va_W) (pc : Nat) (lv : List (Nat × Value)) (st : List Value), k ≤ 0 → n ≤ 0 → (fun w => ∃ s9 : (Nat → Bl), r9 = .inl s9 ∧ w = (XW Γ.d A L E s9)) ws' → GoX Γ k n ws' pc lv st) : ∀ (n : Nat) (s : (Nat → Bl)), loop (g4_riverTold_15) n s = some r9 → (fun s : (Nat → Bl) => Go Γ 0 0 (XW Γ.d A L E s) 15 [(0, .ref (A.1 14 0))] []) s := by
  refine loop_walk (P := fun s : (Nat → Bl) => Go Γ 0 0 (XW Γ.d A L E s) 15 [(0, .ref (A.1 14 0))] []) ?_
  intro K15 hK15 s h
  obtain ⟨s0, rfl⟩ : ∃ z, z = s := ⟨_, rfl⟩
  dsimp only [g4_riverTold_15] at h
  show Go Γ 0 0 (XW Γ.d A L E s0) 15 [(0, .ref (A.1 14 0))] []
  refine go_aload_n (pc := 15) C dX4_riverTold_15 rfl 0 rfl ?_
  obtain ⟨r2, s2, e2, h⟩ := bnd2_some h
  refine go_callVi (pc := 16) C [] (m4_see hL hT e2) q562 q564 qs2 q145 q565 x4pd_see (by decide) (by decide) (xO hT hL.1) xc14 rfl (Nat.le_of_ble_eq_true rfl) ⟨Nat.zero_le _, Nat.zero_le _⟩ dX4_riverTold_16 rfl ?_
  refine go_pop (pc := 19) C dX4_riverTold_19 rfl ?_
  refine go_aload_n (pc := 20) C dX4_riverTold_20 rfl 0 rfl ?_
  refine X4g_14_2 (pc := 21) C hL hT dX4_riverTold_21 ?_
  refine go_istore_n (pc := 24) C hN dX4_riverTold_24 rfl (by decide) rfl ?_
  refine go_aload_n (pc := 25) C dX4_riverTold_25 rfl 1 rfl ?_
  refine go_aload_n (pc := 26) C dX4_riverTold_26 rfl 1 rfl ?_
  refine X4g_14_6 (pc := 27) C hL hT dX4_riverTold_27 ?_
  refine X4g_0_9 (pc := 30) C hL dX4_riverTold_30 ?_
  obtain ⟨r3, s3, e3, h⟩ := bnd2_some h
  refine go_callVi (pc := 33) C [.ref (A.1 0 (9 + 1))] (m4_oneOf hL hT (fun x => xs_9 hL) e3) q566 q568 qs3 q145 q569 x4pd_oneOf (by decide) (by decide) (xO hT hL.1) xc14 rfl (Nat.le_of_ble_eq_true rfl) ⟨Nat.zero_le _, Nat.zero_le _⟩ dX4_riverTold_33 rfl ?_
  refine go_istore_n (pc := 36) C hN dX4_riverTold_36 rfl (by decide) rfl ?_
  refine go_aload_n (pc := 37) C dX4_riverTold_37 rfl 2 rfl ?_
  refine go_iload_n (pc := 38) C dX4_riverTold_38 rfl 0 rfl ?_
  refine go_iconst (pc := 39) (v := (-1 : Int32)) C dX4_riverTold_39 (by decide) ?_
  refine go_icmp_eq (pc := 40) (tgt := 47) C dX4_riverTold_40 (by decide) h (fun h => ?_) (fun h => ?_)
  · refine go_iconst (pc := 47) (v := (0 : Int32)) C dX4_riverTold_47 (by decide) ?_
    refine go_sub [2, 1, 0] rfl ?_
    exact w4_riverTold_48 hN C hE hL hT hX hK15 h
  · refine go_iconst (pc := 43) (v := (1 : Int32)) C dX4_riverTold_43 (by decide) ?_
    refine go_goto (pc := 44) (tgt := 48) C dX4_riverTold_44 (by decide) ?_
    refine go_sub [2, 1, 0] rfl ?_
    exact w4_riverTold_48 hN C hE hL hT hX hK15 h
theorem m4_riverTold {l : Launch} {d : gD} {A : XA} {L : List Nat} {E : va_W} {s0 : (Nat → Bl)} {r9 : ((Nat → Bl) ⊕ (Nat → Bl))} (hL : xOK L) (hT : 14 ∈ L) (h : f4_riverTold s0 = some r9) : MtX l d yX4_riverTold cX4_riverTold 3 (some (.object "PartyRaft$Flow")) (6, 0, 0) 131 (XW d A L E s0) [.ref (A.1 14 0)] (fun v w => ∃ s9 : (Nat → Bl), r9 = .inr s9 ∧ v = some (.ref (A.1 3 0)) ∧ w = (XW d A L E s9)) (fun w => ∃ s9 : (Nat → Bl), r9 = .inl s9 ∧ w = (XW d A L E s9)) := by
  refine MtX.of x4pn (Nat.le_of_ble_eq_true rfl) ?_
  intro Γ hl hd hN C hE hX
  subst hl; subst hd
  show Go Γ 0 0 (XW Γ.d A L E s0) 0 [(0, .ref (A.1 14 0))] []
  dsimp only [f4_riverTold] at h
  refine go_aload_n (pc := 0) C dX4_riverTold_0 rfl 0 rfl ?_
  refine X4g_14_1 (pc := 1) C hL hT dX4_riverTold_1 ?_
  refine go_aload_n (pc := 4) C dX4_riverTold_4 rfl 0 rfl ?_
  refine X4g_14_6 (pc := 5) C hL hT dX4_riverTold_5 ?_
  refine X4g_0_4 (pc := 8) C hL dX4_riverTold_8 ?_
  obtain ⟨s1, e1, h⟩ := bnd_some h
  refine go_callVa (pc := 11) C [.ref (A.1 4 0)] (Mt.x2 (hL.2 3 (by decide)) (hL.2 4 (by decide)) (by decide) hL.1 (m1_copies e1)) q551 q552 q553 q139 q554 x1pd_copies (by decide) (by decide) (xO (hL.2 3 (by decide)) hL.1) xc3 rfl (Nat.le_of_ble_eq_true rfl) ⟨Nat.zero_le _, Nat.zero_le _⟩ dX4_riverTold_11 rfl ?_
  refine go_pop (pc := 14) C dX4_riverTold_14 rfl ?_
  exact w4_riverTold_15 hN C hE hL hT hX FU (upX s0 3 s1) h

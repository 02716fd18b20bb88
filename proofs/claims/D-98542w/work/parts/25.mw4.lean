/-! walks of the Model, printed by gen/model.py -/
set_option maxRecDepth 100000
set_option maxHeartbeats 4000000
theorem m3_winningFrom {l : Launch} {d : gD} {a : Nat → Nat} {s0 : Bl} {v1 : Int32} {r9 : Int32} (h : f3_winningFrom s0 v1 = some r9) : Mt l d yX3_winningFrom cX3_winningFrom 4 (some .int) (3, 0, 0) 65 (bW d 3 FK3 a s0) [.ref (a 0), .int v1] (fun v w => v = some (.int r9) ∧ w = (bW d 3 FK3 a s0)) := by
  refine Mt.of x3pn (Nat.le_of_ble_eq_true rfl) ?_
  intro Γ hl hd hN C hE
  subst hl; subst hd
  show Go Γ 0 0 (bW Γ.d 3 FK3 a s0) 0 [(0, .ref (a 0)), (1, .int v1)] []
  dsimp only [f3_winningFrom] at h
  refine go_iconst (pc := 0) (v := (0 : Int32)) C dX3_winningFrom_0 (by decide) ?_
  refine go_istore_n (pc := 1) C hN dX3_winningFrom_1 rfl (by decide) rfl ?_
  refine go_sub [1, 2, 0] rfl ?_
  exact w3_winningFrom_2 hN C hE FU (0 : Int32) h
theorem w3_game_29 {Γ : Gam} {a : Nat → Nat} {v2 : Int32} {v3 : Int32} {r9 : Int32} {s9 : Bl} (hN : Γ.nL = 5) (C : Cx Γ cX3_game RX3 (4, 0, 0) 88) (hE : Rets Γ cX3_game (some .int) 0 0 (fun v w => v = some (.int r9) ∧ w = (bW Γ.d 3 FK3 a s9))) : ∀ (n : Nat) (s : Bl × Int32), loop (g3_game_29 v2 v3) n s = some (r9, s9) → (fun s : Bl × Int32 => Go Γ 0 0 (bW Γ.d 3 FK3 a s.1) 29 [(0, .ref (a 0)), (2, .int v2), (3, .int v3), (4, .int s.2)] []) s := by
  refine loop_walk (P := fun s : Bl × Int32 => Go Γ 0 0 (bW Γ.d 3 FK3 a s.1) 29 [(0, .ref (a 0)), (2, .int v2), (3, .int v3), (4, .int s.2)] []) ?_
  intro K29 hK29 s h
  obtain ⟨s0, v4⟩ := s
  dsimp only [g3_game_29] at h
  show Go Γ 0 0 (bW Γ.d 3 FK3 a s0) 29 [(0, .ref (a 0)), (2, .int v2), (3, .int v3), (4, .int v4)] []
  refine go_iload (pc := 29) C dX3_game_29 3 rfl ?_
  refine go_iload_n (pc := 31) C dX3_game_31 rfl 2 rfl ?_
  refine go_icmp_gt (pc := 32) (tgt := 72) C dX3_game_32 (by decide) h (fun h => ?_) (fun h => ?_)
  · refine go_iload_n (pc := 72) C dX3_game_72 rfl 1 rfl ?_
    refine go_if_ne (pc := 73) (tgt := 91) C dX3_game_73 (by decide) h (fun h => ?_) (fun h => ?_)
    · refine go_aload_n (pc := 91) C dX3_game_91 rfl 0 rfl ?_
      refine x3gr_68 (pc := 92) C dX3_game_92 ?_
      refine go_iload_n (pc := 95) C dX3_game_95 rfl 2 rfl ?_
      refine go_zald (pc := 96) C x3aA_68 h dX3_game_96 (fun h => ?_)
      refine go_if_eq (pc := 97) (tgt := 108) C dX3_game_97 (by decide) h (fun h => ?_) (fun h => ?_)
      · refine go_bipush (pc := 108) (v := (-2 : Int32)) C dX3_game_108 (by decide) ?_
        exact (hE 0 0 _ _ _ (Nat.zero_le _) (Nat.zero_le _)).1 _ rfl dX3_game_110 ⟨congrArg (fun z => some (Value.int z)) (some2 h).1, congrArg (fun z => bW Γ.d 3 FK3 a z) (some2 h).2⟩
      · refine go_aload_n (pc := 100) C dX3_game_100 rfl 0 rfl ?_
        refine go_iload_n (pc := 101) C dX3_game_101 rfl 2 rfl ?_
        obtain ⟨r4, e4, h⟩ := bnd_some h
        refine go_callVi (pc := 102) C [.int v3] (m3_winningFrom e4) q1981 q1983 qs134 q144 q1984 x3pd_winningFrom (by decide) (by decide) bW_O x3c rfl (Nat.le_of_ble_eq_true rfl) ⟨Nat.zero_le _, Nat.zero_le _⟩ dX3_game_102 rfl ?_
        refine go_goto (pc := 105) (tgt := 110) C dX3_game_105 (by decide) ?_
        exact (hE 0 0 _ _ _ (Nat.zero_le _) (Nat.zero_le _)).1 _ rfl dX3_game_110 ⟨congrArg (fun z => some (Value.int z)) (some2 h).1, congrArg (fun z => bW Γ.d 3 FK3 a z) (some2 h).2⟩
    · refine go_aload_n (pc := 76) C dX3_game_76 rfl 0 rfl ?_
      refine x3gr_68 (pc := 77) C dX3_game_77 ?_
      refine go_iload_n (pc := 80) C dX3_game_80 rfl 2 rfl ?_
      refine go_zald (pc := 81) C x3aA_68 h dX3_game_81 (fun h => ?_)
      refine go_if_eq (pc := 82) (tgt := 89) C dX3_game_82 (by decide) h (fun h => ?_) (fun h => ?_)
      · refine go_iconst (pc := 89) (v := (0 : Int32)) C dX3_game_89 (by decide) ?_
        exact (hE 0 0 _ _ _ (Nat.zero_le _) (Nat.zero_le _)).1 _ rfl dX3_game_90 ⟨congrArg (fun z => some (Value.int z)) (some2 h).1, congrArg (fun z => bW Γ.d 3 FK3 a z) (some2 h).2⟩
      · refine go_iconst (pc := 85) (v := (1 : Int32)) C dX3_game_85 (by decide) ?_
        refine go_goto (pc := 86) (tgt := 90) C dX3_game_86 (by decide) ?_
        exact (hE 0 0 _ _ _ (Nat.zero_le _) (Nat.zero_le _)).1 _ rfl dX3_game_90 ⟨congrArg (fun z => some (Value.int z)) (some2 h).1, congrArg (fun z => bW Γ.d 3 FK3 a z) (some2 h).2⟩
  · refine go_iload (pc := 35) C dX3_game_35 3 rfl ?_
    refine go_iload_n (pc := 37) C dX3_game_37 rfl 2 rfl ?_
    refine go_iconst (pc := 38) (v := (-1 : Int32)) C dX3_game_38 (by decide) ?_
    refine go_ixor (pc := 39) C dX3_game_39 ?_
    refine go_iand (pc := 40) C dX3_game_40 ?_
    refine go_if_ne (pc := 41) (tgt := 66) C dX3_game_41 (by decide) h (fun h => ?_) (fun h => ?_)
    · refine go_iinc (pc := 66) (v := (v4 + (1 : Int32))) C hN dX3_game_66 (q := 3) rfl rfl (by decide) rfl ?_
      refine go_goto (pc := 69) (tgt := 29) C dX3_game_69 (by decide) ?_
      refine go_sub [1, 2, 3, 0] rfl ?_
      exact hK29 (s0, (v4 + (1 : Int32))) h
    · refine go_aload_n (pc := 44) C dX3_game_44 rfl 0 rfl ?_
      refine x3gr_68 (pc := 45) C dX3_game_45 ?_
      refine go_iload (pc := 48) C dX3_game_48 3 rfl ?_
      refine go_aload_n (pc := 50) C dX3_game_50 rfl 0 rfl ?_
      refine go_iload (pc := 51) C dX3_game_51 3 rfl ?_
      obtain ⟨r5, e5, h⟩ := bnd_some h
      refine go_callVi (pc := 53) C [.int v4] (m3_winningFrom e5) q1981 q1983 qs134 q144 q1984 x3pd_winningFrom (by decide) (by decide) bW_O x3c rfl (Nat.le_of_ble_eq_true rfl) ⟨Nat.zero_le _, Nat.zero_le _⟩ dX3_game_53 rfl ?_
      refine go_iconst (pc := 56) (v := (-1 : Int32)) C dX3_game_56 (by decide) ?_
      refine go_icmp_eq (pc := 57) (tgt := 64) C dX3_game_57 (by decide) h (fun h => ?_) (fun h => ?_)
      · refine go_iconst (pc := 64) (v := (0 : Int32)) C dX3_game_64 (by decide) ?_
        refine go_zast (pc := 65) C x3pA_68 h dX3_game_65 (fun h => ?_)
        refine go_iinc (pc := 66) (v := (v4 + (1 : Int32))) C hN dX3_game_66 (q := 3) rfl rfl (by decide) rfl ?_
        refine go_goto (pc := 69) (tgt := 29) C dX3_game_69 (by decide) ?_
        refine go_sub [1, 2, 3, 0] rfl ?_
        exact hK29 ((bA s0 68 (v4).toNatClampNeg (vp_nar .boolean (0 : Int32))), (v4 + (1 : Int32))) h
      · refine go_iconst (pc := 60) (v := (1 : Int32)) C dX3_game_60 (by decide) ?_
        refine go_goto (pc := 61) (tgt := 65) C dX3_game_61 (by decide) ?_
        refine go_zast (pc := 65) C x3pA_68 h dX3_game_65 (fun h => ?_)
        refine go_iinc (pc := 66) (v := (v4 + (1 : Int32))) C hN dX3_game_66 (q := 3) rfl rfl (by decide) rfl ?_
        refine go_goto (pc := 69) (tgt := 29) C dX3_game_69 (by decide) ?_
        refine go_sub [1, 2, 3, 0] rfl ?_
        exact hK29 ((bA s0 68 (v4).toNatClampNeg (vp_nar .boolean (1 : Int32))), (v4 + (1 : Int32))) h
theorem m3_game {l : Launch} {d : gD} {a : Nat → Nat} {s0 : Bl} {v1 : Int32} {v2 : Int32} {r9 : Int32} {s9 : Bl} (h : f3_game s0 v1 v2 = some (r9, s9)) : Mt l d yX3_game cX3_game 5 (some .int) (4, 0, 0) 88 (bW d 3 FK3 a s0) [.ref (a 0), .int v1, .int v2] (fun v w => v = some (.int r9) ∧ w = (bW d 3 FK3 a s9)) := by
  refine Mt.of x3pn (Nat.le_of_ble_eq_true rfl) ?_
  intro Γ hl hd hN C hE
  subst hl; subst hd
  show Go Γ 0 0 (bW Γ.d 3 FK3 a s0) 0 [(0, .ref (a 0)), (1, .int v1), (2, .int v2)] []
  dsimp only [f3_game] at h
  refine go_aload_n (pc := 0) C dX3_game_0 rfl 0 rfl ?_
  refine go_iload_n (pc := 1) C dX3_game_1 rfl 1 rfl ?_
  obtain ⟨r1, e1, h⟩ := bnd_some h
  refine go_callVi (pc := 2) C [.int v1] (m3_isAfloat e1) q1728 q1730 qs94 q144 q1731 x3pd_isAfloat (by decide) (by decide) bW_O x3c rfl (Nat.le_of_ble_eq_true rfl) ⟨Nat.zero_le _, Nat.zero_le _⟩ dX3_game_2 rfl ?_
  refine go_if_eq (pc := 5) (tgt := 18) C dX3_game_5 (by decide) h (fun h => ?_) (fun h => ?_)
  · refine go_iconst (pc := 18) (v := (-1 : Int32)) C dX3_game_18 (by decide) ?_
    exact (hE 0 0 _ _ _ (Nat.zero_le _) (Nat.zero_le _)).1 _ rfl dX3_game_19 ⟨congrArg (fun z => some (Value.int z)) (some2 h).1, congrArg (fun z => bW Γ.d 3 FK3 a z) (some2 h).2⟩
  · refine go_iload_n (pc := 8) C dX3_game_8 rfl 2 rfl ?_
    refine go_i2l (pc := 9) C dX3_game_9 ?_
    refine go_lconst (pc := 10) (v := (0 : Int64)) C dX3_game_10 (by decide) ?_
    refine go_lconst (pc := 11) (v := (1 : Int64)) C dX3_game_11 (by decide) ?_
    obtain ⟨r2, e2, h⟩ := bnd_some h
    refine go_callSi (pc := 12) C [.long (v2).toInt64, .long (0 : Int64), .long (1 : Int64)] (m3_in e2) q1564 q1565 q144 q1566 x3pd_in (by decide) (by decide) rfl (Nat.le_of_ble_eq_true rfl) ⟨Nat.zero_le _, Nat.zero_le _⟩ dX3_game_12 rfl ?_
    refine go_if_ne (pc := 15) (tgt := 20) C dX3_game_15 (by decide) h (fun h => ?_) (fun h => ?_)
    · refine go_aload_n (pc := 20) C dX3_game_20 rfl 0 rfl ?_
      refine go_iload_n (pc := 21) C dX3_game_21 rfl 1 rfl ?_
      obtain ⟨r3, e3, h⟩ := bnd_some h
      refine go_callVi (pc := 22) C [.int v1] (m3_pieceOf e3) q1700 q1702 qs90 q144 q1703 x3pd_pieceOf (by decide) (by decide) bW_O x3c rfl (Nat.le_of_ble_eq_true rfl) ⟨Nat.zero_le _, Nat.zero_le _⟩ dX3_game_22 rfl ?_
      refine go_istore_n (pc := 25) C hN dX3_game_25 rfl (by decide) rfl ?_
      refine go_iconst (pc := 26) (v := (0 : Int32)) C dX3_game_26 (by decide) ?_
      refine go_istore (pc := 27) C hN dX3_game_27 (by decide) rfl ?_
      refine go_sub [2, 4, 1, 0] rfl ?_
      exact w3_game_29 hN C hE FU (s0, (0 : Int32)) h
    · refine go_iconst (pc := 18) (v := (-1 : Int32)) C dX3_game_18 (by decide) ?_
      exact (hE 0 0 _ _ _ (Nat.zero_le _) (Nat.zero_le _)).1 _ rfl dX3_game_19 ⟨congrArg (fun z => some (Value.int z)) (some2 h).1, congrArg (fun z => bW Γ.d 3 FK3 a z) (some2 h).2⟩
theorem m3_seed {l : Launch} {d : gD} {a : Nat → Nat} {s0 : Bl} {v1 : Int32} {r9 : Int32} {s9 : Bl} (h : f3_seed s0 v1 = some (r9, s9)) : Mt l d yX3_seed cX3_seed 3 (some .int) (0, 0, 0) 0 (bW d 3 FK3 a s0) [.ref (a 0), .int v1] (fun v w => v = some (.int r9) ∧ w = (bW d 3 FK3 a s9)) := by
  refine Mt.of x3pn (Nat.le_of_ble_eq_true rfl) ?_
  intro Γ hl hd hN C hE
  subst hl; subst hd
  show Go Γ 0 0 (bW Γ.d 3 FK3 a s0) 0 [(0, .ref (a 0)), (1, .int v1)] []
  dsimp only [f3_seed] at h
  refine go_iload_n (pc := 0) C dX3_seed_0 rfl 1 rfl ?_
  refine go_if_ge (pc := 1) (tgt := 6) C dX3_seed_1 (by decide) h (fun h => ?_) (fun h => ?_)
  · refine go_aload_n (pc := 6) C dX3_seed_6 rfl 0 rfl ?_
    refine x3gr_1 (pc := 7) C dX3_seed_7 ?_
    refine go_bipush (pc := 10) (v := (8 : Int32)) C dX3_seed_10 (by decide) ?_
    refine go_ialdK (pc := 12) (j := 8) C x3aA_1 (by decide) (by decide) dX3_seed_12 ?_
    refine go_istore_n (pc := 13) C hN dX3_seed_13 rfl (by decide) rfl ?_
    refine go_aload_n (pc := 14) C dX3_seed_14 rfl 1 rfl ?_
    refine x3gr_1 (pc := 15) C dX3_seed_15 ?_
    refine go_bipush (pc := 18) (v := (8 : Int32)) C dX3_seed_18 (by decide) ?_
    refine go_iload_n (pc := 20) C dX3_seed_20 rfl 2 rfl ?_
    refine go_iastK (pc := 21) (j := 8) C x3pA_1 (by decide) (by decide) dX3_seed_21 ?_
    refine go_iload_n (pc := 22) C dX3_seed_22 rfl 0 rfl ?_
    exact (hE 0 0 _ _ _ (Nat.zero_le _) (Nat.zero_le _)).1 _ rfl dX3_seed_23 ⟨congrArg (fun z => some (Value.int z)) (some2 h).1, congrArg (fun z => bW Γ.d 3 FK3 a z) (some2 h).2⟩
  · refine go_iconst (pc := 4) (v := (-1 : Int32)) C dX3_seed_4 (by decide) ?_
    exact (hE 0 0 _ _ _ (Nat.zero_le _) (Nat.zero_le _)).1 _ rfl dX3_seed_5 ⟨congrArg (fun z => some (Value.int z)) (some2 h).1, congrArg (fun z => bW Γ.d 3 FK3 a z) (some2 h).2⟩
theorem m3_draws {l : Launch} {d : gD} {a : Nat → Nat} {s0 : Bl} {v1 : Int32} {r9 : Int32} {s9 : Bl} (h : f3_draws s0 v1 = some (r9, s9)) : Mt l d yX3_draws cX3_draws 2 (some .int) (0, 0, 0) 0 (bW d 3 FK3 a s0) [.ref (a 0), .int v1] (fun v w => v = some (.int r9) ∧ w = (bW d 3 FK3 a s9)) := by
  refine Mt.of x3pn (Nat.le_of_ble_eq_true rfl) ?_
  intro Γ hl hd hN C hE
  subst hl; subst hd
  show Go Γ 0 0 (bW Γ.d 3 FK3 a s0) 0 [(0, .ref (a 0)), (1, .int v1)] []
  dsimp only [f3_draws] at h
  refine go_aload_n (pc := 0) C dX3_draws_0 rfl 0 rfl ?_
  refine x3gr_1 (pc := 1) C dX3_draws_1 ?_
  refine go_bipush (pc := 4) (v := (8 : Int32)) C dX3_draws_4 (by decide) ?_
  refine go_aload_n (pc := 6) C dX3_draws_6 rfl 0 rfl ?_
  refine x3gr_1 (pc := 7) C dX3_draws_7 ?_
  refine go_bipush (pc := 10) (v := (8 : Int32)) C dX3_draws_10 (by decide) ?_
  refine go_ialdK (pc := 12) (j := 8) C x3aA_1 (by decide) (by decide) dX3_draws_12 ?_
  refine go_i2l (pc := 13) C dX3_draws_13 ?_
  refine go_ldc2 (pc := 14) C dX3_draws_14 q1999 ?_
  refine go_lmul (pc := 17) C dX3_draws_17 ?_
  refine go_ldc2 (pc := 18) C dX3_draws_18 q2000 ?_
  refine go_ladd (pc := 21) C dX3_draws_21 ?_
  refine go_ldc2 (pc := 22) C dX3_draws_22 q2001 ?_
  refine go_lrem (pc := 25) C dX3_draws_25 (by decide) ?_
  refine go_l2i (pc := 26) C dX3_draws_26 ?_
  refine go_iastK (pc := 27) (j := 8) C x3pA_1 (by decide) (by decide) dX3_draws_27 ?_
  refine go_nm (pc := 28) (fun z9 => (bW Γ.d 3 FK3 a z9)) (fun s1 es1 => ?_)
  have h := ltv_eq es1 h
  refine go_aload_n (pc := 28) C dX3_draws_28 rfl 0 rfl ?_
  refine x3gr_1 (pc := 29) C dX3_draws_29 ?_
  refine go_bipush (pc := 32) (v := (8 : Int32)) C dX3_draws_32 (by decide) ?_
  refine go_ialdK (pc := 34) (j := 8) C x3aA_1 (by decide) (by decide) dX3_draws_34 ?_
  refine go_ldc_w (pc := 35) C dX3_draws_35 q2002 ?_
  refine go_idiv (pc := 38) C dX3_draws_38 (by decide) ?_
  refine go_iload_n (pc := 39) C dX3_draws_39 rfl 1 rfl ?_
  obtain ⟨hne, h⟩ := chk_some h
  refine go_irem (pc := 40) C dX3_draws_40 (of_decide_eq_true hne) ?_
  exact (hE 0 0 _ _ _ (Nat.zero_le _) (Nat.zero_le _)).1 _ rfl dX3_draws_41 ⟨congrArg (fun z => some (Value.int z)) (some2 h).1, congrArg (fun z => bW Γ.d 3 FK3 a z) (some2 h).2⟩
theorem w3_drawn_138 {Γ : Gam} {a : Nat → Nat} {v1 : Int32} {v2 : Int32} {v3 : Int32} {v4 : Int32} {v7 : Int32} {s0 : Bl} {v6 : Int32} {v8 : Int32} {z0 : Int32} {r9 : Int32} {s9 : Bl} {K76 : Bl × Int32 × Int32 × Int32 → Option (Int32 × Bl)} {K94 : Bl × Int32 × Int32 → Option (Int32 × Bl)} (hN : Γ.nL = 12) (C : Cx Γ cX3_drawn RX3 (7, 0, 0) 175) (hE : Rets Γ cX3_drawn (some .int) 0 0 (fun v w => v = some (.int r9) ∧ w = (bW Γ.d 3 FK3 a s9)))
    (hK76 : ∀ s, K76 s = some (r9, s9) → (fun s : Bl × Int32 × Int32 × Int32 => Go Γ 0 0 (bW Γ.d 3 FK3 a s.1) 76 [(0, .ref (a 0)), (1, .int v1), (2, .int v2), (3, .int v3), (4, .int v4), (5, .int s.2.1), (6, .int s.2.2.1), (7, .int s.2.2.2)] []) s)
    (hK94 : ∀ s, K94 s = some (r9, s9) → (fun s : Bl × Int32 × Int32 => Go Γ 0 0 (bW Γ.d 3 FK3 a s.1) 94 [(0, .ref (a 0)), (1, .int v1), (2, .int v2), (3, .int v3), (4, .int v4), (6, .int s.2.1), (7, .int v7), (8, .int s.2.2)] []) s) (h : g3_drawn_138 K76 K94 s0 v1 v2 v3 v4 v6 v7 v8 z0 = some (r9, s9)) : Go Γ 0 0 (bW Γ.d 3 FK3 a s0) 138 [(0, .ref (a 0)), (1, .int v1), (2, .int v2), (3, .int v3), (4, .int v4), (6, .int v6), (7, .int v7), (8, .int v8)] [.int z0, .ref (a 0)] := by
  dsimp only [g3_drawn_138] at h
  obtain ⟨r10, s10, e10, h⟩ := bnd2_some h
  refine go_callVi (pc := 138) C [.int z0] (m3_mileBy e10) q1780 q1782 qs105 q144 q1783 x3pd_mileBy (by decide) (by decide) bW_O x3c rfl (Nat.le_of_ble_eq_true rfl) ⟨Nat.zero_le _, Nat.zero_le _⟩ dX3_drawn_138 rfl ?_
  refine go_istore (pc := 141) C hN dX3_drawn_141 (by decide) rfl ?_
  refine go_iload (pc := 143) C dX3_drawn_143 6 rfl ?_
  refine go_iload_n (pc := 145) C dX3_drawn_145 rfl 4 rfl ?_
  refine go_if_ne (pc := 146) (tgt := 154) C dX3_drawn_146 (by decide) h (fun h => ?_) (fun h => ?_)
  · refine go_iload_n (pc := 154) C dX3_drawn_154 rfl 4 rfl ?_
    refine go_iconst (pc := 155) (v := (1 : Int32)) C dX3_drawn_155 (by decide) ?_
    refine go_icmp_ne (pc := 156) (tgt := 166) C dX3_drawn_156 (by decide) h (fun h => ?_) (fun h => ?_)
    · refine go_aload_n (pc := 166) C dX3_drawn_166 rfl 1 rfl ?_
      refine x3gi_52 (pc := 167) C dX3_drawn_167 ?_
      refine go_iadd (pc := 170) C dX3_drawn_170 ?_
      refine go_istore (pc := 171) C hN dX3_drawn_171 (by decide) rfl ?_
      refine go_iinc (pc := 173) (v := (v8 + (1 : Int32))) C hN dX3_drawn_173 (q := 8) rfl rfl (by decide) rfl ?_
      refine go_goto (pc := 176) (tgt := 94) C dX3_drawn_176 (by decide) ?_
      refine go_sub [3, 4, 5, 6, 7, 1, 8, 0] rfl ?_
      exact hK94 (s10, (v6 + (s10.1 52)), (v8 + (1 : Int32))) h
    · refine go_aload_n (pc := 159) C dX3_drawn_159 rfl 1 rfl ?_
      refine x3gi_51 (pc := 160) C dX3_drawn_160 ?_
      refine go_goto (pc := 163) (tgt := 170) C dX3_drawn_163 (by decide) ?_
      refine go_iadd (pc := 170) C dX3_drawn_170 ?_
      refine go_istore (pc := 171) C hN dX3_drawn_171 (by decide) rfl ?_
      refine go_iinc (pc := 173) (v := (v8 + (1 : Int32))) C hN dX3_drawn_173 (q := 8) rfl rfl (by decide) rfl ?_
      refine go_goto (pc := 176) (tgt := 94) C dX3_drawn_176 (by decide) ?_
      refine go_sub [3, 4, 5, 6, 7, 1, 8, 0] rfl ?_
      exact hK94 (s10, (v6 + (s10.1 51)), (v8 + (1 : Int32))) h
  · refine go_iload (pc := 149) C dX3_drawn_149 0 rfl ?_
    refine go_goto (pc := 151) (tgt := 170) C dX3_drawn_151 (by decide) ?_
    refine go_iadd (pc := 170) C dX3_drawn_170 ?_
    refine go_istore (pc := 171) C hN dX3_drawn_171 (by decide) rfl ?_
    refine go_iinc (pc := 173) (v := (v8 + (1 : Int32))) C hN dX3_drawn_173 (q := 8) rfl rfl (by decide) rfl ?_
    refine go_goto (pc := 176) (tgt := 94) C dX3_drawn_176 (by decide) ?_
    refine go_sub [3, 4, 5, 6, 7, 1, 8, 0] rfl ?_
    exact hK94 (s10, (v6 + r10), (v8 + (1 : Int32))) h
theorem w3_drawn_94 {Γ : Gam} {a : Nat → Nat} {v1 : Int32} {v2 : Int32} {v3 : Int32} {v4 : Int32} {v7 : Int32} {r9 : Int32} {s9 : Bl} {K76 : Bl × Int32 × Int32 × Int32 → Option (Int32 × Bl)} (hN : Γ.nL = 12) (C : Cx Γ cX3_drawn RX3 (7, 0, 0) 175) (hE : Rets Γ cX3_drawn (some .int) 0 0 (fun v w => v = some (.int r9) ∧ w = (bW Γ.d 3 FK3 a s9)))
    (hK76 : ∀ s, K76 s = some (r9, s9) → (fun s : Bl × Int32 × Int32 × Int32 => Go Γ 0 0 (bW Γ.d 3 FK3 a s.1) 76 [(0, .ref (a 0)), (1, .int v1), (2, .int v2), (3, .int v3), (4, .int v4), (5, .int s.2.1), (6, .int s.2.2.1), (7, .int s.2.2.2)] []) s) : ∀ (n : Nat) (s : Bl × Int32 × Int32), loop (g3_drawn_94 v1 v2 v3 v4 v7 K76) n s = some (r9, s9) → (fun s : Bl × Int32 × Int32 => Go Γ 0 0 (bW Γ.d 3 FK3 a s.1) 94 [(0, .ref (a 0)), (1, .int v1), (2, .int v2), (3, .int v3), (4, .int v4), (6, .int s.2.1), (7, .int v7), (8, .int s.2.2)] []) s := by
  refine loop_walk (P := fun s : Bl × Int32 × Int32 => Go Γ 0 0 (bW Γ.d 3 FK3 a s.1) 94 [(0, .ref (a 0)), (1, .int v1), (2, .int v2), (3, .int v3), (4, .int v4), (6, .int s.2.1), (7, .int v7), (8, .int s.2.2)] []) ?_
  intro K94 hK94 s h
  obtain ⟨s0, v6, v8⟩ := s
  dsimp only [g3_drawn_94] at h
  show Go Γ 0 0 (bW Γ.d 3 FK3 a s0) 94 [(0, .ref (a 0)), (1, .int v1), (2, .int v2), (3, .int v3), (4, .int v4), (6, .int v6), (7, .int v7), (8, .int v8)] []
  refine go_iload (pc := 94) C dX3_drawn_94 7 rfl ?_
  refine go_iload_n (pc := 96) C dX3_drawn_96 rfl 2 rfl ?_
  refine go_icmp_ge (pc := 97) (tgt := 179) C dX3_drawn_97 (by decide) h (fun h => ?_) (fun h => ?_)
  · refine go_aload_n (pc := 179) C dX3_drawn_179 rfl 0 rfl ?_
    refine x3gr_1 (pc := 180) C dX3_drawn_180 ?_
    refine go_bipush (pc := 183) (v := (8 : Int32)) C dX3_drawn_183 (by decide) ?_
    refine go_ialdK (pc := 185) (j := 8) C x3aA_1 (by decide) (by decide) dX3_drawn_185 ?_
    refine go_istore (pc := 186) C hN dX3_drawn_186 (by decide) rfl ?_
    refine go_aload_n (pc := 188) C dX3_drawn_188 rfl 1 rfl ?_
    obtain ⟨s7, e7, h⟩ := bnd_some h
    refine go_callVv (pc := 189) C [] (m3_laysBack e7) q1883 q1885 qs122 q144 q1886 x3pd_laysBack (by decide) (by decide) bW_O x3c rfl (Nat.le_of_ble_eq_true rfl) ⟨Nat.zero_le _, Nat.zero_le _⟩ dX3_drawn_189 rfl ?_
    refine go_iinc (pc := 192) (v := (v7 + (1 : Int32))) C hN dX3_drawn_192 (q := 7) rfl rfl (by decide) rfl ?_
    refine go_goto (pc := 195) (tgt := 76) C dX3_drawn_195 (by decide) ?_
    refine go_sub [2, 3, 4, 5, 6, 1, 7, 0] rfl ?_
    exact hK76 (s7, (s0.2.1 1 8), v6, (v7 + (1 : Int32))) h
  · refine go_aload_n (pc := 100) C dX3_drawn_100 rfl 0 rfl ?_
    refine go_bipush (pc := 101) (v := (10 : Int32)) C dX3_drawn_101 (by decide) ?_
    obtain ⟨r8, s8, e8, h⟩ := bnd2_some h
    refine go_callVi (pc := 103) C [.int (10 : Int32)] (m3_draws e8) q1995 q1997 qs135 q144 q1998 x3pd_draws (by decide) (by decide) bW_O x3c rfl (Nat.le_of_ble_eq_true rfl) ⟨Nat.zero_le _, Nat.zero_le _⟩ dX3_drawn_103 rfl ?_
    refine go_istore (pc := 106) C hN dX3_drawn_106 (by decide) rfl ?_
    refine go_aload_n (pc := 108) C dX3_drawn_108 rfl 1 rfl ?_
    refine go_aload_n (pc := 109) C dX3_drawn_109 rfl 1 rfl ?_
    refine x3gr_1 (pc := 110) C dX3_drawn_110 ?_
    refine go_bipush (pc := 113) (v := (6 : Int32)) C dX3_drawn_113 (by decide) ?_
    refine go_ialdK (pc := 115) (j := 6) C x3aA_1 (by decide) (by decide) dX3_drawn_115 ?_
    refine go_iconst (pc := 116) (v := (1 : Int32)) C dX3_drawn_116 (by decide) ?_
    refine go_iadd (pc := 117) C dX3_drawn_117 ?_
    obtain ⟨r9, e9, h⟩ := bnd_some h
    refine go_callVi (pc := 118) C [.int ((s8.2.1 1 6) + (1 : Int32))] (m3_forceAt e9) q1720 q1722 qs93 q144 q1723 x3pd_forceAt (by decide) (by decide) bW_O x3c rfl (Nat.le_of_ble_eq_true rfl) ⟨Nat.zero_le _, Nat.zero_le _⟩ dX3_drawn_118 rfl ?_
    refine go_istore (pc := 121) C hN dX3_drawn_121 (by decide) rfl ?_
    refine go_aload_n (pc := 123) C dX3_drawn_123 rfl 2 rfl ?_
    refine go_iload (pc := 124) C dX3_drawn_124 0 rfl ?_
    refine go_iload (pc := 126) C dX3_drawn_126 1 rfl ?_
    refine go_icmp_le (pc := 128) (tgt := 136) C dX3_drawn_128 (by decide) h (fun h => ?_) (fun h => ?_)
    · refine go_iload (pc := 136) C dX3_drawn_136 1 rfl ?_
      refine go_sub [2, 3, 4, 5, 6, 7, 8, 9] rfl ?_
      exact w3_drawn_138 hN C hE hK76 hK94 h
    · refine go_iload (pc := 131) C dX3_drawn_131 0 rfl ?_
      refine go_goto (pc := 133) (tgt := 138) C dX3_drawn_133 (by decide) ?_
      refine go_sub [2, 3, 4, 5, 6, 7, 8, 9] rfl ?_
      exact w3_drawn_138 hN C hE hK76 hK94 h
theorem w3_drawn_76 {Γ : Gam} {a : Nat → Nat} {v1 : Int32} {v2 : Int32} {v3 : Int32} {v4 : Int32} {r9 : Int32} {s9 : Bl} (hN : Γ.nL = 12) (C : Cx Γ cX3_drawn RX3 (7, 0, 0) 175) (hE : Rets Γ cX3_drawn (some .int) 0 0 (fun v w => v = some (.int r9) ∧ w = (bW Γ.d 3 FK3 a s9))) : ∀ (n : Nat) (s : Bl × Int32 × Int32 × Int32), loop (g3_drawn_76 v1 v2 v3 v4) n s = some (r9, s9) → (fun s : Bl × Int32 × Int32 × Int32 => Go Γ 0 0 (bW Γ.d 3 FK3 a s.1) 76 [(0, .ref (a 0)), (1, .int v1), (2, .int v2), (3, .int v3), (4, .int v4), (5, .int s.2.1), (6, .int s.2.2.1), (7, .int s.2.2.2)] []) s := by
  refine loop_walk (P := fun s : Bl × Int32 × Int32 × Int32 => Go Γ 0 0 (bW Γ.d 3 FK3 a s.1) 76 [(0, .ref (a 0)), (1, .int v1), (2, .int v2), (3, .int v3), (4, .int v4), (5, .int s.2.1), (6, .int s.2.2.1), (7, .int s.2.2.2)] []) ?_
  intro K76 hK76 s h
  obtain ⟨s0, v5, v6, v7⟩ := s
  dsimp only [g3_drawn_76] at h
  show Go Γ 0 0 (bW Γ.d 3 FK3 a s0) 76 [(0, .ref (a 0)), (1, .int v1), (2, .int v2), (3, .int v3), (4, .int v4), (5, .int v5), (6, .int v6), (7, .int v7)] []
  refine go_iload (pc := 76) C dX3_drawn_76 7 rfl ?_
  refine go_iload_n (pc := 78) C dX3_drawn_78 rfl 1 rfl ?_
  refine go_icmp_ge (pc := 79) (tgt := 198) C dX3_drawn_79 (by decide) h (fun h => ?_) (fun h => ?_)
  · refine go_aload_n (pc := 198) C dX3_drawn_198 rfl 0 rfl ?_
    refine x3gr_1 (pc := 199) C dX3_drawn_199 ?_
    refine go_bipush (pc := 202) (v := (8 : Int32)) C dX3_drawn_202 (by decide) ?_
    refine go_iload (pc := 204) C dX3_drawn_204 4 rfl ?_
    refine go_iastK (pc := 206) (j := 8) C x3pA_1 (by decide) (by decide) dX3_drawn_206 ?_
    refine go_iload (pc := 207) C dX3_drawn_207 6 rfl ?_
    exact (hE 0 0 _ _ _ (Nat.zero_le _) (Nat.zero_le _)).1 _ rfl dX3_drawn_209 ⟨congrArg (fun z => some (Value.int z)) (some2 h).1, congrArg (fun z => bW Γ.d 3 FK3 a z) (some2 h).2⟩
  · refine go_aload_n (pc := 82) C dX3_drawn_82 rfl 0 rfl ?_
    refine x3gr_1 (pc := 83) C dX3_drawn_83 ?_
    refine go_bipush (pc := 86) (v := (8 : Int32)) C dX3_drawn_86 (by decide) ?_
    refine go_iload (pc := 88) C dX3_drawn_88 5 rfl ?_
    refine go_iastK (pc := 90) (j := 8) C x3pA_1 (by decide) (by decide) dX3_drawn_90 ?_
    refine go_iconst (pc := 91) (v := (0 : Int32)) C dX3_drawn_91 (by decide) ?_
    refine go_istore (pc := 92) C hN dX3_drawn_92 (by decide) rfl ?_
    refine go_sub [1, 2, 3, 4, 5, 7, 8, 0] rfl ?_
    exact w3_drawn_94 hN C hE hK76 FU ((bA s0 1 8 v5), v6, (0 : Int32)) h
theorem m3_drawn {l : Launch} {d : gD} {a : Nat → Nat} {s0 : Bl} {v1 : Int32} {v2 : Int32} {v3 : Int32} {r9 : Int32} {s9 : Bl} (h : f3_drawn s0 v1 v2 v3 = some (r9, s9)) : Mt l d yX3_drawn cX3_drawn 12 (some .int) (7, 0, 0) 175 (bW d 3 FK3 a s0) [.ref (a 0), .int v1, .int v2, .int v3] (fun v w => v = some (.int r9) ∧ w = (bW d 3 FK3 a s9)) := by
  refine Mt.of x3pn (Nat.le_of_ble_eq_true rfl) ?_
  intro Γ hl hd hN C hE
  subst hl; subst hd
  show Go Γ 0 0 (bW Γ.d 3 FK3 a s0) 0 [(0, .ref (a 0)), (1, .int v1), (2, .int v2), (3, .int v3)] []
  dsimp only [f3_drawn] at h
  refine go_aload_n (pc := 0) C dX3_drawn_0 rfl 0 rfl ?_
  obtain ⟨r1, e1, h⟩ := bnd_some h
  refine go_callVi (pc := 1) C [] (m3_isRiver e1) q1716 q1718 qs92 q144 q1719 x3pd_isRiver (by decide) (by decide) bW_O x3c rfl (Nat.le_of_ble_eq_true rfl) ⟨Nat.zero_le _, Nat.zero_le _⟩ dX3_drawn_1 rfl ?_
  refine go_if_eq (pc := 4) (tgt := 51) C dX3_drawn_4 (by decide) h (fun h => ?_) (fun h => ?_)
  · refine go_iconst (pc := 51) (v := (-1 : Int32)) C dX3_drawn_51 (by decide) ?_
    exact (hE 0 0 _ _ _ (Nat.zero_le _) (Nat.zero_le _)).1 _ rfl dX3_drawn_52 ⟨congrArg (fun z => some (Value.int z)) (some2 h).1, congrArg (fun z => bW Γ.d 3 FK3 a z) (some2 h).2⟩
  · refine go_iload_n (pc := 7) C dX3_drawn_7 rfl 1 rfl ?_
    refine go_i2l (pc := 8) C dX3_drawn_8 ?_
    refine go_lconst (pc := 9) (v := (1 : Int64)) C dX3_drawn_9 (by decide) ?_
    refine go_ldc2 (pc := 10) C dX3_drawn_10 q1993 ?_
    obtain ⟨r2, e2, h⟩ := bnd_some h
    refine go_callSi (pc := 13) C [.long (v1).toInt64, .long (1 : Int64), .long (20 : Int64)] (m3_in e2) q1564 q1565 q144 q1566 x3pd_in (by decide) (by decide) rfl (Nat.le_of_ble_eq_true rfl) ⟨Nat.zero_le _, Nat.zero_le _⟩ dX3_drawn_13 rfl ?_
    refine go_if_eq (pc := 16) (tgt := 51) C dX3_drawn_16 (by decide) h (fun h => ?_) (fun h => ?_)
    · refine go_iconst (pc := 51) (v := (-1 : Int32)) C dX3_drawn_51 (by decide) ?_
      exact (hE 0 0 _ _ _ (Nat.zero_le _) (Nat.zero_le _)).1 _ rfl dX3_drawn_52 ⟨congrArg (fun z => some (Value.int z)) (some2 h).1, congrArg (fun z => bW Γ.d 3 FK3 a z) (some2 h).2⟩
    · refine go_iload_n (pc := 19) C dX3_drawn_19 rfl 2 rfl ?_
      refine go_i2l (pc := 20) C dX3_drawn_20 ?_
      refine go_lconst (pc := 21) (v := (1 : Int64)) C dX3_drawn_21 (by decide) ?_
      refine go_ldc2 (pc := 22) C dX3_drawn_22 q1994 ?_
      obtain ⟨r3, e3, h⟩ := bnd_some h
      refine go_callSi (pc := 25) C [.long (v2).toInt64, .long (1 : Int64), .long (60 : Int64)] (m3_in e3) q1564 q1565 q144 q1566 x3pd_in (by decide) (by decide) rfl (Nat.le_of_ble_eq_true rfl) ⟨Nat.zero_le _, Nat.zero_le _⟩ dX3_drawn_25 rfl ?_
      refine go_if_eq (pc := 28) (tgt := 51) C dX3_drawn_28 (by decide) h (fun h => ?_) (fun h => ?_)
      · refine go_iconst (pc := 51) (v := (-1 : Int32)) C dX3_drawn_51 (by decide) ?_
        exact (hE 0 0 _ _ _ (Nat.zero_le _) (Nat.zero_le _)).1 _ rfl dX3_drawn_52 ⟨congrArg (fun z => some (Value.int z)) (some2 h).1, congrArg (fun z => bW Γ.d 3 FK3 a z) (some2 h).2⟩
      · refine go_iload_n (pc := 31) C dX3_drawn_31 rfl 2 rfl ?_
        refine go_aload_n (pc := 32) C dX3_drawn_32 rfl 0 rfl ?_
        obtain ⟨r4, e4, h⟩ := bnd_some h
        refine go_callVi (pc := 33) C [] (m3_milesLeft e4) q1768 q1770 qs102 q144 q1771 x3pd_milesLeft (by decide) (by decide) bW_O x3c rfl (Nat.le_of_ble_eq_true rfl) ⟨Nat.zero_le _, Nat.zero_le _⟩ dX3_drawn_33 rfl ?_
        refine go_icmp_gt (pc := 36) (tgt := 51) C dX3_drawn_36 (by decide) h (fun h => ?_) (fun h => ?_)
        · refine go_iconst (pc := 51) (v := (-1 : Int32)) C dX3_drawn_51 (by decide) ?_
          exact (hE 0 0 _ _ _ (Nat.zero_le _) (Nat.zero_le _)).1 _ rfl dX3_drawn_52 ⟨congrArg (fun z => some (Value.int z)) (some2 h).1, congrArg (fun z => bW Γ.d 3 FK3 a z) (some2 h).2⟩
        · refine go_iload_n (pc := 39) C dX3_drawn_39 rfl 3 rfl ?_
          refine go_i2l (pc := 40) C dX3_drawn_40 ?_
          refine go_lconst (pc := 41) (v := (0 : Int64)) C dX3_drawn_41 (by decide) ?_
          refine go_ldc2 (pc := 42) C dX3_drawn_42 q1925 ?_
          obtain ⟨r5, e5, h⟩ := bnd_some h
          refine go_callSi (pc := 45) C [.long (v3).toInt64, .long (0 : Int64), .long (2 : Int64)] (m3_in e5) q1564 q1565 q144 q1566 x3pd_in (by decide) (by decide) rfl (Nat.le_of_ble_eq_true rfl) ⟨Nat.zero_le _, Nat.zero_le _⟩ dX3_drawn_45 rfl ?_
          refine go_if_ne (pc := 48) (tgt := 53) C dX3_drawn_48 (by decide) h (fun h => ?_) (fun h => ?_)
          · refine go_aload_n (pc := 53) C dX3_drawn_53 rfl 0 rfl ?_
            refine x3gr_1 (pc := 54) C dX3_drawn_54 ?_
            refine go_bipush (pc := 57) (v := (8 : Int32)) C dX3_drawn_57 (by decide) ?_
            refine go_ialdK (pc := 59) (j := 8) C x3aA_1 (by decide) (by decide) dX3_drawn_59 ?_
            refine go_istore (pc := 60) C hN dX3_drawn_60 (by decide) rfl ?_
            refine go_iload (pc := 62) C dX3_drawn_62 0 rfl ?_
            refine go_istore (pc := 64) C hN dX3_drawn_64 (by decide) rfl ?_
            refine go_iconst (pc := 66) (v := (0 : Int32)) C dX3_drawn_66 (by decide) ?_
            refine go_istore (pc := 67) C hN dX3_drawn_67 (by decide) rfl ?_
            refine go_aload_n (pc := 69) C dX3_drawn_69 rfl 3 rfl ?_
            obtain ⟨s6, e6, h⟩ := bnd_some h
            refine go_callVv (pc := 70) C [] (m3_keepsAll e6) q1867 q1869 qs118 q144 q1870 x3pd_keepsAll (by decide) (by decide) bW_O x3c rfl (Nat.le_of_ble_eq_true rfl) ⟨Nat.zero_le _, Nat.zero_le _⟩ dX3_drawn_70 rfl ?_
            refine go_iconst (pc := 73) (v := (0 : Int32)) C dX3_drawn_73 (by decide) ?_
            refine go_istore (pc := 74) C hN dX3_drawn_74 (by decide) rfl ?_
            refine go_sub [4, 5, 6, 7, 3, 2, 1, 0] rfl ?_
            exact w3_drawn_76 hN C hE FU (s6, (s0.2.1 1 8), (0 : Int32), (0 : Int32)) h
          · refine go_iconst (pc := 51) (v := (-1 : Int32)) C dX3_drawn_51 (by decide) ?_
            exact (hE 0 0 _ _ _ (Nat.zero_le _) (Nat.zero_le _)).1 _ rfl dX3_drawn_52 ⟨congrArg (fun z => some (Value.int z)) (some2 h).1, congrArg (fun z => bW Γ.d 3 FK3 a z) (some2 h).2⟩
theorem w3_pieces_4 {Γ : Gam} {a : Nat → Nat} {s0 : Bl} {r9 : Int32} (hN : Γ.nL = 3) (C : Cx Γ cX3_pieces RX3 (3, 0, 0) 70) (hE : Rets Γ cX3_pieces (some .int) 0 0 (fun v w => v = some (.int r9) ∧ w = (bW Γ.d 3 FK3 a s0))) : ∀ (n : Nat) (s : Int32 × Int32), loop (g3_pieces_4 s0) n s = some r9 → (fun s : Int32 × Int32 => Go Γ 0 0 (bW Γ.d 3 FK3 a s0) 4 [(0, .ref (a 0)), (1, .int s.1), (2, .int s.2)] []) s := by
  refine loop_walk (P := fun s : Int32 × Int32 => Go Γ 0 0 (bW Γ.d 3 FK3 a s0) 4 [(0, .ref (a 0)), (1, .int s.1), (2, .int s.2)] []) ?_
  intro K4 hK4 s h
  obtain ⟨v1, v2⟩ := s
  dsimp only [g3_pieces_4] at h
  show Go Γ 0 0 (bW Γ.d 3 FK3 a s0) 4 [(0, .ref (a 0)), (1, .int v1), (2, .int v2)] []
  refine go_iload_n (pc := 4) C dX3_pieces_4 rfl 2 rfl ?_
  refine go_aload_n (pc := 5) C dX3_pieces_5 rfl 0 rfl ?_
  refine x3gr_1 (pc := 6) C dX3_pieces_6 ?_
  refine go_iconst (pc := 9) (v := (3 : Int32)) C dX3_pieces_9 (by decide) ?_
  refine go_ialdK (pc := 10) (j := 3) C x3aA_1 (by decide) (by decide) dX3_pieces_10 ?_
  refine go_icmp_ge (pc := 11) (tgt := 49) C dX3_pieces_11 (by decide) h (fun h => ?_) (fun h => ?_)
  · refine go_iload_n (pc := 49) C dX3_pieces_49 rfl 1 rfl ?_
    exact (hE 0 0 _ _ _ (Nat.zero_le _) (Nat.zero_le _)).1 _ rfl dX3_pieces_50 ⟨congrArg (fun z => some (Value.int z)) (some1 h), rfl⟩
  · refine go_iload_n (pc := 14) C dX3_pieces_14 rfl 1 rfl ?_
    refine go_aload_n (pc := 15) C dX3_pieces_15 rfl 0 rfl ?_
    refine x3gr_9 (pc := 16) C dX3_pieces_16 ?_
    refine go_iload_n (pc := 19) C dX3_pieces_19 rfl 2 rfl ?_
    refine go_iald (pc := 20) C x3aA_9 h dX3_pieces_20 (fun h => ?_)
    refine go_if_ne (pc := 21) (tgt := 40) C dX3_pieces_21 (by decide) h (fun h => ?_) (fun h => ?_)
    · refine go_iconst (pc := 40) (v := (0 : Int32)) C dX3_pieces_40 (by decide) ?_
      refine go_iadd (pc := 41) C dX3_pieces_41 ?_
      refine go_istore_n (pc := 42) C hN dX3_pieces_42 rfl (by decide) rfl ?_
      refine go_iinc (pc := 43) (v := (v2 + (1 : Int32))) C hN dX3_pieces_43 (q := 2) rfl rfl (by decide) rfl ?_
      refine go_goto (pc := 46) (tgt := 4) C dX3_pieces_46 (by decide) ?_
      refine go_sub [2, 1, 0] rfl ?_
      exact hK4 ((v1 + (0 : Int32)), (v2 + (1 : Int32))) h
    · refine go_aload_n (pc := 24) C dX3_pieces_24 rfl 0 rfl ?_
      refine go_iload_n (pc := 25) C dX3_pieces_25 rfl 2 rfl ?_
      obtain ⟨r1, e1, h⟩ := bnd_some h
      refine go_callVi (pc := 26) C [.int v2] (m3_pieceOf e1) q1700 q1702 qs90 q144 q1703 x3pd_pieceOf (by decide) (by decide) bW_O x3c rfl (Nat.le_of_ble_eq_true rfl) ⟨Nat.zero_le _, Nat.zero_le _⟩ dX3_pieces_26 rfl ?_
      obtain ⟨r2, e2, h⟩ := bnd_some h
      refine go_callSi (pc := 29) C [.int r1] (m3_least e2) q1689 q1690 q144 q1691 x3pd_least (by decide) (by decide) rfl (Nat.le_of_ble_eq_true rfl) ⟨Nat.zero_le _, Nat.zero_le _⟩ dX3_pieces_29 rfl ?_
      refine go_iload_n (pc := 32) C dX3_pieces_32 rfl 2 rfl ?_
      refine go_icmp_ne (pc := 33) (tgt := 40) C dX3_pieces_33 (by decide) h (fun h => ?_) (fun h => ?_)
      · refine go_iconst (pc := 40) (v := (0 : Int32)) C dX3_pieces_40 (by decide) ?_
        refine go_iadd (pc := 41) C dX3_pieces_41 ?_
        refine go_istore_n (pc := 42) C hN dX3_pieces_42 rfl (by decide) rfl ?_
        refine go_iinc (pc := 43) (v := (v2 + (1 : Int32))) C hN dX3_pieces_43 (q := 2) rfl rfl (by decide) rfl ?_
        refine go_goto (pc := 46) (tgt := 4) C dX3_pieces_46 (by decide) ?_
        refine go_sub [2, 1, 0] rfl ?_
        exact hK4 ((v1 + (0 : Int32)), (v2 + (1 : Int32))) h
      · refine go_iconst (pc := 36) (v := (1 : Int32)) C dX3_pieces_36 (by decide) ?_
        refine go_goto (pc := 37) (tgt := 41) C dX3_pieces_37 (by decide) ?_
        refine go_iadd (pc := 41) C dX3_pieces_41 ?_
        refine go_istore_n (pc := 42) C hN dX3_pieces_42 rfl (by decide) rfl ?_
        refine go_iinc (pc := 43) (v := (v2 + (1 : Int32))) C hN dX3_pieces_43 (q := 2) rfl rfl (by decide) rfl ?_
        refine go_goto (pc := 46) (tgt := 4) C dX3_pieces_46 (by decide) ?_
        refine go_sub [2, 1, 0] rfl ?_
        exact hK4 ((v1 + (1 : Int32)), (v2 + (1 : Int32))) h
theorem m3_pieces {l : Launch} {d : gD} {a : Nat → Nat} {s0 : Bl} {r9 : Int32} (h : f3_pieces s0 = some r9) : Mt l d yX3_pieces cX3_pieces 3 (some .int) (3, 0, 0) 70 (bW d 3 FK3 a s0) [.ref (a 0)] (fun v w => v = some (.int r9) ∧ w = (bW d 3 FK3 a s0)) := by
  refine Mt.of x3pn (Nat.le_of_ble_eq_true rfl) ?_
  intro Γ hl hd hN C hE
  subst hl; subst hd
  show Go Γ 0 0 (bW Γ.d 3 FK3 a s0) 0 [(0, .ref (a 0))] []
  dsimp only [f3_pieces] at h
  refine go_iconst (pc := 0) (v := (0 : Int32)) C dX3_pieces_0 (by decide) ?_
  refine go_istore_n (pc := 1) C hN dX3_pieces_1 rfl (by decide) rfl ?_
  refine go_iconst (pc := 2) (v := (0 : Int32)) C dX3_pieces_2 (by decide) ?_
  refine go_istore_n (pc := 3) C hN dX3_pieces_3 rfl (by decide) rfl ?_
  refine go_sub [2, 1, 0] rfl ?_
  exact w3_pieces_4 hN C hE FU ((0 : Int32), (0 : Int32)) h
theorem m3_count {l : Launch} {d : gD} {a : Nat → Nat} {s0 : Bl} {v1 : Int32} {r9 : Int32} (h : f3_count s0 v1 = some r9) : Mt l d yX3_count cX3_count 2 (some .int) (4, 0, 0) 92 (bW d 3 FK3 a s0) [.ref (a 0), .int v1] (fun v w => v = some (.int r9) ∧ w = (bW d 3 FK3 a s0)) := by
  refine Mt.of x3pn (Nat.le_of_ble_eq_true rfl) ?_
  intro Γ hl hd hN C hE
  subst hl; subst hd
  show Go Γ 0 0 (bW Γ.d 3 FK3 a s0) 0 [(0, .ref (a 0)), (1, .int v1)] []
  dsimp only [f3_count] at h
  refine go_iload_n (pc := 0) C dX3_count_0 rfl 1 rfl ?_
  by_cases c1_0 : v1 = (0 : Int32)
  · have h := (if_pos c1_0).symm.trans h
    refine go_tableK (pc := 1) (tgt := 72) C c1_0 dX3_count_1 (by decide) (by decide) rfl (by decide) ?_
    refine go_aload_n (pc := 72) C dX3_count_72 rfl 0 rfl ?_
    refine x3gr_1 (pc := 73) C dX3_count_73 ?_
    refine go_iconst (pc := 76) (v := (0 : Int32)) C dX3_count_76 (by decide) ?_
    refine go_ialdK (pc := 77) (j := 0) C x3aA_1 (by decide) (by decide) dX3_count_77 ?_
    exact (hE 0 0 _ _ _ (Nat.zero_le _) (Nat.zero_le _)).1 _ rfl dX3_count_78 ⟨congrArg (fun z => some (Value.int z)) (some1 h), rfl⟩
  have h := (if_neg c1_0).symm.trans h
  by_cases c1_1 : v1 = (1 : Int32)
  · have h := (if_pos c1_1).symm.trans h
    refine go_tableK (pc := 1) (tgt := 79) C c1_1 dX3_count_1 (by decide) (by decide) rfl (by decide) ?_
    refine go_aload_n (pc := 79) C dX3_count_79 rfl 0 rfl ?_
    refine x3gr_1 (pc := 80) C dX3_count_80 ?_
    refine go_iconst (pc := 83) (v := (1 : Int32)) C dX3_count_83 (by decide) ?_
    refine go_ialdK (pc := 84) (j := 1) C x3aA_1 (by decide) (by decide) dX3_count_84 ?_
    exact (hE 0 0 _ _ _ (Nat.zero_le _) (Nat.zero_le _)).1 _ rfl dX3_count_85 ⟨congrArg (fun z => some (Value.int z)) (some1 h), rfl⟩
  have h := (if_neg c1_1).symm.trans h
  by_cases c1_2 : v1 = (2 : Int32)
  · have h := (if_pos c1_2).symm.trans h
    refine go_tableK (pc := 1) (tgt := 86) C c1_2 dX3_count_1 (by decide) (by decide) rfl (by decide) ?_
    refine go_aload_n (pc := 86) C dX3_count_86 rfl 0 rfl ?_
    refine x3gr_1 (pc := 87) C dX3_count_87 ?_
    refine go_iconst (pc := 90) (v := (2 : Int32)) C dX3_count_90 (by decide) ?_
    refine go_ialdK (pc := 91) (j := 2) C x3aA_1 (by decide) (by decide) dX3_count_91 ?_
    exact (hE 0 0 _ _ _ (Nat.zero_le _) (Nat.zero_le _)).1 _ rfl dX3_count_92 ⟨congrArg (fun z => some (Value.int z)) (some1 h), rfl⟩
  have h := (if_neg c1_2).symm.trans h
  by_cases c1_3 : v1 = (3 : Int32)
  · have h := (if_pos c1_3).symm.trans h
    refine go_tableK (pc := 1) (tgt := 93) C c1_3 dX3_count_1 (by decide) (by decide) rfl (by decide) ?_
    refine go_aload_n (pc := 93) C dX3_count_93 rfl 0 rfl ?_
    refine x3gr_1 (pc := 94) C dX3_count_94 ?_
    refine go_iconst (pc := 97) (v := (3 : Int32)) C dX3_count_97 (by decide) ?_
    refine go_ialdK (pc := 98) (j := 3) C x3aA_1 (by decide) (by decide) dX3_count_98 ?_
    exact (hE 0 0 _ _ _ (Nat.zero_le _) (Nat.zero_le _)).1 _ rfl dX3_count_99 ⟨congrArg (fun z => some (Value.int z)) (some1 h), rfl⟩
  have h := (if_neg c1_3).symm.trans h
  by_cases c1_4 : v1 = (4 : Int32)
  · have h := (if_pos c1_4).symm.trans h
    refine go_tableK (pc := 1) (tgt := 100) C c1_4 dX3_count_1 (by decide) (by decide) rfl (by decide) ?_
    refine go_aload_n (pc := 100) C dX3_count_100 rfl 0 rfl ?_
    refine x3gr_1 (pc := 101) C dX3_count_101 ?_
    refine go_iconst (pc := 104) (v := (4 : Int32)) C dX3_count_104 (by decide) ?_
    refine go_ialdK (pc := 105) (j := 4) C x3aA_1 (by decide) (by decide) dX3_count_105 ?_
    exact (hE 0 0 _ _ _ (Nat.zero_le _) (Nat.zero_le _)).1 _ rfl dX3_count_106 ⟨congrArg (fun z => some (Value.int z)) (some1 h), rfl⟩
  have h := (if_neg c1_4).symm.trans h
  by_cases c1_5 : v1 = (5 : Int32)
  · have h := (if_pos c1_5).symm.trans h
    refine go_tableK (pc := 1) (tgt := 107) C c1_5 dX3_count_1 (by decide) (by decide) rfl (by decide) ?_
    refine go_aload_n (pc := 107) C dX3_count_107 rfl 0 rfl ?_
    refine x3gr_1 (pc := 108) C dX3_count_108 ?_
    refine go_iconst (pc := 111) (v := (5 : Int32)) C dX3_count_111 (by decide) ?_
    refine go_ialdK (pc := 112) (j := 5) C x3aA_1 (by decide) (by decide) dX3_count_112 ?_
    exact (hE 0 0 _ _ _ (Nat.zero_le _) (Nat.zero_le _)).1 _ rfl dX3_count_113 ⟨congrArg (fun z => some (Value.int z)) (some1 h), rfl⟩
  have h := (if_neg c1_5).symm.trans h
  by_cases c1_6 : v1 = (6 : Int32)
  · have h := (if_pos c1_6).symm.trans h
    refine go_tableK (pc := 1) (tgt := 114) C c1_6 dX3_count_1 (by decide) (by decide) rfl (by decide) ?_
    refine go_aload_n (pc := 114) C dX3_count_114 rfl 0 rfl ?_
    refine x3gi_35 (pc := 115) C dX3_count_115 ?_
    exact (hE 0 0 _ _ _ (Nat.zero_le _) (Nat.zero_le _)).1 _ rfl dX3_count_118 ⟨congrArg (fun z => some (Value.int z)) (some1 h), rfl⟩
  have h := (if_neg c1_6).symm.trans h
  by_cases c1_7 : v1 = (7 : Int32)
  · have h := (if_pos c1_7).symm.trans h
    refine go_tableK (pc := 1) (tgt := 119) C c1_7 dX3_count_1 (by decide) (by decide) rfl (by decide) ?_
    refine go_aload_n (pc := 119) C dX3_count_119 rfl 0 rfl ?_
    refine x3gr_1 (pc := 120) C dX3_count_120 ?_
    refine go_bipush (pc := 123) (v := (6 : Int32)) C dX3_count_123 (by decide) ?_
    refine go_ialdK (pc := 125) (j := 6) C x3aA_1 (by decide) (by decide) dX3_count_125 ?_
    exact (hE 0 0 _ _ _ (Nat.zero_le _) (Nat.zero_le _)).1 _ rfl dX3_count_126 ⟨congrArg (fun z => some (Value.int z)) (some1 h), rfl⟩
  have h := (if_neg c1_7).symm.trans h
  by_cases c1_8 : v1 = (8 : Int32)
  · have h := (if_pos c1_8).symm.trans h
    refine go_tableK (pc := 1) (tgt := 127) C c1_8 dX3_count_1 (by decide) (by decide) rfl (by decide) ?_
    refine go_aload_n (pc := 127) C dX3_count_127 rfl 0 rfl ?_
    obtain ⟨r10, e10, h⟩ := bnd_some h
    refine go_callVi (pc := 128) C [] (m3_pieces e10) q2007 q2009 qs136 q144 q2010 x3pd_pieces (by decide) (by decide) bW_O x3c rfl (Nat.le_of_ble_eq_true rfl) ⟨Nat.zero_le _, Nat.zero_le _⟩ dX3_count_128 rfl ?_
    exact (hE 0 0 _ _ _ (Nat.zero_le _) (Nat.zero_le _)).1 _ rfl dX3_count_131 ⟨congrArg (fun z => some (Value.int z)) (some1 h), rfl⟩
  have h := (if_neg c1_8).symm.trans h
  by_cases c1_9 : v1 = (9 : Int32)
  · have h := (if_pos c1_9).symm.trans h
    refine go_tableK (pc := 1) (tgt := 132) C c1_9 dX3_count_1 (by decide) (by decide) rfl (by decide) ?_
    refine go_aload_n (pc := 132) C dX3_count_132 rfl 0 rfl ?_
    obtain ⟨r11, e11, h⟩ := bnd_some h
    refine go_callVi (pc := 133) C [] (m3_afloat e11) q1678 q1680 qs87 q144 q1681 x3pd_afloat (by decide) (by decide) bW_O x3c rfl (Nat.le_of_ble_eq_true rfl) ⟨Nat.zero_le _, Nat.zero_le _⟩ dX3_count_133 rfl ?_
    exact (hE 0 0 _ _ _ (Nat.zero_le _) (Nat.zero_le _)).1 _ rfl dX3_count_136 ⟨congrArg (fun z => some (Value.int z)) (some1 h), rfl⟩
  have h := (if_neg c1_9).symm.trans h
  by_cases c1_10 : v1 = (10 : Int32)
  · have h := (if_pos c1_10).symm.trans h
    refine go_tableK (pc := 1) (tgt := 137) C c1_10 dX3_count_1 (by decide) (by decide) rfl (by decide) ?_
    refine go_aload_n (pc := 137) C dX3_count_137 rfl 0 rfl ?_
    refine x3gr_1 (pc := 138) C dX3_count_138 ?_
    refine go_bipush (pc := 141) (v := (7 : Int32)) C dX3_count_141 (by decide) ?_
    refine go_ialdK (pc := 143) (j := 7) C x3aA_1 (by decide) (by decide) dX3_count_143 ?_
    exact (hE 0 0 _ _ _ (Nat.zero_le _) (Nat.zero_le _)).1 _ rfl dX3_count_144 ⟨congrArg (fun z => some (Value.int z)) (some1 h), rfl⟩
  have h := (if_neg c1_10).symm.trans h
  by_cases c1_11 : v1 = (11 : Int32)
  · have h := (if_pos c1_11).symm.trans h
    refine go_tableK (pc := 1) (tgt := 145) C c1_11 dX3_count_1 (by decide) (by decide) rfl (by decide) ?_
    refine go_aload_n (pc := 145) C dX3_count_145 rfl 0 rfl ?_
    refine x3gi_55 (pc := 146) C dX3_count_146 ?_
    exact (hE 0 0 _ _ _ (Nat.zero_le _) (Nat.zero_le _)).1 _ rfl dX3_count_149 ⟨congrArg (fun z => some (Value.int z)) (some1 h), rfl⟩
  have h := (if_neg c1_11).symm.trans h
  by_cases c1_12 : v1 = (12 : Int32)
  · have h := (if_pos c1_12).symm.trans h
    refine go_tableK (pc := 1) (tgt := 150) C c1_12 dX3_count_1 (by decide) (by decide) rfl (by decide) ?_
    refine go_aload_n (pc := 150) C dX3_count_150 rfl 0 rfl ?_
    refine x3gr_1 (pc := 151) C dX3_count_151 ?_
    refine go_bipush (pc := 154) (v := (8 : Int32)) C dX3_count_154 (by decide) ?_
    refine go_ialdK (pc := 156) (j := 8) C x3aA_1 (by decide) (by decide) dX3_count_156 ?_
    exact (hE 0 0 _ _ _ (Nat.zero_le _) (Nat.zero_le _)).1 _ rfl dX3_count_157 ⟨congrArg (fun z => some (Value.int z)) (some1 h), rfl⟩
  have h := (if_neg c1_12).symm.trans h
  by_cases c1_13 : v1 = (13 : Int32)
  · have h := (if_pos c1_13).symm.trans h
    refine go_tableK (pc := 1) (tgt := 158) C c1_13 dX3_count_1 (by decide) (by decide) rfl (by decide) ?_
    refine go_aload_n (pc := 158) C dX3_count_158 rfl 0 rfl ?_
    refine x3gi_31 (pc := 159) C dX3_count_159 ?_
    exact (hE 0 0 _ _ _ (Nat.zero_le _) (Nat.zero_le _)).1 _ rfl dX3_count_162 ⟨congrArg (fun z => some (Value.int z)) (some1 h), rfl⟩
  have h := (if_neg c1_13).symm.trans h
  refine go_tableD (pc := 1) (tgt := 163) C [(0 : Int32), (1 : Int32), (2 : Int32), (3 : Int32), (4 : Int32), (5 : Int32), (6 : Int32), (7 : Int32), (8 : Int32), (9 : Int32), (10 : Int32), (11 : Int32), (12 : Int32), (13 : Int32)] (List.forall_mem_cons.mpr ⟨c1_0, List.forall_mem_cons.mpr ⟨c1_1, List.forall_mem_cons.mpr ⟨c1_2, List.forall_mem_cons.mpr ⟨c1_3, List.forall_mem_cons.mpr ⟨c1_4, List.forall_mem_cons.mpr ⟨c1_5, List.forall_mem_cons.mpr ⟨c1_6, List.forall_mem_cons.mpr ⟨c1_7, List.forall_mem_cons.mpr ⟨c1_8, List.forall_mem_cons.mpr ⟨c1_9, List.forall_mem_cons.mpr ⟨c1_10, List.forall_mem_cons.mpr ⟨c1_11, List.forall_mem_cons.mpr ⟨c1_12, List.forall_mem_cons.mpr ⟨c1_13, fun _ h9 => absurd h9 List.not_mem_nil⟩⟩⟩⟩⟩⟩⟩⟩⟩⟩⟩⟩⟩⟩) dX3_count_1 (by decide) (by decide +kernel) (by decide) (by decide) (by decide) ?_
  refine go_iconst (pc := 163) (v := (-1 : Int32)) C dX3_count_163 (by decide) ?_
  exact (hE 0 0 _ _ _ (Nat.zero_le _) (Nat.zero_le _)).1 _ rfl dX3_count_164 ⟨congrArg (fun z => some (Value.int z)) (some1 h), rfl⟩
theorem m3_image {l : Launch} {d : gD} {a : Nat → Nat} {s0 : Bl} {v1 : Int32} {r9 : Int32} {s9 : Bl} (h : f3_image s0 v1 = some (r9, s9)) : Mt l d yX3_image cX3_image 2 (some .int) (2, 0, 0) 44 (bW d 3 FK3 a s0) [.ref (a 0), .int v1] (fun v w => v = some (.int r9) ∧ w = (bW d 3 FK3 a s9)) := by
  refine Mt.of x3pn (Nat.le_of_ble_eq_true rfl) ?_
  intro Γ hl hd hN C hE
  subst hl; subst hd
  show Go Γ 0 0 (bW Γ.d 3 FK3 a s0) 0 [(0, .ref (a 0)), (1, .int v1)] []
  dsimp only [f3_image] at h
  refine go_iload_n (pc := 0) C dX3_image_0 rfl 1 rfl ?_
  refine go_i2l (pc := 1) C dX3_image_1 ?_
  refine go_lconst (pc := 2) (v := (0 : Int64)) C dX3_image_2 (by decide) ?_
  refine go_ldc2 (pc := 3) C dX3_image_3 q1866 ?_
  obtain ⟨r1, e1, h⟩ := bnd_some h
  refine go_callSi (pc := 6) C [.long (v1).toInt64, .long (0 : Int64), .long (3 : Int64)] (m3_in e1) q1564 q1565 q144 q1566 x3pd_in (by decide) (by decide) rfl (Nat.le_of_ble_eq_true rfl) ⟨Nat.zero_le _, Nat.zero_le _⟩ dX3_image_6 rfl ?_
  refine go_if_ne (pc := 9) (tgt := 14) C dX3_image_9 (by decide) h (fun h => ?_) (fun h => ?_)
  · refine go_aload_n (pc := 14) C dX3_image_14 rfl 0 rfl ?_
    refine x3gr_70 (pc := 15) C dX3_image_15 ?_
    refine go_iload_n (pc := 18) C dX3_image_18 rfl 1 rfl ?_
    refine go_iconst (pc := 19) (v := (1 : Int32)) C dX3_image_19 (by decide) ?_
    refine go_zast (pc := 20) C x3pA_70 h dX3_image_20 (fun h => ?_)
    refine go_aload_n (pc := 21) C dX3_image_21 rfl 0 rfl ?_
    refine go_iload_n (pc := 22) C dX3_image_22 rfl 1 rfl ?_
    refine go_iconst (pc := 23) (v := (0 : Int32)) C dX3_image_23 (by decide) ?_
    obtain ⟨s2, e2, h⟩ := bnd_some h
    refine go_callVv (pc := 24) C [.int v1, .int (0 : Int32)] (m3_carriesAll e2) q1871 q1873 qs119 q144 q1874 x3pd_carriesAll (by decide) (by decide) bW_O x3c rfl (Nat.le_of_ble_eq_true rfl) ⟨Nat.zero_le _, Nat.zero_le _⟩ dX3_image_24 rfl ?_
    refine go_aload_n (pc := 27) C dX3_image_27 rfl 0 rfl ?_
    refine x3gr_1 (pc := 28) C dX3_image_28 ?_
    refine go_bipush (pc := 31) (v := (6 : Int32)) C dX3_image_31 (by decide) ?_
    refine go_ialdK (pc := 33) (j := 6) C x3aA_1 (by decide) (by decide) dX3_image_33 ?_
    exact (hE 0 0 _ _ _ (Nat.zero_le _) (Nat.zero_le _)).1 _ rfl dX3_image_34 ⟨congrArg (fun z => some (Value.int z)) (some2 h).1, congrArg (fun z => bW Γ.d 3 FK3 a z) (some2 h).2⟩
  · refine go_iconst (pc := 12) (v := (-1 : Int32)) C dX3_image_12 (by decide) ?_
    exact (hE 0 0 _ _ _ (Nat.zero_le _) (Nat.zero_le _)).1 _ rfl dX3_image_13 ⟨congrArg (fun z => some (Value.int z)) (some2 h).1, congrArg (fun z => bW Γ.d 3 FK3 a z) (some2 h).2⟩
theorem m3_back {l : Launch} {d : gD} {a : Nat → Nat} {s0 : Bl} {v1 : Int32} {r9 : Int32} {s9 : Bl} (h : f3_back s0 v1 = some (r9, s9)) : Mt l d yX3_back cX3_back 2 (some .int) (2, 0, 0) 44 (bW d 3 FK3 a s0) [.ref (a 0), .int v1] (fun v w => v = some (.int r9) ∧ w = (bW d 3 FK3 a s9)) := by
  refine Mt.of x3pn (Nat.le_of_ble_eq_true rfl) ?_
  intro Γ hl hd hN C hE
  subst hl; subst hd
  show Go Γ 0 0 (bW Γ.d 3 FK3 a s0) 0 [(0, .ref (a 0)), (1, .int v1)] []
  dsimp only [f3_back] at h
  refine go_iload_n (pc := 0) C dX3_back_0 rfl 1 rfl ?_
  refine go_i2l (pc := 1) C dX3_back_1 ?_
  refine go_lconst (pc := 2) (v := (0 : Int64)) C dX3_back_2 (by decide) ?_
  refine go_ldc2 (pc := 3) C dX3_back_3 q1866 ?_
  obtain ⟨r1, e1, h⟩ := bnd_some h
  refine go_callSi (pc := 6) C [.long (v1).toInt64, .long (0 : Int64), .long (3 : Int64)] (m3_in e1) q1564 q1565 q144 q1566 x3pd_in (by decide) (by decide) rfl (Nat.le_of_ble_eq_true rfl) ⟨Nat.zero_le _, Nat.zero_le _⟩ dX3_back_6 rfl ?_
  refine go_if_eq (pc := 9) (tgt := 21) C dX3_back_9 (by decide) h (fun h => ?_) (fun h => ?_)
  · refine go_iconst (pc := 21) (v := (-1 : Int32)) C dX3_back_21 (by decide) ?_
    exact (hE 0 0 _ _ _ (Nat.zero_le _) (Nat.zero_le _)).1 _ rfl dX3_back_22 ⟨congrArg (fun z => some (Value.int z)) (some2 h).1, congrArg (fun z => bW Γ.d 3 FK3 a z) (some2 h).2⟩
  · refine go_aload_n (pc := 12) C dX3_back_12 rfl 0 rfl ?_
    refine x3gr_70 (pc := 13) C dX3_back_13 ?_
    refine go_iload_n (pc := 16) C dX3_back_16 rfl 1 rfl ?_
    refine go_zald (pc := 17) C x3aA_70 h dX3_back_17 (fun h => ?_)
    refine go_if_ne (pc := 18) (tgt := 23) C dX3_back_18 (by decide) h (fun h => ?_) (fun h => ?_)
    · refine go_aload_n (pc := 23) C dX3_back_23 rfl 0 rfl ?_
      refine go_iload_n (pc := 24) C dX3_back_24 rfl 1 rfl ?_
      refine go_iconst (pc := 25) (v := (1 : Int32)) C dX3_back_25 (by decide) ?_
      obtain ⟨s2, e2, h⟩ := bnd_some h
      refine go_callVv (pc := 26) C [.int v1, .int (1 : Int32)] (m3_carriesAll e2) q1871 q1873 qs119 q144 q1874 x3pd_carriesAll (by decide) (by decide) bW_O x3c rfl (Nat.le_of_ble_eq_true rfl) ⟨Nat.zero_le _, Nat.zero_le _⟩ dX3_back_26 rfl ?_
      refine go_aload_n (pc := 29) C dX3_back_29 rfl 0 rfl ?_
      refine x3gr_1 (pc := 30) C dX3_back_30 ?_
      refine go_bipush (pc := 33) (v := (6 : Int32)) C dX3_back_33 (by decide) ?_
      refine go_ialdK (pc := 35) (j := 6) C x3aA_1 (by decide) (by decide) dX3_back_35 ?_
      exact (hE 0 0 _ _ _ (Nat.zero_le _) (Nat.zero_le _)).1 _ rfl dX3_back_36 ⟨congrArg (fun z => some (Value.int z)) (some2 h).1, congrArg (fun z => bW Γ.d 3 FK3 a z) (some2 h).2⟩
    · refine go_iconst (pc := 21) (v := (-1 : Int32)) C dX3_back_21 (by decide) ?_
      exact (hE 0 0 _ _ _ (Nat.zero_le _) (Nat.zero_le _)).1 _ rfl dX3_back_22 ⟨congrArg (fun z => some (Value.int z)) (some2 h).1, congrArg (fun z => bW Γ.d 3 FK3 a z) (some2 h).2⟩
theorem m3_starts {l : Launch} {d : gD} {a : Nat → Nat} {s0 : Bl} {s9 : Bl} (h : f3_starts s0 = some s9) : Mt l d yX3_starts cX3_starts 1 none (0, 0, 0) 0 (bW d 3 FK3 a s0) [.ref (a 0)] (fun v w => v = none ∧ w = (bW d 3 FK3 a s9)) := by
  refine Mt.of x3pn (Nat.le_of_ble_eq_true rfl) ?_
  intro Γ hl hd hN C hE
  subst hl; subst hd
  show Go Γ 0 0 (bW Γ.d 3 FK3 a s0) 0 [(0, .ref (a 0))] []
  dsimp only [f3_starts] at h
  refine go_aload_n (pc := 0) C dX3_starts_0 rfl 0 rfl ?_
  refine go_iconst (pc := 1) (v := (0 : Int32)) C dX3_starts_1 (by decide) ?_
  refine x3pi_32 (pc := 2) C dX3_starts_2 ?_
  refine go_aload_n (pc := 5) C dX3_starts_5 rfl 0 rfl ?_
  refine go_iconst (pc := 6) (v := (0 : Int32)) C dX3_starts_6 (by decide) ?_
  refine x3pi_33 (pc := 7) C dX3_starts_7 ?_
  refine go_aload_n (pc := 10) C dX3_starts_10 rfl 0 rfl ?_
  refine go_iconst (pc := 11) (v := (0 : Int32)) C dX3_starts_11 (by decide) ?_
  refine x3pi_36 (pc := 12) C dX3_starts_12 ?_
  refine go_aload_n (pc := 15) C dX3_starts_15 rfl 0 rfl ?_
  refine go_iconst (pc := 16) (v := (0 : Int32)) C dX3_starts_16 (by decide) ?_
  refine x3pi_37 (pc := 17) C dX3_starts_17 ?_
  refine go_aload_n (pc := 20) C dX3_starts_20 rfl 0 rfl ?_
  refine go_iconst (pc := 21) (v := (0 : Int32)) C dX3_starts_21 (by decide) ?_
  refine x3pi_38 (pc := 22) C dX3_starts_22 ?_
  exact (hE 0 0 _ _ _ (Nat.zero_le _) (Nat.zero_le _)).2.2.2.1 rfl dX3_starts_25 ⟨rfl, congrArg (fun z => bW Γ.d 3 FK3 a z) (some1 h)⟩
theorem m3_sign {l : Launch} {d : gD} {a : Nat → Nat} {s0 : Bl} {r9 : Int32} (h : f3_sign s0 = some r9) : Mt l d yX3_sign cX3_sign 1 (some .int) (0, 0, 0) 0 (bW d 3 FK3 a s0) [.ref (a 0)] (fun v w => v = some (.int r9) ∧ w = (bW d 3 FK3 a s0)) := by
  refine Mt.of x3pn (Nat.le_of_ble_eq_true rfl) ?_
  intro Γ hl hd hN C hE
  subst hl; subst hd
  show Go Γ 0 0 (bW Γ.d 3 FK3 a s0) 0 [(0, .ref (a 0))] []
  dsimp only [f3_sign] at h
  refine go_aload_n (pc := 0) C dX3_sign_0 rfl 0 rfl ?_
  refine x3gi_32 (pc := 1) C dX3_sign_1 ?_
  refine go_aload_n (pc := 4) C dX3_sign_4 rfl 0 rfl ?_
  refine x3gi_31 (pc := 5) C dX3_sign_5 ?_
  refine go_icmp_ge (pc := 8) (tgt := 27) C dX3_sign_8 (by decide) h (fun h => ?_) (fun h => ?_)
  · refine go_iconst (pc := 27) (v := (-1 : Int32)) C dX3_sign_27 (by decide) ?_
    exact (hE 0 0 _ _ _ (Nat.zero_le _) (Nat.zero_le _)).1 _ rfl dX3_sign_28 ⟨congrArg (fun z => some (Value.int z)) (some1 h), rfl⟩
  · refine go_aload_n (pc := 11) C dX3_sign_11 rfl 0 rfl ?_
    refine x3gr_41 (pc := 12) C dX3_sign_12 ?_
    refine go_aload_n (pc := 15) C dX3_sign_15 rfl 0 rfl ?_
    refine x3gi_32 (pc := 16) C dX3_sign_16 ?_
    refine go_bald (pc := 19) C x3aA_41 h dX3_sign_19 (fun h => ?_)
    refine go_sipush (pc := 20) (v := (255 : Int32)) C dX3_sign_20 (by decide) ?_
    refine go_iand (pc := 23) C dX3_sign_23 ?_
    refine go_goto (pc := 24) (tgt := 28) C dX3_sign_24 (by decide) ?_
    exact (hE 0 0 _ _ _ (Nat.zero_le _) (Nat.zero_le _)).1 _ rfl dX3_sign_28 ⟨congrArg (fun z => some (Value.int z)) (some1 h), rfl⟩
theorem w3_blanks_0 {Γ : Gam} {a : Nat → Nat} {s9 : Bl} (hN : Γ.nL = 1) (C : Cx Γ cX3_blanks RX3 (1, 0, 0) 20) (hE : Rets Γ cX3_blanks none 0 0 (fun v w => v = none ∧ w = (bW Γ.d 3 FK3 a s9))) : ∀ (n : Nat) (s : Bl), loop (g3_blanks_0) n s = some s9 → (fun s : Bl => Go Γ 0 0 (bW Γ.d 3 FK3 a s) 0 [(0, .ref (a 0))] []) s := by
  refine loop_walk (P := fun s : Bl => Go Γ 0 0 (bW Γ.d 3 FK3 a s) 0 [(0, .ref (a 0))] []) ?_
  intro K0 hK0 s h
  obtain ⟨s0, rfl⟩ : ∃ z, z = s := ⟨_, rfl⟩
  dsimp only [g3_blanks_0] at h
  show Go Γ 0 0 (bW Γ.d 3 FK3 a s0) 0 [(0, .ref (a 0))] []
  refine go_aload_n (pc := 0) C dX3_blanks_0 rfl 0 rfl ?_
  obtain ⟨r1, e1, h⟩ := bnd_some h
  refine go_callVi (pc := 1) C [] (m3_sign e1) q1519 q1521 qs59 q144 q1522 x3pd_sign (by decide) (by decide) bW_O x3c rfl (Nat.le_of_ble_eq_true rfl) ⟨Nat.zero_le _, Nat.zero_le _⟩ dX3_blanks_1 rfl ?_
  refine go_bipush (pc := 4) (v := (32 : Int32)) C dX3_blanks_4 (by decide) ?_
  refine go_icmp_ne (pc := 6) (tgt := 22) C dX3_blanks_6 (by decide) h (fun h => ?_) (fun h => ?_)
  · exact (hE 0 0 _ _ _ (Nat.zero_le _) (Nat.zero_le _)).2.2.2.1 rfl dX3_blanks_22 ⟨rfl, congrArg (fun z => bW Γ.d 3 FK3 a z) (some1 h)⟩
  · refine go_aload_n (pc := 9) C dX3_blanks_9 rfl 0 rfl ?_
    refine go_dup (pc := 10) C dX3_blanks_10 rfl ?_
    refine x3gi_32 (pc := 11) C dX3_blanks_11 ?_
    refine go_iconst (pc := 14) (v := (1 : Int32)) C dX3_blanks_14 (by decide) ?_
    refine go_iadd (pc := 15) C dX3_blanks_15 ?_
    refine x3pi_32 (pc := 16) C dX3_blanks_16 ?_
    refine go_goto (pc := 19) (tgt := 0) C dX3_blanks_19 (by decide) ?_
    exact hK0 (bI s0 32 ((s0.1 32) + (1 : Int32))) h
theorem m3_blanks {l : Launch} {d : gD} {a : Nat → Nat} {s0 : Bl} {s9 : Bl} (h : f3_blanks s0 = some s9) : Mt l d yX3_blanks cX3_blanks 1 none (1, 0, 0) 20 (bW d 3 FK3 a s0) [.ref (a 0)] (fun v w => v = none ∧ w = (bW d 3 FK3 a s9)) := by
  refine Mt.of x3pn (Nat.le_of_ble_eq_true rfl) ?_
  intro Γ hl hd hN C hE
  subst hl; subst hd
  show Go Γ 0 0 (bW Γ.d 3 FK3 a s0) 0 [(0, .ref (a 0))] []
  dsimp only [f3_blanks] at h
  exact w3_blanks_0 hN C hE FU s0 h
theorem m3_riverWord {l : Launch} {d : gD} {ws : va_W} {v0 : Int32} {r9 : Nat} (h : f3_riverWord v0 = some r9) : Mt l d yX3_riverWord cX3_riverWord 1 (some (.object "java/lang/String")) (0, 0, 0) 0 ws [.int v0] (fun v w => v = some (.ref (d.2.2.1 r9)) ∧ w = ws) := by
  refine Mt.of x3pn (Nat.le_of_ble_eq_true rfl) ?_
  intro Γ hl hd hN C hE
  subst hl; subst hd
  show Go Γ 0 0 ws 0 [(0, .int v0)] []
  dsimp only [f3_riverWord] at h
  refine go_iload_n (pc := 0) C dX3_riverWord_0 rfl 0 rfl ?_
  by_cases c1_0 : v0 = (0 : Int32)
  · have h := (if_pos c1_0).symm.trans h
    refine go_tableK (pc := 1) (tgt := 32) C c1_0 dX3_riverWord_1 (by decide) (by decide) rfl (by decide) ?_
    refine go_ldcwS (pc := 32) 1 C dX3_riverWord_32 (by decide) ?_
    exact (hE 0 0 _ _ _ (Nat.zero_le _) (Nat.zero_le _)).2.2.2.2.1 _ _ rfl dX3_riverWord_35 ⟨congrArg (fun z => some (Value.ref (Γ.d.2.2.1 z))) (some1 h), rfl⟩
  have h := (if_neg c1_0).symm.trans h
  by_cases c1_1 : v0 = (1 : Int32)
  · have h := (if_pos c1_1).symm.trans h
    refine go_tableK (pc := 1) (tgt := 36) C c1_1 dX3_riverWord_1 (by decide) (by decide) rfl (by decide) ?_
    refine go_ldcwS (pc := 36) 2 C dX3_riverWord_36 (by decide) ?_
    exact (hE 0 0 _ _ _ (Nat.zero_le _) (Nat.zero_le _)).2.2.2.2.1 _ _ rfl dX3_riverWord_39 ⟨congrArg (fun z => some (Value.ref (Γ.d.2.2.1 z))) (some1 h), rfl⟩
  have h := (if_neg c1_1).symm.trans h
  by_cases c1_2 : v0 = (2 : Int32)
  · have h := (if_pos c1_2).symm.trans h
    refine go_tableK (pc := 1) (tgt := 40) C c1_2 dX3_riverWord_1 (by decide) (by decide) rfl (by decide) ?_
    refine go_ldcwS (pc := 40) 3 C dX3_riverWord_40 (by decide) ?_
    exact (hE 0 0 _ _ _ (Nat.zero_le _) (Nat.zero_le _)).2.2.2.2.1 _ _ rfl dX3_riverWord_43 ⟨congrArg (fun z => some (Value.ref (Γ.d.2.2.1 z))) (some1 h), rfl⟩
  have h := (if_neg c1_2).symm.trans h
  by_cases c1_3 : v0 = (3 : Int32)
  · have h := (if_pos c1_3).symm.trans h
    refine go_tableK (pc := 1) (tgt := 44) C c1_3 dX3_riverWord_1 (by decide) (by decide) rfl (by decide) ?_
    refine go_ldcwS (pc := 44) 4 C dX3_riverWord_44 (by decide) ?_
    exact (hE 0 0 _ _ _ (Nat.zero_le _) (Nat.zero_le _)).2.2.2.2.1 _ _ rfl dX3_riverWord_47 ⟨congrArg (fun z => some (Value.ref (Γ.d.2.2.1 z))) (some1 h), rfl⟩
  have h := (if_neg c1_3).symm.trans h
  refine go_tableD (pc := 1) (tgt := 48) C [(0 : Int32), (1 : Int32), (2 : Int32), (3 : Int32)] (List.forall_mem_cons.mpr ⟨c1_0, List.forall_mem_cons.mpr ⟨c1_1, List.forall_mem_cons.mpr ⟨c1_2, List.forall_mem_cons.mpr ⟨c1_3, fun _ h9 => absurd h9 List.not_mem_nil⟩⟩⟩⟩) dX3_riverWord_1 (by decide) (by decide +kernel) (by decide) (by decide) (by decide) ?_
  refine go_ldcwS (pc := 48) 5 C dX3_riverWord_48 (by decide) ?_
  exact (hE 0 0 _ _ _ (Nat.zero_le _) (Nat.zero_le _)).2.2.2.2.1 _ _ rfl dX3_riverWord_51 ⟨congrArg (fun z => some (Value.ref (Γ.d.2.2.1 z))) (some1 h), rfl⟩
theorem w3_stood_63 {Γ : Gam} {a : Nat → Nat} {s0 : Bl} {k1 : Nat} {r9 : Int32} (hN : Γ.nL = 5) (C : Cx Γ cX3_stood RX3 (4, 0, 0) 85) (hE : Rets Γ cX3_stood (some .boolean) 0 0 (fun v w => v = some (.int r9) ∧ w = (bW Γ.d 3 FK3 a s0))) : ∀ (n : Nat) (s : Int32 × Int32), loop (g3_stood_63 s0 k1) n s = some r9 → (fun s : Int32 × Int32 => Go Γ 0 0 (bW Γ.d 3 FK3 a s0) 63 [(0, .ref (a 0)), (1, .ref (Γ.d.2.2.1 k1)), (3, .int s.1), (4, .int s.2)] []) s := by
  refine loop_walk (P := fun s : Int32 × Int32 => Go Γ 0 0 (bW Γ.d 3 FK3 a s0) 63 [(0, .ref (a 0)), (1, .ref (Γ.d.2.2.1 k1)), (3, .int s.1), (4, .int s.2)] []) ?_
  intro K63 hK63 s h
  obtain ⟨v3, v4⟩ := s
  dsimp only [g3_stood_63] at h
  show Go Γ 0 0 (bW Γ.d 3 FK3 a s0) 63 [(0, .ref (a 0)), (1, .ref (Γ.d.2.2.1 k1)), (3, .int v3), (4, .int v4)] []
  refine go_iload (pc := 63) C dX3_stood_63 3 rfl ?_
  refine go_aload_n (pc := 65) C dX3_stood_65 rfl 1 rfl ?_
  obtain ⟨hi9, h⟩ := chk_some h
  refine go_callVSi (pc := 66) C (of_decide_eq_true hi9) [] (m_J3_length (of_decide_eq_true hi9)) q1535 q579 q580 q581 pd_J3_length (by decide) (by decide) rfl (Nat.le_of_ble_eq_true rfl) ⟨Nat.zero_le _, Nat.zero_le _⟩ dX3_stood_66 rfl ?_
  refine go_icmp_ge (pc := 69) (tgt := 109) C dX3_stood_69 (by decide) h (fun h => ?_) (fun h => ?_)
  · refine go_iload_n (pc := 109) C dX3_stood_109 rfl 2 rfl ?_
    obtain ⟨hz, h⟩ := chk_some h
    exact (hE 0 0 _ _ _ (Nat.zero_le _) (Nat.zero_le _)).2.1 _ rfl (isB_or hz) dX3_stood_110 ⟨congrArg (fun z => some (Value.int z)) (some1 h), rfl⟩
  · refine go_iload_n (pc := 72) C dX3_stood_72 rfl 2 rfl ?_
    refine go_if_eq (pc := 73) (tgt := 109) C dX3_stood_73 (by decide) h (fun h => ?_) (fun h => ?_)
    · refine go_iload_n (pc := 109) C dX3_stood_109 rfl 2 rfl ?_
      obtain ⟨hz, h⟩ := chk_some h
      exact (hE 0 0 _ _ _ (Nat.zero_le _) (Nat.zero_le _)).2.1 _ rfl (isB_or hz) dX3_stood_110 ⟨congrArg (fun z => some (Value.int z)) (some1 h), rfl⟩
    · refine go_aload_n (pc := 76) C dX3_stood_76 rfl 0 rfl ?_
      refine x3gr_41 (pc := 77) C dX3_stood_77 ?_
      refine go_aload_n (pc := 80) C dX3_stood_80 rfl 0 rfl ?_
      refine x3gi_32 (pc := 81) C dX3_stood_81 ?_
      refine go_iload (pc := 84) C dX3_stood_84 3 rfl ?_
      refine go_iadd (pc := 86) C dX3_stood_86 ?_
      refine go_bald (pc := 87) C x3aA_41 h dX3_stood_87 (fun h => ?_)
      refine go_aload_n (pc := 88) C dX3_stood_88 rfl 1 rfl ?_
      refine go_iload (pc := 89) C dX3_stood_89 3 rfl ?_
      obtain ⟨hi9, h⟩ := chk_some h
      obtain ⟨hj9, h⟩ := chk_some h
      refine go_callVSi (pc := 91) C (of_decide_eq_true hi9) [.int v4] (m_J3_charAt (of_decide_eq_true hi9) hj9) q1536 q589 q590 q591 pd_J3_charAt (by decide) (by decide) rfl (Nat.le_of_ble_eq_true rfl) ⟨Nat.zero_le _, Nat.zero_le _⟩ dX3_stood_91 rfl ?_
      refine go_icmp_ne (pc := 94) (tgt := 101) C dX3_stood_94 (by decide) h (fun h => ?_) (fun h => ?_)
      · refine go_iconst (pc := 101) (v := (0 : Int32)) C dX3_stood_101 (by decide) ?_
        refine go_istore_n (pc := 102) C hN dX3_stood_102 rfl (by decide) rfl ?_
        refine go_iinc (pc := 103) (v := (v4 + (1 : Int32))) C hN dX3_stood_103 (q := 3) rfl rfl (by decide) rfl ?_
        refine go_goto (pc := 106) (tgt := 63) C dX3_stood_106 (by decide) ?_
        refine go_sub [2, 3, 1, 0] rfl ?_
        exact hK63 ((0 : Int32), (v4 + (1 : Int32))) h
      · refine go_iconst (pc := 97) (v := (1 : Int32)) C dX3_stood_97 (by decide) ?_
        refine go_goto (pc := 98) (tgt := 102) C dX3_stood_98 (by decide) ?_
        refine go_istore_n (pc := 102) C hN dX3_stood_102 rfl (by decide) rfl ?_
        refine go_iinc (pc := 103) (v := (v4 + (1 : Int32))) C hN dX3_stood_103 (q := 3) rfl rfl (by decide) rfl ?_
        refine go_goto (pc := 106) (tgt := 63) C dX3_stood_106 (by decide) ?_
        refine go_sub [2, 3, 1, 0] rfl ?_
        exact hK63 ((1 : Int32), (v4 + (1 : Int32))) h
theorem w3_stood_41 {Γ : Gam} {a : Nat → Nat} {s0 : Bl} {k1 : Nat} {v2 : Int32} {r9 : Int32} (hN : Γ.nL = 5) (C : Cx Γ cX3_stood RX3 (4, 0, 0) 85) (hE : Rets Γ cX3_stood (some .boolean) 0 0 (fun v w => v = some (.int r9) ∧ w = (bW Γ.d 3 FK3 a s0))) (h : g3_stood_41 s0 k1 v2 = some r9) : Go Γ 0 0 (bW Γ.d 3 FK3 a s0) 41 [(0, .ref (a 0)), (1, .ref (Γ.d.2.2.1 k1)), (2, .int v2)] [] := by
  dsimp only [g3_stood_41] at h
  refine go_iload_n (pc := 41) C dX3_stood_41 rfl 2 rfl ?_
  refine go_aload_n (pc := 42) C dX3_stood_42 rfl 0 rfl ?_
  refine x3gi_32 (pc := 43) C dX3_stood_43 ?_
  refine go_isub (pc := 46) C dX3_stood_46 ?_
  refine go_aload_n (pc := 47) C dX3_stood_47 rfl 1 rfl ?_
  obtain ⟨hi9, h⟩ := chk_some h
  refine go_callVSi (pc := 48) C (of_decide_eq_true hi9) [] (m_J3_length (of_decide_eq_true hi9)) q1535 q579 q580 q581 pd_J3_length (by decide) (by decide) rfl (Nat.le_of_ble_eq_true rfl) ⟨Nat.zero_le _, Nat.zero_le _⟩ dX3_stood_48 rfl ?_
  refine go_icmp_ne (pc := 51) (tgt := 58) C dX3_stood_51 (by decide) h (fun h => ?_) (fun h => ?_)
  · refine go_iconst (pc := 58) (v := (0 : Int32)) C dX3_stood_58 (by decide) ?_
    refine go_istore_n (pc := 59) C hN dX3_stood_59 rfl (by decide) rfl ?_
    refine go_iconst (pc := 60) (v := (0 : Int32)) C dX3_stood_60 (by decide) ?_
    refine go_istore (pc := 61) C hN dX3_stood_61 (by decide) rfl ?_
    refine go_sub [2, 3, 1, 0] rfl ?_
    exact w3_stood_63 hN C hE FU ((0 : Int32), (0 : Int32)) h
  · refine go_iconst (pc := 54) (v := (1 : Int32)) C dX3_stood_54 (by decide) ?_
    refine go_goto (pc := 55) (tgt := 59) C dX3_stood_55 (by decide) ?_
    refine go_istore_n (pc := 59) C hN dX3_stood_59 rfl (by decide) rfl ?_
    refine go_iconst (pc := 60) (v := (0 : Int32)) C dX3_stood_60 (by decide) ?_
    refine go_istore (pc := 61) C hN dX3_stood_61 (by decide) rfl ?_
    refine go_sub [2, 3, 1, 0] rfl ?_
    exact w3_stood_63 hN C hE FU ((1 : Int32), (0 : Int32)) h
theorem w3_stood_5 {Γ : Gam} {a : Nat → Nat} {s0 : Bl} {k1 : Nat} {r9 : Int32} (hN : Γ.nL = 5) (C : Cx Γ cX3_stood RX3 (4, 0, 0) 85) (hE : Rets Γ cX3_stood (some .boolean) 0 0 (fun v w => v = some (.int r9) ∧ w = (bW Γ.d 3 FK3 a s0))) : ∀ (n : Nat) (s : Int32), loop (g3_stood_5 s0 k1) n s = some r9 → (fun s : Int32 => Go Γ 0 0 (bW Γ.d 3 FK3 a s0) 5 [(0, .ref (a 0)), (1, .ref (Γ.d.2.2.1 k1)), (2, .int s)] []) s := by
  refine loop_walk (P := fun s : Int32 => Go Γ 0 0 (bW Γ.d 3 FK3 a s0) 5 [(0, .ref (a 0)), (1, .ref (Γ.d.2.2.1 k1)), (2, .int s)] []) ?_
  intro K5 hK5 s h
  obtain ⟨v2, rfl⟩ : ∃ z, z = s := ⟨_, rfl⟩
  dsimp only [g3_stood_5] at h
  show Go Γ 0 0 (bW Γ.d 3 FK3 a s0) 5 [(0, .ref (a 0)), (1, .ref (Γ.d.2.2.1 k1)), (2, .int v2)] []
  refine go_iload_n (pc := 5) C dX3_stood_5 rfl 2 rfl ?_
  refine go_aload_n (pc := 6) C dX3_stood_6 rfl 0 rfl ?_
  refine x3gi_31 (pc := 7) C dX3_stood_7 ?_
  refine go_icmp_ge (pc := 10) (tgt := 41) C dX3_stood_10 (by decide) h (fun h => ?_) (fun h => ?_)
  · exact w3_stood_41 hN C hE h
  · refine go_aload_n (pc := 13) C dX3_stood_13 rfl 0 rfl ?_
    refine x3gr_41 (pc := 14) C dX3_stood_14 ?_
    refine go_iload_n (pc := 17) C dX3_stood_17 rfl 2 rfl ?_
    refine go_bald (pc := 18) C x3aA_41 h dX3_stood_18 (fun h => ?_)
    refine go_bipush (pc := 19) (v := (97 : Int32)) C dX3_stood_19 (by decide) ?_
    refine go_icmp_lt (pc := 21) (tgt := 41) C dX3_stood_21 (by decide) h (fun h => ?_) (fun h => ?_)
    · exact w3_stood_41 hN C hE h
    · refine go_aload_n (pc := 24) C dX3_stood_24 rfl 0 rfl ?_
      refine x3gr_41 (pc := 25) C dX3_stood_25 ?_
      refine go_iload_n (pc := 28) C dX3_stood_28 rfl 2 rfl ?_
      refine go_bald (pc := 29) C x3aA_41 h dX3_stood_29 (fun h => ?_)
      refine go_bipush (pc := 30) (v := (122 : Int32)) C dX3_stood_30 (by decide) ?_
      refine go_icmp_gt (pc := 32) (tgt := 41) C dX3_stood_32 (by decide) h (fun h => ?_) (fun h => ?_)
      · exact w3_stood_41 hN C hE h
      · refine go_iinc (pc := 35) (v := (v2 + (1 : Int32))) C hN dX3_stood_35 (q := 2) rfl rfl (by decide) rfl ?_
        refine go_goto (pc := 38) (tgt := 5) C dX3_stood_38 (by decide) ?_
        refine go_sub [1, 2, 0] rfl ?_
        exact hK5 (v2 + (1 : Int32)) h
theorem m3_stood {l : Launch} {d : gD} {a : Nat → Nat} {s0 : Bl} {k1 : Nat} {r9 : Int32} (h : f3_stood s0 k1 = some r9) : Mt l d yX3_stood cX3_stood 5 (some .boolean) (4, 0, 0) 85 (bW d 3 FK3 a s0) [.ref (a 0), .ref (d.2.2.1 k1)] (fun v w => v = some (.int r9) ∧ w = (bW d 3 FK3 a s0)) := by
  refine Mt.of x3pn (Nat.le_of_ble_eq_true rfl) ?_
  intro Γ hl hd hN C hE
  subst hl; subst hd
  show Go Γ 0 0 (bW Γ.d 3 FK3 a s0) 0 [(0, .ref (a 0)), (1, .ref (Γ.d.2.2.1 k1))] []
  dsimp only [f3_stood] at h
  refine go_aload_n (pc := 0) C dX3_stood_0 rfl 0 rfl ?_
  refine x3gi_32 (pc := 1) C dX3_stood_1 ?_
  refine go_istore_n (pc := 4) C hN dX3_stood_4 rfl (by decide) rfl ?_
  refine go_sub [1, 2, 0] rfl ?_
  exact w3_stood_5 hN C hE FU (s0.1 32) h
theorem m3_fails {l : Launch} {d : gD} {a : Nat → Nat} {s0 : Bl} {v1 : Int32} {v2 : Int32} {s9 : Bl} (h : f3_fails s0 v1 v2 = some s9) : Mt l d yX3_fails cX3_fails 3 none (0, 0, 0) 0 (bW d 3 FK3 a s0) [.ref (a 0), .int v1, .int v2] (fun v w => v = none ∧ w = (bW d 3 FK3 a s9)) := by
  refine Mt.of x3pn (Nat.le_of_ble_eq_true rfl) ?_
  intro Γ hl hd hN C hE
  subst hl; subst hd
  show Go Γ 0 0 (bW Γ.d 3 FK3 a s0) 0 [(0, .ref (a 0)), (1, .int v1), (2, .int v2)] []
  dsimp only [f3_fails] at h
  refine go_aload_n (pc := 0) C dX3_fails_0 rfl 0 rfl ?_
  refine go_aload_n (pc := 1) C dX3_fails_1 rfl 0 rfl ?_
  refine x3gi_33 (pc := 2) C dX3_fails_2 ?_
  refine go_if_ne (pc := 5) (tgt := 19) C dX3_fails_5 (by decide) h (fun h => ?_) (fun h => ?_)
  · refine go_aload_n (pc := 19) C dX3_fails_19 rfl 0 rfl ?_
    refine x3gi_33 (pc := 20) C dX3_fails_20 ?_
    refine x3pi_33 (pc := 23) C dX3_fails_23 ?_
    exact (hE 0 0 _ _ _ (Nat.zero_le _) (Nat.zero_le _)).2.2.2.1 rfl dX3_fails_26 ⟨rfl, congrArg (fun z => bW Γ.d 3 FK3 a z) (some1 h)⟩
  · refine go_iconst (pc := 8) (v := (1 : Int32)) C dX3_fails_8 (by decide) ?_
    refine go_bipush (pc := 9) (v := (8 : Int32)) C dX3_fails_9 (by decide) ?_
    refine go_iload_n (pc := 11) C dX3_fails_11 rfl 2 rfl ?_
    refine go_imul (pc := 12) C dX3_fails_12 ?_
    refine go_iadd (pc := 13) C dX3_fails_13 ?_
    refine go_iload_n (pc := 14) C dX3_fails_14 rfl 1 rfl ?_
    refine go_iadd (pc := 15) C dX3_fails_15 ?_
    refine go_goto (pc := 16) (tgt := 23) C dX3_fails_16 (by decide) ?_
    refine x3pi_33 (pc := 23) C dX3_fails_23 ?_
    exact (hE 0 0 _ _ _ (Nat.zero_le _) (Nat.zero_le _)).2.2.2.1 rfl dX3_fails_26 ⟨rfl, congrArg (fun z => bW Γ.d 3 FK3 a z) (some1 h)⟩
theorem w3_isFull_24 {Γ : Gam} {a : Nat → Nat} {s0 : Bl} {v1 : Int32} {z0 : Int32} {z1 : Int32} {r9 : Int32} (hN : Γ.nL = 3) (C : Cx Γ cX3_isFull RX3 (0, 0, 0) 0) (hE : Rets Γ cX3_isFull (some .boolean) 0 0 (fun v w => v = some (.int r9) ∧ w = (bW Γ.d 3 FK3 a s0))) (h : g3_isFull_24 s0 v1 z0 z1 = some r9) : Go Γ 0 0 (bW Γ.d 3 FK3 a s0) 24 [(0, .ref (a 0)), (1, .int v1)] [.int z0, .int z1] := by
  dsimp only [g3_isFull_24] at h
  refine go_icmp_eq (pc := 24) (tgt := 29) C dX3_isFull_24 (by decide) h (fun h => ?_) (fun h => ?_)
  · refine go_iload_n (pc := 29) C dX3_isFull_29 rfl 1 rfl ?_
    by_cases c30_1 : v1 = (1 : Int32)
    · have h := (if_pos c30_1).symm.trans h
      refine go_tableK (pc := 30) (tgt := 60) C c30_1 dX3_isFull_30 (by decide) (by decide) rfl (by decide) ?_
      refine go_aload_n (pc := 60) C dX3_isFull_60 rfl 0 rfl ?_
      refine x3gr_19 (pc := 61) C dX3_isFull_61 ?_
      refine go_iconst (pc := 64) (v := (2 : Int32)) C dX3_isFull_64 (by decide) ?_
      refine go_ialdK (pc := 65) (j := 2) C x3aA_19 (by decide) (by decide) dX3_isFull_65 ?_
      refine go_bipush (pc := 66) (v := (6 : Int32)) C dX3_isFull_66 (by decide) ?_
      refine go_icmp_ne (pc := 68) (tgt := 75) C dX3_isFull_68 (by decide) h (fun h => ?_) (fun h => ?_)
      · refine go_iconst (pc := 75) (v := (0 : Int32)) C dX3_isFull_75 (by decide) ?_
        exact (hE 0 0 _ _ _ (Nat.zero_le _) (Nat.zero_le _)).2.1 _ rfl (Or.inl rfl) dX3_isFull_76 ⟨congrArg (fun z => some (Value.int z)) (some1 h), rfl⟩
      · refine go_iconst (pc := 71) (v := (1 : Int32)) C dX3_isFull_71 (by decide) ?_
        refine go_goto (pc := 72) (tgt := 76) C dX3_isFull_72 (by decide) ?_
        exact (hE 0 0 _ _ _ (Nat.zero_le _) (Nat.zero_le _)).2.1 _ rfl (Or.inr rfl) dX3_isFull_76 ⟨congrArg (fun z => some (Value.int z)) (some1 h), rfl⟩
    have h := (if_neg c30_1).symm.trans h
    by_cases c30_2 : v1 = (2 : Int32)
    · have h := (if_pos c30_2).symm.trans h
      refine go_tableK (pc := 30) (tgt := 77) C c30_2 dX3_isFull_30 (by decide) (by decide) rfl (by decide) ?_
      refine go_aload_n (pc := 77) C dX3_isFull_77 rfl 0 rfl ?_
      refine x3gr_19 (pc := 78) C dX3_isFull_78 ?_
      refine go_iconst (pc := 81) (v := (3 : Int32)) C dX3_isFull_81 (by decide) ?_
      refine go_ialdK (pc := 82) (j := 3) C x3aA_19 (by decide) (by decide) dX3_isFull_82 ?_
      refine go_bipush (pc := 83) (v := (8 : Int32)) C dX3_isFull_83 (by decide) ?_
      refine go_icmp_ne (pc := 85) (tgt := 92) C dX3_isFull_85 (by decide) h (fun h => ?_) (fun h => ?_)
      · refine go_iconst (pc := 92) (v := (0 : Int32)) C dX3_isFull_92 (by decide) ?_
        exact (hE 0 0 _ _ _ (Nat.zero_le _) (Nat.zero_le _)).2.1 _ rfl (Or.inl rfl) dX3_isFull_93 ⟨congrArg (fun z => some (Value.int z)) (some1 h), rfl⟩
      · refine go_iconst (pc := 88) (v := (1 : Int32)) C dX3_isFull_88 (by decide) ?_
        refine go_goto (pc := 89) (tgt := 93) C dX3_isFull_89 (by decide) ?_
        exact (hE 0 0 _ _ _ (Nat.zero_le _) (Nat.zero_le _)).2.1 _ rfl (Or.inr rfl) dX3_isFull_93 ⟨congrArg (fun z => some (Value.int z)) (some1 h), rfl⟩
    have h := (if_neg c30_2).symm.trans h
    by_cases c30_3 : v1 = (3 : Int32)
    · have h := (if_pos c30_3).symm.trans h
      refine go_tableK (pc := 30) (tgt := 94) C c30_3 dX3_isFull_30 (by decide) (by decide) rfl (by decide) ?_
      refine go_aload_n (pc := 94) C dX3_isFull_94 rfl 0 rfl ?_
      refine x3gr_19 (pc := 95) C dX3_isFull_95 ?_
      refine go_iconst (pc := 98) (v := (4 : Int32)) C dX3_isFull_98 (by decide) ?_
      refine go_ialdK (pc := 99) (j := 4) C x3aA_19 (by decide) (by decide) dX3_isFull_99 ?_
      refine go_bipush (pc := 100) (v := (12 : Int32)) C dX3_isFull_100 (by decide) ?_
      refine go_icmp_ne (pc := 102) (tgt := 109) C dX3_isFull_102 (by decide) h (fun h => ?_) (fun h => ?_)
      · refine go_iconst (pc := 109) (v := (0 : Int32)) C dX3_isFull_109 (by decide) ?_
        exact (hE 0 0 _ _ _ (Nat.zero_le _) (Nat.zero_le _)).2.1 _ rfl (Or.inl rfl) dX3_isFull_110 ⟨congrArg (fun z => some (Value.int z)) (some1 h), rfl⟩
      · refine go_iconst (pc := 105) (v := (1 : Int32)) C dX3_isFull_105 (by decide) ?_
        refine go_goto (pc := 106) (tgt := 110) C dX3_isFull_106 (by decide) ?_
        exact (hE 0 0 _ _ _ (Nat.zero_le _) (Nat.zero_le _)).2.1 _ rfl (Or.inr rfl) dX3_isFull_110 ⟨congrArg (fun z => some (Value.int z)) (some1 h), rfl⟩
    have h := (if_neg c30_3).symm.trans h
    by_cases c30_4 : v1 = (4 : Int32)
    · have h := (if_pos c30_4).symm.trans h
      refine go_tableK (pc := 30) (tgt := 111) C c30_4 dX3_isFull_30 (by decide) (by decide) rfl (by decide) ?_
      refine go_aload_n (pc := 111) C dX3_isFull_111 rfl 0 rfl ?_
      refine x3gr_19 (pc := 112) C dX3_isFull_112 ?_
      refine go_iconst (pc := 115) (v := (5 : Int32)) C dX3_isFull_115 (by decide) ?_
      refine go_ialdK (pc := 116) (j := 5) C x3aA_19 (by decide) (by decide) dX3_isFull_116 ?_
      refine go_bipush (pc := 117) (v := (6 : Int32)) C dX3_isFull_117 (by decide) ?_
      refine go_icmp_ne (pc := 119) (tgt := 126) C dX3_isFull_119 (by decide) h (fun h => ?_) (fun h => ?_)
      · refine go_iconst (pc := 126) (v := (0 : Int32)) C dX3_isFull_126 (by decide) ?_
        exact (hE 0 0 _ _ _ (Nat.zero_le _) (Nat.zero_le _)).2.1 _ rfl (Or.inl rfl) dX3_isFull_127 ⟨congrArg (fun z => some (Value.int z)) (some1 h), rfl⟩
      · refine go_iconst (pc := 122) (v := (1 : Int32)) C dX3_isFull_122 (by decide) ?_
        refine go_goto (pc := 123) (tgt := 127) C dX3_isFull_123 (by decide) ?_
        exact (hE 0 0 _ _ _ (Nat.zero_le _) (Nat.zero_le _)).2.1 _ rfl (Or.inr rfl) dX3_isFull_127 ⟨congrArg (fun z => some (Value.int z)) (some1 h), rfl⟩
    have h := (if_neg c30_4).symm.trans h
    refine go_tableD (pc := 30) (tgt := 128) C [(1 : Int32), (2 : Int32), (3 : Int32), (4 : Int32)] (List.forall_mem_cons.mpr ⟨c30_1, List.forall_mem_cons.mpr ⟨c30_2, List.forall_mem_cons.mpr ⟨c30_3, List.forall_mem_cons.mpr ⟨c30_4, fun _ h9 => absurd h9 List.not_mem_nil⟩⟩⟩⟩) dX3_isFull_30 (by decide) (by decide +kernel) (by decide) (by decide) (by decide) ?_
    refine go_iconst (pc := 128) (v := (0 : Int32)) C dX3_isFull_128 (by decide) ?_
    exact (hE 0 0 _ _ _ (Nat.zero_le _) (Nat.zero_le _)).2.1 _ rfl (Or.inl rfl) dX3_isFull_129 ⟨congrArg (fun z => some (Value.int z)) (some1 h), rfl⟩
  · refine go_iconst (pc := 27) (v := (1 : Int32)) C dX3_isFull_27 (by decide) ?_
    exact (hE 0 0 _ _ _ (Nat.zero_le _) (Nat.zero_le _)).2.1 _ rfl (Or.inr rfl) dX3_isFull_28 ⟨congrArg (fun z => some (Value.int z)) (some1 h), rfl⟩
theorem m3_isFull {l : Launch} {d : gD} {a : Nat → Nat} {s0 : Bl} {v1 : Int32} {v2 : Int32} {r9 : Int32} (h : f3_isFull s0 v1 v2 = some r9) : Mt l d yX3_isFull cX3_isFull 3 (some .boolean) (0, 0, 0) 0 (bW d 3 FK3 a s0) [.ref (a 0), .int v1, .int v2] (fun v w => v = some (.int r9) ∧ w = (bW d 3 FK3 a s0)) := by
  refine Mt.of x3pn (Nat.le_of_ble_eq_true rfl) ?_
  intro Γ hl hd hN C hE
  subst hl; subst hd
  show Go Γ 0 0 (bW Γ.d 3 FK3 a s0) 0 [(0, .ref (a 0)), (1, .int v1), (2, .int v2)] []
  dsimp only [f3_isFull] at h
  refine go_iload_n (pc := 0) C dX3_isFull_0 rfl 2 rfl ?_
  refine go_bipush (pc := 1) (v := (40 : Int32)) C dX3_isFull_1 (by decide) ?_
  refine go_icmp_eq (pc := 3) (tgt := 27) C dX3_isFull_3 (by decide) h (fun h => ?_) (fun h => ?_)
  · refine go_iconst (pc := 27) (v := (1 : Int32)) C dX3_isFull_27 (by decide) ?_
    exact (hE 0 0 _ _ _ (Nat.zero_le _) (Nat.zero_le _)).2.1 _ rfl (Or.inr rfl) dX3_isFull_28 ⟨congrArg (fun z => some (Value.int z)) (some1 h), rfl⟩
  · refine go_iload_n (pc := 6) C dX3_isFull_6 rfl 1 rfl ?_
    refine go_if_ne (pc := 7) (tgt := 14) C dX3_isFull_7 (by decide) h (fun h => ?_) (fun h => ?_)
    · refine go_iconst (pc := 14) (v := (0 : Int32)) C dX3_isFull_14 (by decide) ?_
      refine go_iload_n (pc := 15) C dX3_isFull_15 rfl 2 rfl ?_
      refine go_if_ne (pc := 16) (tgt := 23) C dX3_isFull_16 (by decide) h (fun h => ?_) (fun h => ?_)
      · refine go_iconst (pc := 23) (v := (0 : Int32)) C dX3_isFull_23 (by decide) ?_
        refine go_sub [0, 1] rfl ?_
        exact w3_isFull_24 hN C hE h
      · refine go_iconst (pc := 19) (v := (1 : Int32)) C dX3_isFull_19 (by decide) ?_
        refine go_goto (pc := 20) (tgt := 24) C dX3_isFull_20 (by decide) ?_
        refine go_sub [0, 1] rfl ?_
        exact w3_isFull_24 hN C hE h
    · refine go_iconst (pc := 10) (v := (1 : Int32)) C dX3_isFull_10 (by decide) ?_
      refine go_goto (pc := 11) (tgt := 15) C dX3_isFull_11 (by decide) ?_
      refine go_iload_n (pc := 15) C dX3_isFull_15 rfl 2 rfl ?_
      refine go_if_ne (pc := 16) (tgt := 23) C dX3_isFull_16 (by decide) h (fun h => ?_) (fun h => ?_)
      · refine go_iconst (pc := 23) (v := (0 : Int32)) C dX3_isFull_23 (by decide) ?_
        refine go_sub [0, 1] rfl ?_
        exact w3_isFull_24 hN C hE h
      · refine go_iconst (pc := 19) (v := (1 : Int32)) C dX3_isFull_19 (by decide) ?_
        refine go_goto (pc := 20) (tgt := 24) C dX3_isFull_20 (by decide) ?_
        refine go_sub [0, 1] rfl ?_
        exact w3_isFull_24 hN C hE h
theorem m3_isDigit {l : Launch} {d : gD} {a : Nat → Nat} {s0 : Bl} {r9 : Int32} (h : f3_isDigit s0 = some r9) : Mt l d yX3_isDigit cX3_isDigit 1 (some .boolean) (1, 0, 0) 25 (bW d 3 FK3 a s0) [.ref (a 0)] (fun v w => v = some (.int r9) ∧ w = (bW d 3 FK3 a s0)) := by
  refine Mt.of x3pn (Nat.le_of_ble_eq_true rfl) ?_
  intro Γ hl hd hN C hE
  subst hl; subst hd
  show Go Γ 0 0 (bW Γ.d 3 FK3 a s0) 0 [(0, .ref (a 0))] []
  dsimp only [f3_isDigit] at h
  refine go_aload_n (pc := 0) C dX3_isDigit_0 rfl 0 rfl ?_
  obtain ⟨r1, e1, h⟩ := bnd_some h
  refine go_callVi (pc := 1) C [] (m3_sign e1) q1519 q1521 qs59 q144 q1522 x3pd_sign (by decide) (by decide) bW_O x3c rfl (Nat.le_of_ble_eq_true rfl) ⟨Nat.zero_le _, Nat.zero_le _⟩ dX3_isDigit_1 rfl ?_
  refine go_i2l (pc := 4) C dX3_isDigit_4 ?_
  refine go_ldc2 (pc := 5) C dX3_isDigit_5 q1562 ?_
  refine go_ldc2 (pc := 8) C dX3_isDigit_8 q1563 ?_
  obtain ⟨r2, e2, h⟩ := bnd_some h
  refine go_callSi (pc := 11) C [.long (r1).toInt64, .long (48 : Int64), .long (57 : Int64)] (m3_in e2) q1564 q1565 q144 q1566 x3pd_in (by decide) (by decide) rfl (Nat.le_of_ble_eq_true rfl) ⟨Nat.zero_le _, Nat.zero_le _⟩ dX3_isDigit_11 rfl ?_
  obtain ⟨hz, h⟩ := chk_some h
  exact (hE 0 0 _ _ _ (Nat.zero_le _) (Nat.zero_le _)).2.1 _ rfl (isB_or hz) dX3_isDigit_14 ⟨congrArg (fun z => some (Value.int z)) (some1 h), rfl⟩
theorem w3_digits_25 {Γ : Gam} {a : Nat → Nat} {v1 : Int32} {v2 : Int32} {r9 : Int32} {s9 : Bl} (hN : Γ.nL = 4) (C : Cx Γ cX3_digits RX3 (2, 0, 0) 45) (hE : Rets Γ cX3_digits (some .int) 0 0 (fun v w => v = some (.int r9) ∧ w = (bW Γ.d 3 FK3 a s9))) : ∀ (n : Nat) (s : Bl × Int32), loop (g3_digits_25 v1 v2) n s = some (r9, s9) → (fun s : Bl × Int32 => Go Γ 0 0 (bW Γ.d 3 FK3 a s.1) 25 [(0, .ref (a 0)), (1, .int v1), (2, .int v2), (3, .int s.2)] []) s := by
  refine loop_walk (P := fun s : Bl × Int32 => Go Γ 0 0 (bW Γ.d 3 FK3 a s.1) 25 [(0, .ref (a 0)), (1, .int v1), (2, .int v2), (3, .int s.2)] []) ?_
  intro K25 hK25 s h
  obtain ⟨s0, v3⟩ := s
  dsimp only [g3_digits_25] at h
  show Go Γ 0 0 (bW Γ.d 3 FK3 a s0) 25 [(0, .ref (a 0)), (1, .int v1), (2, .int v2), (3, .int v3)] []
  refine go_aload_n (pc := 25) C dX3_digits_25 rfl 0 rfl ?_
  obtain ⟨r2, e2, h⟩ := bnd_some h
  refine go_callVi (pc := 26) C [] (m3_isDigit e2) q1558 q1560 qs66 q144 q1561 x3pd_isDigit (by decide) (by decide) bW_O x3c rfl (Nat.le_of_ble_eq_true rfl) ⟨Nat.zero_le _, Nat.zero_le _⟩ dX3_digits_26 rfl ?_
  refine go_if_eq (pc := 29) (tgt := 72) C dX3_digits_29 (by decide) h (fun h => ?_) (fun h => ?_)
  · refine go_aload_n (pc := 72) C dX3_digits_72 rfl 0 rfl ?_
    refine x3gi_32 (pc := 73) C dX3_digits_73 ?_
    refine go_iload_n (pc := 76) C dX3_digits_76 rfl 2 rfl ?_
    refine go_isub (pc := 77) C dX3_digits_77 ?_
    refine go_iconst (pc := 78) (v := (5 : Int32)) C dX3_digits_78 (by decide) ?_
    refine go_icmp_gt (pc := 79) (tgt := 87) C dX3_digits_79 (by decide) h (fun h => ?_) (fun h => ?_)
    · refine go_aload_n (pc := 87) C dX3_digits_87 rfl 0 rfl ?_
      refine go_iconst (pc := 88) (v := (1 : Int32)) C dX3_digits_88 (by decide) ?_
      refine go_iload_n (pc := 89) C dX3_digits_89 rfl 2 rfl ?_
      obtain ⟨s3, e3, h⟩ := bnd_some h
      refine go_callVv (pc := 90) C [.int (1 : Int32), .int v2] (m3_fails e3) q1537 q1539 qs61 q144 q1540 x3pd_fails (by decide) (by decide) bW_O x3c rfl (Nat.le_of_ble_eq_true rfl) ⟨Nat.zero_le _, Nat.zero_le _⟩ dX3_digits_90 rfl ?_
      refine go_iload_n (pc := 93) C dX3_digits_93 rfl 3 rfl ?_
      exact (hE 0 0 _ _ _ (Nat.zero_le _) (Nat.zero_le _)).1 _ rfl dX3_digits_94 ⟨congrArg (fun z => some (Value.int z)) (some2 h).1, congrArg (fun z => bW Γ.d 3 FK3 a z) (some2 h).2⟩
    · refine go_iload_n (pc := 82) C dX3_digits_82 rfl 3 rfl ?_
      refine go_iload_n (pc := 83) C dX3_digits_83 rfl 1 rfl ?_
      refine go_icmp_le (pc := 84) (tgt := 93) C dX3_digits_84 (by decide) h (fun h => ?_) (fun h => ?_)
      · refine go_iload_n (pc := 93) C dX3_digits_93 rfl 3 rfl ?_
        exact (hE 0 0 _ _ _ (Nat.zero_le _) (Nat.zero_le _)).1 _ rfl dX3_digits_94 ⟨congrArg (fun z => some (Value.int z)) (some2 h).1, congrArg (fun z => bW Γ.d 3 FK3 a z) (some2 h).2⟩
      · refine go_aload_n (pc := 87) C dX3_digits_87 rfl 0 rfl ?_
        refine go_iconst (pc := 88) (v := (1 : Int32)) C dX3_digits_88 (by decide) ?_
        refine go_iload_n (pc := 89) C dX3_digits_89 rfl 2 rfl ?_
        obtain ⟨s4, e4, h⟩ := bnd_some h
        refine go_callVv (pc := 90) C [.int (1 : Int32), .int v2] (m3_fails e4) q1537 q1539 qs61 q144 q1540 x3pd_fails (by decide) (by decide) bW_O x3c rfl (Nat.le_of_ble_eq_true rfl) ⟨Nat.zero_le _, Nat.zero_le _⟩ dX3_digits_90 rfl ?_
        refine go_iload_n (pc := 93) C dX3_digits_93 rfl 3 rfl ?_
        exact (hE 0 0 _ _ _ (Nat.zero_le _) (Nat.zero_le _)).1 _ rfl dX3_digits_94 ⟨congrArg (fun z => some (Value.int z)) (some2 h).1, congrArg (fun z => bW Γ.d 3 FK3 a z) (some2 h).2⟩
  · refine go_aload_n (pc := 32) C dX3_digits_32 rfl 0 rfl ?_
    refine x3gi_32 (pc := 33) C dX3_digits_33 ?_
    refine go_iload_n (pc := 36) C dX3_digits_36 rfl 2 rfl ?_
    refine go_isub (pc := 37) C dX3_digits_37 ?_
    refine go_iconst (pc := 38) (v := (5 : Int32)) C dX3_digits_38 (by decide) ?_
    refine go_icmp_ge (pc := 39) (tgt := 57) C dX3_digits_39 (by decide) h (fun h => ?_) (fun h => ?_)
    · refine go_iload_n (pc := 57) C dX3_digits_57 rfl 3 rfl ?_
      refine go_istore_n (pc := 58) C hN dX3_digits_58 rfl (by decide) rfl ?_
      refine go_aload_n (pc := 59) C dX3_digits_59 rfl 1 rfl ?_
      refine go_dup (pc := 60) C dX3_digits_60 rfl ?_
      refine x3gi_32 (pc := 61) C dX3_digits_61 ?_
      refine go_iconst (pc := 64) (v := (1 : Int32)) C dX3_digits_64 (by decide) ?_
      refine go_iadd (pc := 65) C dX3_digits_65 ?_
      refine x3pi_32 (pc := 66) C dX3_digits_66 ?_
      refine go_goto (pc := 69) (tgt := 25) C dX3_digits_69 (by decide) ?_
      refine go_sub [1, 2, 3, 0] rfl ?_
      exact hK25 ((bI s0 32 ((s0.1 32) + (1 : Int32))), v3) h
    · refine go_bipush (pc := 42) (v := (10 : Int32)) C dX3_digits_42 (by decide) ?_
      refine go_iload_n (pc := 44) C dX3_digits_44 rfl 3 rfl ?_
      refine go_imul (pc := 45) C dX3_digits_45 ?_
      refine go_aload_n (pc := 46) C dX3_digits_46 rfl 0 rfl ?_
      obtain ⟨r5, e5, h⟩ := bnd_some h
      refine go_callVi (pc := 47) C [] (m3_sign e5) q1519 q1521 qs59 q144 q1522 x3pd_sign (by decide) (by decide) bW_O x3c rfl (Nat.le_of_ble_eq_true rfl) ⟨Nat.zero_le _, Nat.zero_le _⟩ dX3_digits_47 rfl ?_
      refine go_iadd (pc := 50) C dX3_digits_50 ?_
      refine go_bipush (pc := 51) (v := (48 : Int32)) C dX3_digits_51 (by decide) ?_
      refine go_isub (pc := 53) C dX3_digits_53 ?_
      refine go_goto (pc := 54) (tgt := 58) C dX3_digits_54 (by decide) ?_
      refine go_istore_n (pc := 58) C hN dX3_digits_58 rfl (by decide) rfl ?_
      refine go_aload_n (pc := 59) C dX3_digits_59 rfl 1 rfl ?_
      refine go_dup (pc := 60) C dX3_digits_60 rfl ?_
      refine x3gi_32 (pc := 61) C dX3_digits_61 ?_
      refine go_iconst (pc := 64) (v := (1 : Int32)) C dX3_digits_64 (by decide) ?_
      refine go_iadd (pc := 65) C dX3_digits_65 ?_
      refine x3pi_32 (pc := 66) C dX3_digits_66 ?_
      refine go_goto (pc := 69) (tgt := 25) C dX3_digits_69 (by decide) ?_
      refine go_sub [1, 2, 3, 0] rfl ?_
      exact hK25 ((bI s0 32 ((s0.1 32) + (1 : Int32))), ((((10 : Int32) * v3) + r5) - (48 : Int32))) h
theorem m3_digits {l : Launch} {d : gD} {a : Nat → Nat} {s0 : Bl} {v1 : Int32} {r9 : Int32} {s9 : Bl} (h : f3_digits s0 v1 = some (r9, s9)) : Mt l d yX3_digits cX3_digits 4 (some .int) (2, 0, 0) 45 (bW d 3 FK3 a s0) [.ref (a 0), .int v1] (fun v w => v = some (.int r9) ∧ w = (bW d 3 FK3 a s9)) := by
  refine Mt.of x3pn (Nat.le_of_ble_eq_true rfl) ?_
  intro Γ hl hd hN C hE
  subst hl; subst hd
  show Go Γ 0 0 (bW Γ.d 3 FK3 a s0) 0 [(0, .ref (a 0)), (1, .int v1)] []
  dsimp only [f3_digits] at h
  refine go_aload_n (pc := 0) C dX3_digits_0 rfl 0 rfl ?_
  obtain ⟨r1, e1, h⟩ := bnd_some h
  refine go_callVi (pc := 1) C [] (m3_isDigit e1) q1558 q1560 qs66 q144 q1561 x3pd_isDigit (by decide) (by decide) bW_O x3c rfl (Nat.le_of_ble_eq_true rfl) ⟨Nat.zero_le _, Nat.zero_le _⟩ dX3_digits_1 rfl ?_
  refine go_if_ne (pc := 4) (tgt := 18) C dX3_digits_4 (by decide) h (fun h => ?_) (fun h => ?_)
  · refine go_aload_n (pc := 18) C dX3_digits_18 rfl 0 rfl ?_
    refine x3gi_32 (pc := 19) C dX3_digits_19 ?_
    refine go_istore_n (pc := 22) C hN dX3_digits_22 rfl (by decide) rfl ?_
    refine go_iconst (pc := 23) (v := (0 : Int32)) C dX3_digits_23 (by decide) ?_
    refine go_istore_n (pc := 24) C hN dX3_digits_24 rfl (by decide) rfl ?_
    refine go_sub [2, 3, 1, 0] rfl ?_
    exact w3_digits_25 hN C hE FU (s0, (0 : Int32)) h
  · refine go_aload_n (pc := 7) C dX3_digits_7 rfl 0 rfl ?_
    refine go_iconst (pc := 8) (v := (0 : Int32)) C dX3_digits_8 (by decide) ?_
    refine go_aload_n (pc := 9) C dX3_digits_9 rfl 0 rfl ?_
    refine x3gi_32 (pc := 10) C dX3_digits_10 ?_
    obtain ⟨s6, e6, h⟩ := bnd_some h
    refine go_callVv (pc := 13) C [.int (0 : Int32), .int (s0.1 32)] (m3_fails e6) q1537 q1539 qs61 q144 q1540 x3pd_fails (by decide) (by decide) bW_O x3c rfl (Nat.le_of_ble_eq_true rfl) ⟨Nat.zero_le _, Nat.zero_le _⟩ dX3_digits_13 rfl ?_
    refine go_iconst (pc := 16) (v := (0 : Int32)) C dX3_digits_16 (by decide) ?_
    exact (hE 0 0 _ _ _ (Nat.zero_le _) (Nat.zero_le _)).1 _ rfl dX3_digits_17 ⟨congrArg (fun z => some (Value.int z)) (some2 h).1, congrArg (fun z => bW Γ.d 3 FK3 a z) (some2 h).2⟩
theorem w3_amount_27 {Γ : Gam} {a : Nat → Nat} {s0 : Bl} {v1 : Int32} {v2 : Int32} {v3 : Int32} {z0 : Int32} {r9 : Int32} {s9 : Bl} (hN : Γ.nL = 5) (C : Cx Γ cX3_amount RX3 (3, 0, 0) 68) (hE : Rets Γ cX3_amount (some .int) 0 0 (fun v w => v = some (.int r9) ∧ w = (bW Γ.d 3 FK3 a s9))) (h : g3_amount_27 s0 v1 v2 v3 z0 = some (r9, s9)) : Go Γ 0 0 (bW Γ.d 3 FK3 a s0) 27 [(0, .ref (a 0)), (1, .int v1), (2, .int v2), (3, .int v3)] [.int z0] := by
  dsimp only [g3_amount_27] at h
  refine go_istore (pc := 27) C hN dX3_amount_27 (by decide) rfl ?_
  refine go_aload_n (pc := 29) C dX3_amount_29 rfl 1 rfl ?_
  refine x3gi_33 (pc := 30) C dX3_amount_30 ?_
  refine go_if_ne (pc := 33) (tgt := 55) C dX3_amount_33 (by decide) h (fun h => ?_) (fun h => ?_)
  · refine go_iload (pc := 55) C dX3_amount_55 0 rfl ?_
    exact (hE 0 0 _ _ _ (Nat.zero_le _) (Nat.zero_le _)).1 _ rfl dX3_amount_57 ⟨congrArg (fun z => some (Value.int z)) (some2 h).1, congrArg (fun z => bW Γ.d 3 FK3 a z) (some2 h).2⟩
  · refine go_iload (pc := 36) C dX3_amount_36 0 rfl ?_
    refine go_i2l (pc := 38) C dX3_amount_38 ?_
    refine go_iload_n (pc := 39) C dX3_amount_39 rfl 2 rfl ?_
    refine go_i2l (pc := 40) C dX3_amount_40 ?_
    refine go_iload_n (pc := 41) C dX3_amount_41 rfl 3 rfl ?_
    refine go_i2l (pc := 42) C dX3_amount_42 ?_
    obtain ⟨r2, e2, h⟩ := bnd_some h
    refine go_callSi (pc := 43) C [.long (z0).toInt64, .long (v1).toInt64, .long (v2).toInt64] (m3_in e2) q1564 q1565 q144 q1566 x3pd_in (by decide) (by decide) rfl (Nat.le_of_ble_eq_true rfl) ⟨Nat.zero_le _, Nat.zero_le _⟩ dX3_amount_43 rfl ?_
    refine go_if_ne (pc := 46) (tgt := 55) C dX3_amount_46 (by decide) h (fun h => ?_) (fun h => ?_)
    · refine go_iload (pc := 55) C dX3_amount_55 0 rfl ?_
      exact (hE 0 0 _ _ _ (Nat.zero_le _) (Nat.zero_le _)).1 _ rfl dX3_amount_57 ⟨congrArg (fun z => some (Value.int z)) (some2 h).1, congrArg (fun z => bW Γ.d 3 FK3 a z) (some2 h).2⟩
    · refine go_aload_n (pc := 49) C dX3_amount_49 rfl 1 rfl ?_
      refine go_iconst (pc := 50) (v := (1 : Int32)) C dX3_amount_50 (by decide) ?_
      refine go_iload_n (pc := 51) C dX3_amount_51 rfl 4 rfl ?_
      obtain ⟨s3, e3, h⟩ := bnd_some h
      refine go_callVv (pc := 52) C [.int (1 : Int32), .int v3] (m3_fails e3) q1537 q1539 qs61 q144 q1540 x3pd_fails (by decide) (by decide) bW_O x3c rfl (Nat.le_of_ble_eq_true rfl) ⟨Nat.zero_le _, Nat.zero_le _⟩ dX3_amount_52 rfl ?_
      refine go_iload (pc := 55) C dX3_amount_55 0 rfl ?_
      exact (hE 0 0 _ _ _ (Nat.zero_le _) (Nat.zero_le _)).1 _ rfl dX3_amount_57 ⟨congrArg (fun z => some (Value.int z)) (some2 h).1, congrArg (fun z => bW Γ.d 3 FK3 a z) (some2 h).2⟩
theorem m3_amount {l : Launch} {d : gD} {a : Nat → Nat} {s0 : Bl} {v1 : Int32} {v2 : Int32} {r9 : Int32} {s9 : Bl} (h : f3_amount s0 v1 v2 = some (r9, s9)) : Mt l d yX3_amount cX3_amount 5 (some .int) (3, 0, 0) 68 (bW d 3 FK3 a s0) [.ref (a 0), .int v1, .int v2] (fun v w => v = some (.int r9) ∧ w = (bW d 3 FK3 a s9)) := by
  refine Mt.of x3pn (Nat.le_of_ble_eq_true rfl) ?_
  intro Γ hl hd hN C hE
  subst hl; subst hd
  show Go Γ 0 0 (bW Γ.d 3 FK3 a s0) 0 [(0, .ref (a 0)), (1, .int v1), (2, .int v2)] []
  dsimp only [f3_amount] at h
  refine go_aload_n (pc := 0) C dX3_amount_0 rfl 0 rfl ?_
  obtain ⟨s1, e1, h⟩ := bnd_some h
  refine go_callVv (pc := 1) C [] (m3_blanks e1) q1515 q1517 qs58 q144 q1518 x3pd_blanks (by decide) (by decide) bW_O x3c rfl (Nat.le_of_ble_eq_true rfl) ⟨Nat.zero_le _, Nat.zero_le _⟩ dX3_amount_1 rfl ?_
  refine go_aload_n (pc := 4) C dX3_amount_4 rfl 0 rfl ?_
  refine x3gi_32 (pc := 5) C dX3_amount_5 ?_
  refine go_istore_n (pc := 8) C hN dX3_amount_8 rfl (by decide) rfl ?_
  refine go_aload_n (pc := 9) C dX3_amount_9 rfl 1 rfl ?_
  refine x3gi_33 (pc := 10) C dX3_amount_10 ?_
  refine go_if_ne (pc := 13) (tgt := 26) C dX3_amount_13 (by decide) h (fun h => ?_) (fun h => ?_)
  · refine go_iconst (pc := 26) (v := (0 : Int32)) C dX3_amount_26 (by decide) ?_
    refine go_sub [1, 2, 3, 0] rfl ?_
    exact w3_amount_27 hN C hE h
  · refine go_aload_n (pc := 16) C dX3_amount_16 rfl 1 rfl ?_
    refine go_ldc_w (pc := 17) C dX3_amount_17 q1553 ?_
    obtain ⟨r4, s4, e4, h⟩ := bnd2_some h
    refine go_callVi (pc := 20) C [.int (99999 : Int32)] (m3_digits e4) q1554 q1556 qs65 q144 q1557 x3pd_digits (by decide) (by decide) bW_O x3c rfl (Nat.le_of_ble_eq_true rfl) ⟨Nat.zero_le _, Nat.zero_le _⟩ dX3_amount_20 rfl ?_
    refine go_goto (pc := 23) (tgt := 27) C dX3_amount_23 (by decide) ?_
    refine go_sub [1, 2, 3, 0] rfl ?_
    exact w3_amount_27 hN C hE h
theorem w3_isNewBound_32 {Γ : Gam} {a : Nat → Nat} {s0 : Bl} {v1 : Int32} {v2 : Int32} {v3 : Int32} {r9 : Int32} {K2 : Int32 → Option Int32} (hN : Γ.nL = 4) (C : Cx Γ cX3_isNewBound RX3 (0, 0, 0) 0) (hE : Rets Γ cX3_isNewBound (some .boolean) 0 0 (fun v w => v = some (.int r9) ∧ w = (bW Γ.d 3 FK3 a s0)))
    (hK2 : ∀ s, K2 s = some r9 → (fun s : Int32 => Go Γ 0 0 (bW Γ.d 3 FK3 a s0) 2 [(0, .ref (a 0)), (1, .int v1), (2, .int v2), (3, .int s)] []) s) (h : g3_isNewBound_32 s0 K2 v1 v2 v3 = some r9) : Go Γ 0 0 (bW Γ.d 3 FK3 a s0) 32 [(0, .ref (a 0)), (1, .int v1), (2, .int v2), (3, .int v3)] [] := by
  dsimp only [g3_isNewBound_32] at h
  refine go_aload_n (pc := 32) C dX3_isNewBound_32 rfl 0 rfl ?_
  refine x3gr_26 (pc := 33) C dX3_isNewBound_33 ?_
  refine go_iload_n (pc := 36) C dX3_isNewBound_36 rfl 3 rfl ?_
  refine go_iald (pc := 37) C x3aA_26 h dX3_isNewBound_37 (fun h => ?_)
  refine go_iload_n (pc := 38) C dX3_isNewBound_38 rfl 2 rfl ?_
  refine go_icmp_ne (pc := 39) (tgt := 54) C dX3_isNewBound_39 (by decide) h (fun h => ?_) (fun h => ?_)
  · refine go_iinc (pc := 54) (v := (v3 + (1 : Int32))) C hN dX3_isNewBound_54 (q := 3) rfl rfl (by decide) rfl ?_
    refine go_goto (pc := 57) (tgt := 2) C dX3_isNewBound_57 (by decide) ?_
    refine go_sub [1, 2, 3, 0] rfl ?_
    exact hK2 (v3 + (1 : Int32)) h
  · refine go_aload_n (pc := 42) C dX3_isNewBound_42 rfl 0 rfl ?_
    refine x3gr_27 (pc := 43) C dX3_isNewBound_43 ?_
    refine go_iload_n (pc := 46) C dX3_isNewBound_46 rfl 3 rfl ?_
    refine go_iald (pc := 47) C x3aA_27 h dX3_isNewBound_47 (fun h => ?_)
    refine go_iload_n (pc := 48) C dX3_isNewBound_48 rfl 1 rfl ?_
    refine go_icmp_ne (pc := 49) (tgt := 54) C dX3_isNewBound_49 (by decide) h (fun h => ?_) (fun h => ?_)
    · refine go_iinc (pc := 54) (v := (v3 + (1 : Int32))) C hN dX3_isNewBound_54 (q := 3) rfl rfl (by decide) rfl ?_
      refine go_goto (pc := 57) (tgt := 2) C dX3_isNewBound_57 (by decide) ?_
      refine go_sub [1, 2, 3, 0] rfl ?_
      exact hK2 (v3 + (1 : Int32)) h
    · refine go_iconst (pc := 52) (v := (1 : Int32)) C dX3_isNewBound_52 (by decide) ?_
      exact (hE 0 0 _ _ _ (Nat.zero_le _) (Nat.zero_le _)).2.1 _ rfl (Or.inr rfl) dX3_isNewBound_53 ⟨congrArg (fun z => some (Value.int z)) (some1 h), rfl⟩
theorem w3_isNewBound_2 {Γ : Gam} {a : Nat → Nat} {s0 : Bl} {v1 : Int32} {v2 : Int32} {r9 : Int32} (hN : Γ.nL = 4) (C : Cx Γ cX3_isNewBound RX3 (0, 0, 0) 0) (hE : Rets Γ cX3_isNewBound (some .boolean) 0 0 (fun v w => v = some (.int r9) ∧ w = (bW Γ.d 3 FK3 a s0))) : ∀ (n : Nat) (s : Int32), loop (g3_isNewBound_2 s0 v1 v2) n s = some r9 → (fun s : Int32 => Go Γ 0 0 (bW Γ.d 3 FK3 a s0) 2 [(0, .ref (a 0)), (1, .int v1), (2, .int v2), (3, .int s)] []) s := by
  refine loop_walk (P := fun s : Int32 => Go Γ 0 0 (bW Γ.d 3 FK3 a s0) 2 [(0, .ref (a 0)), (1, .int v1), (2, .int v2), (3, .int s)] []) ?_
  intro K2 hK2 s h
  obtain ⟨v3, rfl⟩ : ∃ z, z = s := ⟨_, rfl⟩
  dsimp only [g3_isNewBound_2] at h
  show Go Γ 0 0 (bW Γ.d 3 FK3 a s0) 2 [(0, .ref (a 0)), (1, .int v1), (2, .int v2), (3, .int v3)] []
  refine go_iload_n (pc := 2) C dX3_isNewBound_2 rfl 3 rfl ?_
  refine go_aload_n (pc := 3) C dX3_isNewBound_3 rfl 0 rfl ?_
  refine x3gr_19 (pc := 4) C dX3_isNewBound_4 ?_
  refine go_iconst (pc := 7) (v := (4 : Int32)) C dX3_isNewBound_7 (by decide) ?_
  refine go_ialdK (pc := 8) (j := 4) C x3aA_19 (by decide) (by decide) dX3_isNewBound_8 ?_
  refine go_icmp_ge (pc := 9) (tgt := 60) C dX3_isNewBound_9 (by decide) h (fun h => ?_) (fun h => ?_)
  · refine go_iconst (pc := 60) (v := (0 : Int32)) C dX3_isNewBound_60 (by decide) ?_
    exact (hE 0 0 _ _ _ (Nat.zero_le _) (Nat.zero_le _)).2.1 _ rfl (Or.inl rfl) dX3_isNewBound_61 ⟨congrArg (fun z => some (Value.int z)) (some1 h), rfl⟩
  · refine go_aload_n (pc := 12) C dX3_isNewBound_12 rfl 0 rfl ?_
    refine x3gr_26 (pc := 13) C dX3_isNewBound_13 ?_
    refine go_iload_n (pc := 16) C dX3_isNewBound_16 rfl 3 rfl ?_
    refine go_iald (pc := 17) C x3aA_26 h dX3_isNewBound_17 (fun h => ?_)
    refine go_iload_n (pc := 18) C dX3_isNewBound_18 rfl 1 rfl ?_
    refine go_icmp_ne (pc := 19) (tgt := 32) C dX3_isNewBound_19 (by decide) h (fun h => ?_) (fun h => ?_)
    · exact w3_isNewBound_32 hN C hE hK2 h
    · refine go_aload_n (pc := 22) C dX3_isNewBound_22 rfl 0 rfl ?_
      refine x3gr_27 (pc := 23) C dX3_isNewBound_23 ?_
      refine go_iload_n (pc := 26) C dX3_isNewBound_26 rfl 3 rfl ?_
      refine go_iald (pc := 27) C x3aA_27 h dX3_isNewBound_27 (fun h => ?_)
      refine go_iload_n (pc := 28) C dX3_isNewBound_28 rfl 2 rfl ?_
      refine go_icmp_eq (pc := 29) (tgt := 52) C dX3_isNewBound_29 (by decide) h (fun h => ?_) (fun h => ?_)
      · refine go_iconst (pc := 52) (v := (1 : Int32)) C dX3_isNewBound_52 (by decide) ?_
        exact (hE 0 0 _ _ _ (Nat.zero_le _) (Nat.zero_le _)).2.1 _ rfl (Or.inr rfl) dX3_isNewBound_53 ⟨congrArg (fun z => some (Value.int z)) (some1 h), rfl⟩
      · exact w3_isNewBound_32 hN C hE hK2 h
theorem m3_isNewBound {l : Launch} {d : gD} {a : Nat → Nat} {s0 : Bl} {v1 : Int32} {v2 : Int32} {r9 : Int32} (h : f3_isNewBound s0 v1 v2 = some r9) : Mt l d yX3_isNewBound cX3_isNewBound 4 (some .boolean) (0, 0, 0) 0 (bW d 3 FK3 a s0) [.ref (a 0), .int v1, .int v2] (fun v w => v = some (.int r9) ∧ w = (bW d 3 FK3 a s0)) := by
  refine Mt.of x3pn (Nat.le_of_ble_eq_true rfl) ?_
  intro Γ hl hd hN C hE
  subst hl; subst hd
  show Go Γ 0 0 (bW Γ.d 3 FK3 a s0) 0 [(0, .ref (a 0)), (1, .int v1), (2, .int v2)] []
  dsimp only [f3_isNewBound] at h
  refine go_iconst (pc := 0) (v := (0 : Int32)) C dX3_isNewBound_0 (by decide) ?_
  refine go_istore_n (pc := 1) C hN dX3_isNewBound_1 rfl (by decide) rfl ?_
  refine go_sub [1, 2, 3, 0] rfl ?_
  exact w3_isNewBound_2 hN C hE FU (0 : Int32) h
theorem w3_readsBound_109 {Γ : Gam} {a : Nat → Nat} {s0 : Bl} {v1 : Int32} {z0 : Int32} {z1 : Int32} {s9 : Bl} (hN : Γ.nL = 5) (C : Cx Γ cX3_readsBound RX3 (4, 0, 0) 92) (hE : Rets Γ cX3_readsBound none 0 0 (fun v w => v = none ∧ w = (bW Γ.d 3 FK3 a s9))) (h : g3_readsBound_109 s0 v1 z0 z1 = some s9) : Go Γ 0 0 (bW Γ.d 3 FK3 a s0) 109 [(0, .ref (a 0)), (1, .int v1)] [.int z0, .int z1, .ref (a (27 + 1))] := by
  dsimp only [g3_readsBound_109] at h
  refine go_iast (pc := 109) C x3pA_27 h dX3_readsBound_109 (fun h => ?_)
  refine go_aload_n (pc := 110) C dX3_readsBound_110 rfl 0 rfl ?_
  refine x3gr_28 (pc := 111) C dX3_readsBound_111 ?_
  refine go_iload_n (pc := 114) C dX3_readsBound_114 rfl 1 rfl ?_
  refine go_aload_n (pc := 115) C dX3_readsBound_115 rfl 0 rfl ?_
  refine go_iconst (pc := 116) (v := (1 : Int32)) C dX3_readsBound_116 (by decide) ?_
  refine go_bipush (pc := 117) (v := (9 : Int32)) C dX3_readsBound_117 (by decide) ?_
  obtain ⟨r4, s4, e4, h⟩ := bnd2_some h
  refine go_callVi (pc := 119) C [.int (1 : Int32), .int (9 : Int32)] (m3_amount e4) q1549 q1551 qs64 q144 q1552 x3pd_amount (by decide) (by decide) bW_O x3c rfl (Nat.le_of_ble_eq_true rfl) ⟨Nat.zero_le _, Nat.zero_le _⟩ dX3_readsBound_119 rfl ?_
  refine go_iast (pc := 122) C x3pA_28 h dX3_readsBound_122 (fun h => ?_)
  refine go_aload_n (pc := 123) C dX3_readsBound_123 rfl 0 rfl ?_
  refine x3gr_19 (pc := 124) C dX3_readsBound_124 ?_
  refine go_iconst (pc := 127) (v := (4 : Int32)) C dX3_readsBound_127 (by decide) ?_
  refine go_dup2 (pc := 128) C dX3_readsBound_128 rfl rfl ?_
  refine go_ialdK (pc := 129) (j := 4) C x3aA_19 (by decide) (by decide) dX3_readsBound_129 ?_
  refine go_iconst (pc := 130) (v := (1 : Int32)) C dX3_readsBound_130 (by decide) ?_
  refine go_iadd (pc := 131) C dX3_readsBound_131 ?_
  refine go_iastK (pc := 132) (j := 4) C x3pA_19 (by decide) (by decide) dX3_readsBound_132 ?_
  exact (hE 0 0 _ _ _ (Nat.zero_le _) (Nat.zero_le _)).2.2.2.1 rfl dX3_readsBound_133 ⟨rfl, congrArg (fun z => bW Γ.d 3 FK3 a z) (some1 h)⟩
theorem w3_readsBound_74 {Γ : Gam} {a : Nat → Nat} {s0 : Bl} {v1 : Int32} {v2 : Int32} {v4 : Int32} {s9 : Bl} (hN : Γ.nL = 5) (C : Cx Γ cX3_readsBound RX3 (4, 0, 0) 92) (hE : Rets Γ cX3_readsBound none 0 0 (fun v w => v = none ∧ w = (bW Γ.d 3 FK3 a s9))) (h : g3_readsBound_74 s0 v1 v2 v4 = some s9) : Go Γ 0 0 (bW Γ.d 3 FK3 a s0) 74 [(0, .ref (a 0)), (1, .int v1), (2, .int v2), (4, .int v4)] [] := by
  dsimp only [g3_readsBound_74] at h
  refine go_aload_n (pc := 74) C dX3_readsBound_74 rfl 0 rfl ?_
  refine x3gr_26 (pc := 75) C dX3_readsBound_75 ?_
  refine go_iload_n (pc := 78) C dX3_readsBound_78 rfl 1 rfl ?_
  refine go_iload_n (pc := 79) C dX3_readsBound_79 rfl 2 rfl ?_
  refine go_iload (pc := 80) C dX3_readsBound_80 3 rfl ?_
  refine go_icmp_ge (pc := 82) (tgt := 89) C dX3_readsBound_82 (by decide) h (fun h => ?_) (fun h => ?_)
  · refine go_iload (pc := 89) C dX3_readsBound_89 3 rfl ?_
    refine go_iast (pc := 91) C x3pA_26 h dX3_readsBound_91 (fun h => ?_)
    refine go_aload_n (pc := 92) C dX3_readsBound_92 rfl 0 rfl ?_
    refine x3gr_27 (pc := 93) C dX3_readsBound_93 ?_
    refine go_iload_n (pc := 96) C dX3_readsBound_96 rfl 1 rfl ?_
    refine go_iload_n (pc := 97) C dX3_readsBound_97 rfl 2 rfl ?_
    refine go_iload (pc := 98) C dX3_readsBound_98 3 rfl ?_
    refine go_icmp_ge (pc := 100) (tgt := 108) C dX3_readsBound_100 (by decide) h (fun h => ?_) (fun h => ?_)
    · refine go_iload_n (pc := 108) C dX3_readsBound_108 rfl 2 rfl ?_
      refine go_sub [0, 1] rfl ?_
      exact w3_readsBound_109 hN C hE h
    · refine go_iload (pc := 103) C dX3_readsBound_103 3 rfl ?_
      refine go_goto (pc := 105) (tgt := 109) C dX3_readsBound_105 (by decide) ?_
      refine go_sub [0, 1] rfl ?_
      exact w3_readsBound_109 hN C hE h
  · refine go_iload_n (pc := 85) C dX3_readsBound_85 rfl 2 rfl ?_
    refine go_goto (pc := 86) (tgt := 91) C dX3_readsBound_86 (by decide) ?_
    refine go_iast (pc := 91) C x3pA_26 h dX3_readsBound_91 (fun h => ?_)
    refine go_aload_n (pc := 92) C dX3_readsBound_92 rfl 0 rfl ?_
    refine x3gr_27 (pc := 93) C dX3_readsBound_93 ?_
    refine go_iload_n (pc := 96) C dX3_readsBound_96 rfl 1 rfl ?_
    refine go_iload_n (pc := 97) C dX3_readsBound_97 rfl 2 rfl ?_
    refine go_iload (pc := 98) C dX3_readsBound_98 3 rfl ?_
    refine go_icmp_ge (pc := 100) (tgt := 108) C dX3_readsBound_100 (by decide) h (fun h => ?_) (fun h => ?_)
    · refine go_iload_n (pc := 108) C dX3_readsBound_108 rfl 2 rfl ?_
      refine go_sub [0, 1] rfl ?_
      exact w3_readsBound_109 hN C hE h
    · refine go_iload (pc := 103) C dX3_readsBound_103 3 rfl ?_
      refine go_goto (pc := 105) (tgt := 109) C dX3_readsBound_105 (by decide) ?_
      refine go_sub [0, 1] rfl ?_
      exact w3_readsBound_109 hN C hE h
theorem m3_readsBound {l : Launch} {d : gD} {a : Nat → Nat} {s0 : Bl} {s9 : Bl} (h : f3_readsBound s0 = some s9) : Mt l d yX3_readsBound cX3_readsBound 5 none (4, 0, 0) 92 (bW d 3 FK3 a s0) [.ref (a 0)] (fun v w => v = none ∧ w = (bW d 3 FK3 a s9)) := by
  refine Mt.of x3pn (Nat.le_of_ble_eq_true rfl) ?_
  intro Γ hl hd hN C hE
  subst hl; subst hd
  show Go Γ 0 0 (bW Γ.d 3 FK3 a s0) 0 [(0, .ref (a 0))] []
  dsimp only [f3_readsBound] at h
  refine go_aload_n (pc := 0) C dX3_readsBound_0 rfl 0 rfl ?_
  refine x3gr_19 (pc := 1) C dX3_readsBound_1 ?_
  refine go_iconst (pc := 4) (v := (4 : Int32)) C dX3_readsBound_4 (by decide) ?_
  refine go_ialdK (pc := 5) (j := 4) C x3aA_19 (by decide) (by decide) dX3_readsBound_5 ?_
  refine go_istore_n (pc := 6) C hN dX3_readsBound_6 rfl (by decide) rfl ?_
  refine go_aload_n (pc := 7) C dX3_readsBound_7 rfl 1 rfl ?_
  refine go_iconst (pc := 8) (v := (0 : Int32)) C dX3_readsBound_8 (by decide) ?_
  refine go_aload_n (pc := 9) C dX3_readsBound_9 rfl 1 rfl ?_
  refine x3gr_19 (pc := 10) C dX3_readsBound_10 ?_
  refine go_iconst (pc := 13) (v := (3 : Int32)) C dX3_readsBound_13 (by decide) ?_
  refine go_ialdK (pc := 14) (j := 3) C x3aA_19 (by decide) (by decide) dX3_readsBound_14 ?_
  refine go_iconst (pc := 15) (v := (1 : Int32)) C dX3_readsBound_15 (by decide) ?_
  refine go_isub (pc := 16) C dX3_readsBound_16 ?_
  obtain ⟨r1, s1, e1, h⟩ := bnd2_some h
  refine go_callVi (pc := 17) C [.int (0 : Int32), .int ((s0.2.1 19 3) - (1 : Int32))] (m3_amount e1) q1549 q1551 qs64 q144 q1552 x3pd_amount (by decide) (by decide) bW_O x3c rfl (Nat.le_of_ble_eq_true rfl) ⟨Nat.zero_le _, Nat.zero_le _⟩ dX3_readsBound_17 rfl ?_
  refine go_istore_n (pc := 20) C hN dX3_readsBound_20 rfl (by decide) rfl ?_
  refine go_aload_n (pc := 21) C dX3_readsBound_21 rfl 2 rfl ?_
  obtain ⟨s2, e2, h⟩ := bnd_some h
  refine go_callVv (pc := 22) C [] (m3_blanks e2) q1515 q1517 qs58 q144 q1518 x3pd_blanks (by decide) (by decide) bW_O x3c rfl (Nat.le_of_ble_eq_true rfl) ⟨Nat.zero_le _, Nat.zero_le _⟩ dX3_readsBound_22 rfl ?_
  refine go_aload_n (pc := 25) C dX3_readsBound_25 rfl 2 rfl ?_
  refine x3gi_32 (pc := 26) C dX3_readsBound_26 ?_
  refine go_istore_n (pc := 29) C hN dX3_readsBound_29 rfl (by decide) rfl ?_
  refine go_aload_n (pc := 30) C dX3_readsBound_30 rfl 3 rfl ?_
  refine go_iconst (pc := 31) (v := (0 : Int32)) C dX3_readsBound_31 (by decide) ?_
  refine go_aload_n (pc := 32) C dX3_readsBound_32 rfl 3 rfl ?_
  refine x3gr_19 (pc := 33) C dX3_readsBound_33 ?_
  refine go_iconst (pc := 36) (v := (3 : Int32)) C dX3_readsBound_36 (by decide) ?_
  refine go_ialdK (pc := 37) (j := 3) C x3aA_19 (by decide) (by decide) dX3_readsBound_37 ?_
  refine go_iconst (pc := 38) (v := (1 : Int32)) C dX3_readsBound_38 (by decide) ?_
  refine go_isub (pc := 39) C dX3_readsBound_39 ?_
  obtain ⟨r3, s3, e3, h⟩ := bnd2_some h
  refine go_callVi (pc := 40) C [.int (0 : Int32), .int ((s2.2.1 19 3) - (1 : Int32))] (m3_amount e3) q1549 q1551 qs64 q144 q1552 x3pd_amount (by decide) (by decide) bW_O x3c rfl (Nat.le_of_ble_eq_true rfl) ⟨Nat.zero_le _, Nat.zero_le _⟩ dX3_readsBound_40 rfl ?_
  refine go_istore (pc := 43) C hN dX3_readsBound_43 (by decide) rfl ?_
  refine go_aload_n (pc := 45) C dX3_readsBound_45 rfl 4 rfl ?_
  refine x3gi_33 (pc := 46) C dX3_readsBound_46 ?_
  refine go_if_ne (pc := 49) (tgt := 74) C dX3_readsBound_49 (by decide) h (fun h => ?_) (fun h => ?_)
  · refine go_sub [4, 3, 2, 0] rfl ?_
    exact w3_readsBound_74 hN C hE h
  · refine go_iload_n (pc := 52) C dX3_readsBound_52 rfl 2 rfl ?_
    refine go_iload (pc := 53) C dX3_readsBound_53 0 rfl ?_
    refine go_icmp_eq (pc := 55) (tgt := 68) C dX3_readsBound_55 (by decide) h (fun h => ?_) (fun h => ?_)
    · refine go_aload_n (pc := 68) C dX3_readsBound_68 rfl 4 rfl ?_
      refine go_iconst (pc := 69) (v := (1 : Int32)) C dX3_readsBound_69 (by decide) ?_
      refine go_iload_n (pc := 70) C dX3_readsBound_70 rfl 1 rfl ?_
      obtain ⟨s5, e5, h⟩ := bnd_some h
      refine go_callVv (pc := 71) C [.int (1 : Int32), .int (s2.1 32)] (m3_fails e5) q1537 q1539 qs61 q144 q1540 x3pd_fails (by decide) (by decide) bW_O x3c rfl (Nat.le_of_ble_eq_true rfl) ⟨Nat.zero_le _, Nat.zero_le _⟩ dX3_readsBound_71 rfl ?_
      refine go_sub [4, 3, 2, 0] rfl ?_
      exact w3_readsBound_74 hN C hE h
    · refine go_aload_n (pc := 58) C dX3_readsBound_58 rfl 4 rfl ?_
      refine go_iload_n (pc := 59) C dX3_readsBound_59 rfl 2 rfl ?_
      refine go_iload (pc := 60) C dX3_readsBound_60 0 rfl ?_
      obtain ⟨r6, e6, h⟩ := bnd_some h
      refine go_callVi (pc := 62) C [.int r1, .int r3] (m3_isNewBound e6) q1571 q1573 qs68 q144 q1574 x3pd_isNewBound (by decide) (by decide) bW_O x3c rfl (Nat.le_of_ble_eq_true rfl) ⟨Nat.zero_le _, Nat.zero_le _⟩ dX3_readsBound_62 rfl ?_
      refine go_if_eq (pc := 65) (tgt := 74) C dX3_readsBound_65 (by decide) h (fun h => ?_) (fun h => ?_)
      · refine go_sub [4, 3, 2, 0] rfl ?_
        exact w3_readsBound_74 hN C hE h
      · refine go_aload_n (pc := 68) C dX3_readsBound_68 rfl 4 rfl ?_
        refine go_iconst (pc := 69) (v := (1 : Int32)) C dX3_readsBound_69 (by decide) ?_
        refine go_iload_n (pc := 70) C dX3_readsBound_70 rfl 1 rfl ?_
        obtain ⟨s7, e7, h⟩ := bnd_some h
        refine go_callVv (pc := 71) C [.int (1 : Int32), .int (s2.1 32)] (m3_fails e7) q1537 q1539 qs61 q144 q1540 x3pd_fails (by decide) (by decide) bW_O x3c rfl (Nat.le_of_ble_eq_true rfl) ⟨Nat.zero_le _, Nat.zero_le _⟩ dX3_readsBound_71 rfl ?_
        refine go_sub [4, 3, 2, 0] rfl ?_
        exact w3_readsBound_74 hN C hE h
theorem w3_readsRapid_31 {Γ : Gam} {a : Nat → Nat} {v1 : Int32} {v2 : Int32} {v3 : Int32} {s9 : Bl} (hN : Γ.nL = 5) (C : Cx Γ cX3_readsRapid RX3 (4, 0, 0) 92) (hE : Rets Γ cX3_readsRapid none 0 0 (fun v w => v = none ∧ w = (bW Γ.d 3 FK3 a s9))) : ∀ (n : Nat) (s : Bl × Int32), loop (g3_readsRapid_31 v1 v2 v3) n s = some s9 → (fun s : Bl × Int32 => Go Γ 0 0 (bW Γ.d 3 FK3 a s.1) 31 [(0, .ref (a 0)), (1, .int v1), (2, .int v2), (3, .int v3), (4, .int s.2)] []) s := by
  refine loop_walk (P := fun s : Bl × Int32 => Go Γ 0 0 (bW Γ.d 3 FK3 a s.1) 31 [(0, .ref (a 0)), (1, .int v1), (2, .int v2), (3, .int v3), (4, .int s.2)] []) ?_
  intro K31 hK31 s h
  obtain ⟨s0, v4⟩ := s
  dsimp only [g3_readsRapid_31] at h
  show Go Γ 0 0 (bW Γ.d 3 FK3 a s0) 31 [(0, .ref (a 0)), (1, .int v1), (2, .int v2), (3, .int v3), (4, .int v4)] []
  refine go_iload (pc := 31) C dX3_readsRapid_31 4 rfl ?_
  refine go_iload_n (pc := 33) C dX3_readsRapid_33 rfl 1 rfl ?_
  refine go_icmp_ge (pc := 34) (tgt := 67) C dX3_readsRapid_34 (by decide) h (fun h => ?_) (fun h => ?_)
  · refine go_aload_n (pc := 67) C dX3_readsRapid_67 rfl 0 rfl ?_
    refine x3gr_29 (pc := 68) C dX3_readsRapid_68 ?_
    refine go_iload_n (pc := 71) C dX3_readsRapid_71 rfl 1 rfl ?_
    refine go_iload_n (pc := 72) C dX3_readsRapid_72 rfl 3 rfl ?_
    refine go_iast (pc := 73) C x3pA_29 h dX3_readsRapid_73 (fun h => ?_)
    refine go_aload_n (pc := 74) C dX3_readsRapid_74 rfl 0 rfl ?_
    refine x3gr_30 (pc := 75) C dX3_readsRapid_75 ?_
    refine go_iload_n (pc := 78) C dX3_readsRapid_78 rfl 1 rfl ?_
    refine go_aload_n (pc := 79) C dX3_readsRapid_79 rfl 0 rfl ?_
    refine go_iconst (pc := 80) (v := (1 : Int32)) C dX3_readsRapid_80 (by decide) ?_
    refine go_bipush (pc := 81) (v := (9 : Int32)) C dX3_readsRapid_81 (by decide) ?_
    obtain ⟨r3, s3, e3, h⟩ := bnd2_some h
    refine go_callVi (pc := 83) C [.int (1 : Int32), .int (9 : Int32)] (m3_amount e3) q1549 q1551 qs64 q144 q1552 x3pd_amount (by decide) (by decide) bW_O x3c rfl (Nat.le_of_ble_eq_true rfl) ⟨Nat.zero_le _, Nat.zero_le _⟩ dX3_readsRapid_83 rfl ?_
    refine go_iast (pc := 86) C x3pA_30 h dX3_readsRapid_86 (fun h => ?_)
    refine go_aload_n (pc := 87) C dX3_readsRapid_87 rfl 0 rfl ?_
    refine x3gr_19 (pc := 88) C dX3_readsRapid_88 ?_
    refine go_iconst (pc := 91) (v := (5 : Int32)) C dX3_readsRapid_91 (by decide) ?_
    refine go_dup2 (pc := 92) C dX3_readsRapid_92 rfl rfl ?_
    refine go_ialdK (pc := 93) (j := 5) C x3aA_19 (by decide) (by decide) dX3_readsRapid_93 ?_
    refine go_iconst (pc := 94) (v := (1 : Int32)) C dX3_readsRapid_94 (by decide) ?_
    refine go_iadd (pc := 95) C dX3_readsRapid_95 ?_
    refine go_iastK (pc := 96) (j := 5) C x3pA_19 (by decide) (by decide) dX3_readsRapid_96 ?_
    exact (hE 0 0 _ _ _ (Nat.zero_le _) (Nat.zero_le _)).2.2.2.1 rfl dX3_readsRapid_97 ⟨rfl, congrArg (fun z => bW Γ.d 3 FK3 a z) (some1 h)⟩
  · refine go_aload_n (pc := 37) C dX3_readsRapid_37 rfl 0 rfl ?_
    refine x3gr_29 (pc := 38) C dX3_readsRapid_38 ?_
    refine go_iload (pc := 41) C dX3_readsRapid_41 4 rfl ?_
    refine go_iald (pc := 43) C x3aA_29 h dX3_readsRapid_43 (fun h => ?_)
    refine go_iload_n (pc := 44) C dX3_readsRapid_44 rfl 3 rfl ?_
    refine go_icmp_ne (pc := 45) (tgt := 61) C dX3_readsRapid_45 (by decide) h (fun h => ?_) (fun h => ?_)
    · refine go_iinc (pc := 61) (v := (v4 + (1 : Int32))) C hN dX3_readsRapid_61 (q := 4) rfl rfl (by decide) rfl ?_
      refine go_goto (pc := 64) (tgt := 31) C dX3_readsRapid_64 (by decide) ?_
      refine go_sub [1, 2, 3, 4, 0] rfl ?_
      exact hK31 (s0, (v4 + (1 : Int32))) h
    · refine go_aload_n (pc := 48) C dX3_readsRapid_48 rfl 0 rfl ?_
      refine x3gi_33 (pc := 49) C dX3_readsRapid_49 ?_
      refine go_if_ne (pc := 52) (tgt := 61) C dX3_readsRapid_52 (by decide) h (fun h => ?_) (fun h => ?_)
      · refine go_iinc (pc := 61) (v := (v4 + (1 : Int32))) C hN dX3_readsRapid_61 (q := 4) rfl rfl (by decide) rfl ?_
        refine go_goto (pc := 64) (tgt := 31) C dX3_readsRapid_64 (by decide) ?_
        refine go_sub [1, 2, 3, 4, 0] rfl ?_
        exact hK31 (s0, (v4 + (1 : Int32))) h
      · refine go_aload_n (pc := 55) C dX3_readsRapid_55 rfl 0 rfl ?_
        refine go_iconst (pc := 56) (v := (1 : Int32)) C dX3_readsRapid_56 (by decide) ?_
        refine go_iload_n (pc := 57) C dX3_readsRapid_57 rfl 2 rfl ?_
        obtain ⟨s4, e4, h⟩ := bnd_some h
        refine go_callVv (pc := 58) C [.int (1 : Int32), .int v2] (m3_fails e4) q1537 q1539 qs61 q144 q1540 x3pd_fails (by decide) (by decide) bW_O x3c rfl (Nat.le_of_ble_eq_true rfl) ⟨Nat.zero_le _, Nat.zero_le _⟩ dX3_readsRapid_58 rfl ?_
        refine go_iinc (pc := 61) (v := (v4 + (1 : Int32))) C hN dX3_readsRapid_61 (q := 4) rfl rfl (by decide) rfl ?_
        refine go_goto (pc := 64) (tgt := 31) C dX3_readsRapid_64 (by decide) ?_
        refine go_sub [1, 2, 3, 4, 0] rfl ?_
        exact hK31 (s4, (v4 + (1 : Int32))) h
theorem m3_readsRapid {l : Launch} {d : gD} {a : Nat → Nat} {s0 : Bl} {s9 : Bl} (h : f3_readsRapid s0 = some s9) : Mt l d yX3_readsRapid cX3_readsRapid 5 none (4, 0, 0) 92 (bW d 3 FK3 a s0) [.ref (a 0)] (fun v w => v = none ∧ w = (bW d 3 FK3 a s9)) := by
  refine Mt.of x3pn (Nat.le_of_ble_eq_true rfl) ?_
  intro Γ hl hd hN C hE
  subst hl; subst hd
  show Go Γ 0 0 (bW Γ.d 3 FK3 a s0) 0 [(0, .ref (a 0))] []
  dsimp only [f3_readsRapid] at h
  refine go_aload_n (pc := 0) C dX3_readsRapid_0 rfl 0 rfl ?_
  refine x3gr_19 (pc := 1) C dX3_readsRapid_1 ?_
  refine go_iconst (pc := 4) (v := (5 : Int32)) C dX3_readsRapid_4 (by decide) ?_
  refine go_ialdK (pc := 5) (j := 5) C x3aA_19 (by decide) (by decide) dX3_readsRapid_5 ?_
  refine go_istore_n (pc := 6) C hN dX3_readsRapid_6 rfl (by decide) rfl ?_
  refine go_aload_n (pc := 7) C dX3_readsRapid_7 rfl 1 rfl ?_
  obtain ⟨s1, e1, h⟩ := bnd_some h
  refine go_callVv (pc := 8) C [] (m3_blanks e1) q1515 q1517 qs58 q144 q1518 x3pd_blanks (by decide) (by decide) bW_O x3c rfl (Nat.le_of_ble_eq_true rfl) ⟨Nat.zero_le _, Nat.zero_le _⟩ dX3_readsRapid_8 rfl ?_
  refine go_aload_n (pc := 11) C dX3_readsRapid_11 rfl 1 rfl ?_
  refine x3gi_32 (pc := 12) C dX3_readsRapid_12 ?_
  refine go_istore_n (pc := 15) C hN dX3_readsRapid_15 rfl (by decide) rfl ?_
  refine go_aload_n (pc := 16) C dX3_readsRapid_16 rfl 2 rfl ?_
  refine go_iconst (pc := 17) (v := (1 : Int32)) C dX3_readsRapid_17 (by decide) ?_
  refine go_aload_n (pc := 18) C dX3_readsRapid_18 rfl 2 rfl ?_
  refine x3gr_19 (pc := 19) C dX3_readsRapid_19 ?_
  refine go_iconst (pc := 22) (v := (0 : Int32)) C dX3_readsRapid_22 (by decide) ?_
  refine go_ialdK (pc := 23) (j := 0) C x3aA_19 (by decide) (by decide) dX3_readsRapid_23 ?_
  obtain ⟨r2, s2, e2, h⟩ := bnd2_some h
  refine go_callVi (pc := 24) C [.int (1 : Int32), .int (s1.2.1 19 0)] (m3_amount e2) q1549 q1551 qs64 q144 q1552 x3pd_amount (by decide) (by decide) bW_O x3c rfl (Nat.le_of_ble_eq_true rfl) ⟨Nat.zero_le _, Nat.zero_le _⟩ dX3_readsRapid_24 rfl ?_
  refine go_istore_n (pc := 27) C hN dX3_readsRapid_27 rfl (by decide) rfl ?_
  refine go_iconst (pc := 28) (v := (0 : Int32)) C dX3_readsRapid_28 (by decide) ?_
  refine go_istore (pc := 29) C hN dX3_readsRapid_29 (by decide) rfl ?_
  refine go_sub [4, 3, 2, 1, 0] rfl ?_
  exact w3_readsRapid_31 hN C hE FU (s2, (0 : Int32)) h
theorem m3_riverPart {l : Launch} {d : gD} {a : Nat → Nat} {s0 : Bl} {v1 : Int32} {s9 : Bl} (h : f3_riverPart s0 v1 = some s9) : Mt l d yX3_riverPart cX3_riverPart 3 none (5, 0, 0) 116 (bW d 3 FK3 a s0) [.ref (a 0), .int v1] (fun v w => v = none ∧ w = (bW d 3 FK3 a s9)) := by
  refine Mt.of x3pn (Nat.le_of_ble_eq_true rfl) ?_
  intro Γ hl hd hN C hE
  subst hl; subst hd
  show Go Γ 0 0 (bW Γ.d 3 FK3 a s0) 0 [(0, .ref (a 0)), (1, .int v1)] []
  dsimp only [f3_riverPart] at h
  refine go_iload_n (pc := 0) C dX3_riverPart_0 rfl 1 rfl ?_
  by_cases c1_0 : v1 = (0 : Int32)
  · have h := (if_pos c1_0).symm.trans h
    refine go_tableK (pc := 1) (tgt := 32) C c1_0 dX3_riverPart_1 (by decide) (by decide) rfl (by decide) ?_
    refine go_aload_n (pc := 32) C dX3_riverPart_32 rfl 0 rfl ?_
    refine x3gr_19 (pc := 33) C dX3_riverPart_33 ?_
    refine go_iconst (pc := 36) (v := (0 : Int32)) C dX3_riverPart_36 (by decide) ?_
    refine go_aload_n (pc := 37) C dX3_riverPart_37 rfl 0 rfl ?_
    refine go_iconst (pc := 38) (v := (2 : Int32)) C dX3_riverPart_38 (by decide) ?_
    refine go_bipush (pc := 39) (v := (99 : Int32)) C dX3_riverPart_39 (by decide) ?_
    obtain ⟨r2, s2, e2, h⟩ := bnd2_some h
    refine go_callVi (pc := 41) C [.int (2 : Int32), .int (99 : Int32)] (m3_amount e2) q1549 q1551 qs64 q144 q1552 x3pd_amount (by decide) (by decide) bW_O x3c rfl (Nat.le_of_ble_eq_true rfl) ⟨Nat.zero_le _, Nat.zero_le _⟩ dX3_riverPart_41 rfl ?_
    refine go_iastK (pc := 44) (j := 0) C x3pA_19 (by decide) (by decide) dX3_riverPart_44 ?_
    refine go_aload_n (pc := 45) C dX3_riverPart_45 rfl 0 rfl ?_
    refine x3gr_19 (pc := 46) C dX3_riverPart_46 ?_
    refine go_iconst (pc := 49) (v := (1 : Int32)) C dX3_riverPart_49 (by decide) ?_
    refine go_aload_n (pc := 50) C dX3_riverPart_50 rfl 0 rfl ?_
    refine go_iconst (pc := 51) (v := (0 : Int32)) C dX3_riverPart_51 (by decide) ?_
    refine go_bipush (pc := 52) (v := (99 : Int32)) C dX3_riverPart_52 (by decide) ?_
    obtain ⟨r3, s3, e3, h⟩ := bnd2_some h
    refine go_callVi (pc := 54) C [.int (0 : Int32), .int (99 : Int32)] (m3_amount e3) q1549 q1551 qs64 q144 q1552 x3pd_amount (by decide) (by decide) bW_O x3c rfl (Nat.le_of_ble_eq_true rfl) ⟨Nat.zero_le _, Nat.zero_le _⟩ dX3_riverPart_54 rfl ?_
    refine go_iastK (pc := 57) (j := 1) C x3pA_19 (by decide) (by decide) dX3_riverPart_57 ?_
    refine go_goto (pc := 58) (tgt := 200) C dX3_riverPart_58 (by decide) ?_
    exact (hE 0 0 _ _ _ (Nat.zero_le _) (Nat.zero_le _)).2.2.2.1 rfl dX3_riverPart_200 ⟨rfl, congrArg (fun z => bW Γ.d 3 FK3 a z) (some1 h)⟩
  have h := (if_neg c1_0).symm.trans h
  by_cases c1_1 : v1 = (1 : Int32)
  · have h := (if_pos c1_1).symm.trans h
    refine go_tableK (pc := 1) (tgt := 61) C c1_1 dX3_riverPart_1 (by decide) (by decide) rfl (by decide) ?_
    refine go_aload_n (pc := 61) C dX3_riverPart_61 rfl 0 rfl ?_
    refine x3gr_19 (pc := 62) C dX3_riverPart_62 ?_
    refine go_iconst (pc := 65) (v := (2 : Int32)) C dX3_riverPart_65 (by decide) ?_
    refine go_ialdK (pc := 66) (j := 2) C x3aA_19 (by decide) (by decide) dX3_riverPart_66 ?_
    refine go_istore_n (pc := 67) C hN dX3_riverPart_67 rfl (by decide) rfl ?_
    refine go_aload_n (pc := 68) C dX3_riverPart_68 rfl 1 rfl ?_
    refine x3gr_20 (pc := 69) C dX3_riverPart_69 ?_
    refine go_iload_n (pc := 72) C dX3_riverPart_72 rfl 0 rfl ?_
    refine go_aload_n (pc := 73) C dX3_riverPart_73 rfl 1 rfl ?_
    refine go_iconst (pc := 74) (v := (1 : Int32)) C dX3_riverPart_74 (by decide) ?_
    refine go_aload_n (pc := 75) C dX3_riverPart_75 rfl 1 rfl ?_
    refine x3gr_19 (pc := 76) C dX3_riverPart_76 ?_
    refine go_iconst (pc := 79) (v := (0 : Int32)) C dX3_riverPart_79 (by decide) ?_
    refine go_ialdK (pc := 80) (j := 0) C x3aA_19 (by decide) (by decide) dX3_riverPart_80 ?_
    obtain ⟨r4, s4, e4, h⟩ := bnd2_some h
    refine go_callVi (pc := 81) C [.int (1 : Int32), .int (s0.2.1 19 0)] (m3_amount e4) q1549 q1551 qs64 q144 q1552 x3pd_amount (by decide) (by decide) bW_O x3c rfl (Nat.le_of_ble_eq_true rfl) ⟨Nat.zero_le _, Nat.zero_le _⟩ dX3_riverPart_81 rfl ?_
    refine go_iast (pc := 84) C x3pA_20 h dX3_riverPart_84 (fun h => ?_)
    refine go_aload_n (pc := 85) C dX3_riverPart_85 rfl 1 rfl ?_
    refine x3gr_21 (pc := 86) C dX3_riverPart_86 ?_
    refine go_iload_n (pc := 89) C dX3_riverPart_89 rfl 0 rfl ?_
    refine go_aload_n (pc := 90) C dX3_riverPart_90 rfl 1 rfl ?_
    refine go_iconst (pc := 91) (v := (0 : Int32)) C dX3_riverPart_91 (by decide) ?_
    refine go_bipush (pc := 92) (v := (20 : Int32)) C dX3_riverPart_92 (by decide) ?_
    obtain ⟨r5, s5, e5, h⟩ := bnd2_some h
    refine go_callVi (pc := 94) C [.int (0 : Int32), .int (20 : Int32)] (m3_amount e5) q1549 q1551 qs64 q144 q1552 x3pd_amount (by decide) (by decide) bW_O x3c rfl (Nat.le_of_ble_eq_true rfl) ⟨Nat.zero_le _, Nat.zero_le _⟩ dX3_riverPart_94 rfl ?_
    refine go_iast (pc := 97) C x3pA_21 h dX3_riverPart_97 (fun h => ?_)
    refine go_aload_n (pc := 98) C dX3_riverPart_98 rfl 1 rfl ?_
    refine x3gr_19 (pc := 99) C dX3_riverPart_99 ?_
    refine go_iconst (pc := 102) (v := (2 : Int32)) C dX3_riverPart_102 (by decide) ?_
    refine go_dup2 (pc := 103) C dX3_riverPart_103 rfl rfl ?_
    refine go_ialdK (pc := 104) (j := 2) C x3aA_19 (by decide) (by decide) dX3_riverPart_104 ?_
    refine go_iconst (pc := 105) (v := (1 : Int32)) C dX3_riverPart_105 (by decide) ?_
    refine go_iadd (pc := 106) C dX3_riverPart_106 ?_
    refine go_iastK (pc := 107) (j := 2) C x3pA_19 (by decide) (by decide) dX3_riverPart_107 ?_
    refine go_goto (pc := 108) (tgt := 200) C dX3_riverPart_108 (by decide) ?_
    exact (hE 0 0 _ _ _ (Nat.zero_le _) (Nat.zero_le _)).2.2.2.1 rfl dX3_riverPart_200 ⟨rfl, congrArg (fun z => bW Γ.d 3 FK3 a z) (some1 h)⟩
  have h := (if_neg c1_1).symm.trans h
  by_cases c1_2 : v1 = (2 : Int32)
  · have h := (if_pos c1_2).symm.trans h
    refine go_tableK (pc := 1) (tgt := 111) C c1_2 dX3_riverPart_1 (by decide) (by decide) rfl (by decide) ?_
    refine go_aload_n (pc := 111) C dX3_riverPart_111 rfl 0 rfl ?_
    refine x3gr_19 (pc := 112) C dX3_riverPart_112 ?_
    refine go_iconst (pc := 115) (v := (3 : Int32)) C dX3_riverPart_115 (by decide) ?_
    refine go_ialdK (pc := 116) (j := 3) C x3aA_19 (by decide) (by decide) dX3_riverPart_116 ?_
    refine go_istore_n (pc := 117) C hN dX3_riverPart_117 rfl (by decide) rfl ?_
    refine go_aload_n (pc := 118) C dX3_riverPart_118 rfl 1 rfl ?_
    refine x3gr_22 (pc := 119) C dX3_riverPart_119 ?_
    refine go_iload_n (pc := 122) C dX3_riverPart_122 rfl 0 rfl ?_
    refine go_aload_n (pc := 123) C dX3_riverPart_123 rfl 1 rfl ?_
    refine go_iconst (pc := 124) (v := (0 : Int32)) C dX3_riverPart_124 (by decide) ?_
    refine go_aload_n (pc := 125) C dX3_riverPart_125 rfl 1 rfl ?_
    refine x3gr_19 (pc := 126) C dX3_riverPart_126 ?_
    refine go_iconst (pc := 129) (v := (2 : Int32)) C dX3_riverPart_129 (by decide) ?_
    refine go_ialdK (pc := 130) (j := 2) C x3aA_19 (by decide) (by decide) dX3_riverPart_130 ?_
    refine go_iconst (pc := 131) (v := (1 : Int32)) C dX3_riverPart_131 (by decide) ?_
    refine go_isub (pc := 132) C dX3_riverPart_132 ?_
    obtain ⟨r6, s6, e6, h⟩ := bnd2_some h
    refine go_callVi (pc := 133) C [.int (0 : Int32), .int ((s0.2.1 19 2) - (1 : Int32))] (m3_amount e6) q1549 q1551 qs64 q144 q1552 x3pd_amount (by decide) (by decide) bW_O x3c rfl (Nat.le_of_ble_eq_true rfl) ⟨Nat.zero_le _, Nat.zero_le _⟩ dX3_riverPart_133 rfl ?_
    refine go_iast (pc := 136) C x3pA_22 h dX3_riverPart_136 (fun h => ?_)
    refine go_aload_n (pc := 137) C dX3_riverPart_137 rfl 1 rfl ?_
    refine x3gr_23 (pc := 138) C dX3_riverPart_138 ?_
    refine go_iload_n (pc := 141) C dX3_riverPart_141 rfl 0 rfl ?_
    refine go_aload_n (pc := 142) C dX3_riverPart_142 rfl 1 rfl ?_
    refine go_iconst (pc := 143) (v := (0 : Int32)) C dX3_riverPart_143 (by decide) ?_
    refine go_bipush (pc := 144) (v := (50 : Int32)) C dX3_riverPart_144 (by decide) ?_
    obtain ⟨r7, s7, e7, h⟩ := bnd2_some h
    refine go_callVi (pc := 146) C [.int (0 : Int32), .int (50 : Int32)] (m3_amount e7) q1549 q1551 qs64 q144 q1552 x3pd_amount (by decide) (by decide) bW_O x3c rfl (Nat.le_of_ble_eq_true rfl) ⟨Nat.zero_le _, Nat.zero_le _⟩ dX3_riverPart_146 rfl ?_
    refine go_iast (pc := 149) C x3pA_23 h dX3_riverPart_149 (fun h => ?_)
    refine go_aload_n (pc := 150) C dX3_riverPart_150 rfl 1 rfl ?_
    refine x3gr_24 (pc := 151) C dX3_riverPart_151 ?_
    refine go_iload_n (pc := 154) C dX3_riverPart_154 rfl 0 rfl ?_
    refine go_aload_n (pc := 155) C dX3_riverPart_155 rfl 1 rfl ?_
    refine go_iconst (pc := 156) (v := (0 : Int32)) C dX3_riverPart_156 (by decide) ?_
    refine go_bipush (pc := 157) (v := (99 : Int32)) C dX3_riverPart_157 (by decide) ?_
    obtain ⟨r8, s8, e8, h⟩ := bnd2_some h
    refine go_callVi (pc := 159) C [.int (0 : Int32), .int (99 : Int32)] (m3_amount e8) q1549 q1551 qs64 q144 q1552 x3pd_amount (by decide) (by decide) bW_O x3c rfl (Nat.le_of_ble_eq_true rfl) ⟨Nat.zero_le _, Nat.zero_le _⟩ dX3_riverPart_159 rfl ?_
    refine go_iast (pc := 162) C x3pA_24 h dX3_riverPart_162 (fun h => ?_)
    refine go_aload_n (pc := 163) C dX3_riverPart_163 rfl 1 rfl ?_
    refine x3gr_25 (pc := 164) C dX3_riverPart_164 ?_
    refine go_iload_n (pc := 167) C dX3_riverPart_167 rfl 0 rfl ?_
    refine go_aload_n (pc := 168) C dX3_riverPart_168 rfl 1 rfl ?_
    refine go_iconst (pc := 169) (v := (0 : Int32)) C dX3_riverPart_169 (by decide) ?_
    refine go_bipush (pc := 170) (v := (9 : Int32)) C dX3_riverPart_170 (by decide) ?_
    obtain ⟨r9, s9, e9, h⟩ := bnd2_some h
    refine go_callVi (pc := 172) C [.int (0 : Int32), .int (9 : Int32)] (m3_amount e9) q1549 q1551 qs64 q144 q1552 x3pd_amount (by decide) (by decide) bW_O x3c rfl (Nat.le_of_ble_eq_true rfl) ⟨Nat.zero_le _, Nat.zero_le _⟩ dX3_riverPart_172 rfl ?_
    refine go_iast (pc := 175) C x3pA_25 h dX3_riverPart_175 (fun h => ?_)
    refine go_aload_n (pc := 176) C dX3_riverPart_176 rfl 1 rfl ?_
    refine x3gr_19 (pc := 177) C dX3_riverPart_177 ?_
    refine go_iconst (pc := 180) (v := (3 : Int32)) C dX3_riverPart_180 (by decide) ?_
    refine go_dup2 (pc := 181) C dX3_riverPart_181 rfl rfl ?_
    refine go_ialdK (pc := 182) (j := 3) C x3aA_19 (by decide) (by decide) dX3_riverPart_182 ?_
    refine go_iconst (pc := 183) (v := (1 : Int32)) C dX3_riverPart_183 (by decide) ?_
    refine go_iadd (pc := 184) C dX3_riverPart_184 ?_
    refine go_iastK (pc := 185) (j := 3) C x3pA_19 (by decide) (by decide) dX3_riverPart_185 ?_
    refine go_goto (pc := 186) (tgt := 200) C dX3_riverPart_186 (by decide) ?_
    exact (hE 0 0 _ _ _ (Nat.zero_le _) (Nat.zero_le _)).2.2.2.1 rfl dX3_riverPart_200 ⟨rfl, congrArg (fun z => bW Γ.d 3 FK3 a z) (some1 h)⟩
  have h := (if_neg c1_2).symm.trans h
  by_cases c1_3 : v1 = (3 : Int32)
  · have h := (if_pos c1_3).symm.trans h
    refine go_tableK (pc := 1) (tgt := 189) C c1_3 dX3_riverPart_1 (by decide) (by decide) rfl (by decide) ?_
    refine go_aload_n (pc := 189) C dX3_riverPart_189 rfl 0 rfl ?_
    obtain ⟨s10, e10, h⟩ := bnd_some h
    refine go_callVv (pc := 190) C [] (m3_readsBound e10) q1567 q1569 qs67 q144 q1570 x3pd_readsBound (by decide) (by decide) bW_O x3c rfl (Nat.le_of_ble_eq_true rfl) ⟨Nat.zero_le _, Nat.zero_le _⟩ dX3_riverPart_190 rfl ?_
    refine go_goto (pc := 193) (tgt := 200) C dX3_riverPart_193 (by decide) ?_
    exact (hE 0 0 _ _ _ (Nat.zero_le _) (Nat.zero_le _)).2.2.2.1 rfl dX3_riverPart_200 ⟨rfl, congrArg (fun z => bW Γ.d 3 FK3 a z) (some1 h)⟩
  have h := (if_neg c1_3).symm.trans h
  refine go_tableD (pc := 1) (tgt := 196) C [(0 : Int32), (1 : Int32), (2 : Int32), (3 : Int32)] (List.forall_mem_cons.mpr ⟨c1_0, List.forall_mem_cons.mpr ⟨c1_1, List.forall_mem_cons.mpr ⟨c1_2, List.forall_mem_cons.mpr ⟨c1_3, fun _ h9 => absurd h9 List.not_mem_nil⟩⟩⟩⟩) dX3_riverPart_1 (by decide) (by decide +kernel) (by decide) (by decide) (by decide) ?_
  refine go_aload_n (pc := 196) C dX3_riverPart_196 rfl 0 rfl ?_
  obtain ⟨s11, e11, h⟩ := bnd_some h
  refine go_callVv (pc := 197) C [] (m3_readsRapid e11) q1575 q1577 qs69 q144 q1578 x3pd_readsRapid (by decide) (by decide) bW_O x3c rfl (Nat.le_of_ble_eq_true rfl) ⟨Nat.zero_le _, Nat.zero_le _⟩ dX3_riverPart_197 rfl ?_
  exact (hE 0 0 _ _ _ (Nat.zero_le _) (Nat.zero_le _)).2.2.2.1 rfl dX3_riverPart_200 ⟨rfl, congrArg (fun z => bW Γ.d 3 FK3 a z) (some1 h)⟩
theorem w3_riverClause_33 {Γ : Gam} {a : Nat → Nat} {s0 : Bl} {v1 : Int32} {v2 : Int32} {v3 : Int32} {s9 : Bl} (hN : Γ.nL = 4) (C : Cx Γ cX3_riverClause RX3 (6, 0, 0) 138) (hE : Rets Γ cX3_riverClause none 0 0 (fun v w => v = none ∧ w = (bW Γ.d 3 FK3 a s9))) (h : g3_riverClause_33 s0 v1 v2 v3 = some s9) : Go Γ 0 0 (bW Γ.d 3 FK3 a s0) 33 [(0, .ref (a 0)), (1, .int v1), (2, .int v2), (3, .int v3)] [] := by
  dsimp only [g3_riverClause_33] at h
  refine go_iload_n (pc := 33) C dX3_riverClause_33 rfl 3 rfl ?_
  refine go_iconst (pc := 34) (v := (5 : Int32)) C dX3_riverClause_34 (by decide) ?_
  refine go_icmp_ne (pc := 35) (tgt := 45) C dX3_riverClause_35 (by decide) h (fun h => ?_) (fun h => ?_)
  · refine go_aload_n (pc := 45) C dX3_riverClause_45 rfl 0 rfl ?_
    refine go_iload_n (pc := 46) C dX3_riverClause_46 rfl 3 rfl ?_
    refine go_iload_n (pc := 47) C dX3_riverClause_47 rfl 1 rfl ?_
    obtain ⟨r2, e2, h⟩ := bnd_some h
    refine go_callVi (pc := 48) C [.int v3, .int v1] (m3_isFull e2) q1541 q1543 qs62 q144 q1544 x3pd_isFull (by decide) (by decide) bW_O x3c rfl (Nat.le_of_ble_eq_true rfl) ⟨Nat.zero_le _, Nat.zero_le _⟩ dX3_riverClause_48 rfl ?_
    refine go_if_eq (pc := 51) (tgt := 61) C dX3_riverClause_51 (by decide) h (fun h => ?_) (fun h => ?_)
    · refine go_aload_n (pc := 61) C dX3_riverClause_61 rfl 0 rfl ?_
      refine go_dup (pc := 62) C dX3_riverClause_62 rfl ?_
      refine x3gi_32 (pc := 63) C dX3_riverClause_63 ?_
      refine go_iload_n (pc := 66) C dX3_riverClause_66 rfl 3 rfl ?_
      obtain ⟨r3, e3, h⟩ := bnd_some h
      refine go_callSa (pc := 67) C [.int v3] (m3_riverWord e3) q1523 q1524 q144 q1525 x3pd_riverWord (by decide) (by decide) rfl (Nat.le_of_ble_eq_true rfl) ⟨Nat.zero_le _, Nat.zero_le _⟩ dX3_riverClause_67 rfl ?_
      obtain ⟨hi9, h⟩ := chk_some h
      refine go_callVSi (pc := 70) C (of_decide_eq_true hi9) [] (m_J3_length (of_decide_eq_true hi9)) q1535 q579 q580 q581 pd_J3_length (by decide) (by decide) rfl (Nat.le_of_ble_eq_true rfl) ⟨Nat.zero_le _, Nat.zero_le _⟩ dX3_riverClause_70 rfl ?_
      refine go_iadd (pc := 73) C dX3_riverClause_73 ?_
      refine x3pi_32 (pc := 74) C dX3_riverClause_74 ?_
      refine go_aload_n (pc := 77) C dX3_riverClause_77 rfl 0 rfl ?_
      refine go_iload_n (pc := 78) C dX3_riverClause_78 rfl 3 rfl ?_
      obtain ⟨s4, e4, h⟩ := bnd_some h
      refine go_callVv (pc := 79) C [.int v3] (m3_riverPart e4) q1545 q1547 qs63 q144 q1548 x3pd_riverPart (by decide) (by decide) bW_O x3c rfl (Nat.le_of_ble_eq_true rfl) ⟨Nat.zero_le _, Nat.zero_le _⟩ dX3_riverClause_79 rfl ?_
      exact (hE 0 0 _ _ _ (Nat.zero_le _) (Nat.zero_le _)).2.2.2.1 rfl dX3_riverClause_82 ⟨rfl, congrArg (fun z => bW Γ.d 3 FK3 a z) (some1 h)⟩
    · refine go_aload_n (pc := 54) C dX3_riverClause_54 rfl 0 rfl ?_
      refine go_iconst (pc := 55) (v := (4 : Int32)) C dX3_riverClause_55 (by decide) ?_
      refine go_iload_n (pc := 56) C dX3_riverClause_56 rfl 2 rfl ?_
      obtain ⟨s5, e5, h⟩ := bnd_some h
      refine go_callVv (pc := 57) C [.int (4 : Int32), .int v2] (m3_fails e5) q1537 q1539 qs61 q144 q1540 x3pd_fails (by decide) (by decide) bW_O x3c rfl (Nat.le_of_ble_eq_true rfl) ⟨Nat.zero_le _, Nat.zero_le _⟩ dX3_riverClause_57 rfl ?_
      exact (hE 0 0 _ _ _ (Nat.zero_le _) (Nat.zero_le _)).2.2.2.1 rfl dX3_riverClause_60 ⟨rfl, congrArg (fun z => bW Γ.d 3 FK3 a z) (some1 h)⟩
  · refine go_aload_n (pc := 38) C dX3_riverClause_38 rfl 0 rfl ?_
    refine go_iconst (pc := 39) (v := (0 : Int32)) C dX3_riverClause_39 (by decide) ?_
    refine go_iload_n (pc := 40) C dX3_riverClause_40 rfl 2 rfl ?_
    obtain ⟨s6, e6, h⟩ := bnd_some h
    refine go_callVv (pc := 41) C [.int (0 : Int32), .int v2] (m3_fails e6) q1537 q1539 qs61 q144 q1540 x3pd_fails (by decide) (by decide) bW_O x3c rfl (Nat.le_of_ble_eq_true rfl) ⟨Nat.zero_le _, Nat.zero_le _⟩ dX3_riverClause_41 rfl ?_
    exact (hE 0 0 _ _ _ (Nat.zero_le _) (Nat.zero_le _)).2.2.2.1 rfl dX3_riverClause_44 ⟨rfl, congrArg (fun z => bW Γ.d 3 FK3 a z) (some1 h)⟩
theorem w3_riverClause_11 {Γ : Gam} {a : Nat → Nat} {s0 : Bl} {v1 : Int32} {v2 : Int32} {s9 : Bl} (hN : Γ.nL = 4) (C : Cx Γ cX3_riverClause RX3 (6, 0, 0) 138) (hE : Rets Γ cX3_riverClause none 0 0 (fun v w => v = none ∧ w = (bW Γ.d 3 FK3 a s9))) : ∀ (n : Nat) (s : Int32), loop (g3_riverClause_11 s0 v1 v2) n s = some s9 → (fun s : Int32 => Go Γ 0 0 (bW Γ.d 3 FK3 a s0) 11 [(0, .ref (a 0)), (1, .int v1), (2, .int v2), (3, .int s)] []) s := by
  refine loop_walk (P := fun s : Int32 => Go Γ 0 0 (bW Γ.d 3 FK3 a s0) 11 [(0, .ref (a 0)), (1, .int v1), (2, .int v2), (3, .int s)] []) ?_
  intro K11 hK11 s h
  obtain ⟨v3, rfl⟩ : ∃ z, z = s := ⟨_, rfl⟩
  dsimp only [g3_riverClause_11] at h
  show Go Γ 0 0 (bW Γ.d 3 FK3 a s0) 11 [(0, .ref (a 0)), (1, .int v1), (2, .int v2), (3, .int v3)] []
  refine go_iload_n (pc := 11) C dX3_riverClause_11 rfl 3 rfl ?_
  refine go_iconst (pc := 12) (v := (5 : Int32)) C dX3_riverClause_12 (by decide) ?_
  refine go_icmp_ge (pc := 13) (tgt := 33) C dX3_riverClause_13 (by decide) h (fun h => ?_) (fun h => ?_)
  · exact w3_riverClause_33 hN C hE h
  · refine go_aload_n (pc := 16) C dX3_riverClause_16 rfl 0 rfl ?_
    refine go_iload_n (pc := 17) C dX3_riverClause_17 rfl 3 rfl ?_
    obtain ⟨r7, e7, h⟩ := bnd_some h
    refine go_callSa (pc := 18) C [.int v3] (m3_riverWord e7) q1523 q1524 q144 q1525 x3pd_riverWord (by decide) (by decide) rfl (Nat.le_of_ble_eq_true rfl) ⟨Nat.zero_le _, Nat.zero_le _⟩ dX3_riverClause_18 rfl ?_
    obtain ⟨r8, e8, h⟩ := bnd_some h
    refine go_callVi (pc := 21) C [.ref (Γ.d.2.2.1 r7)] (m3_stood e8) q1531 q1533 qs60 q144 q1534 x3pd_stood (by decide) (by decide) bW_O x3c rfl (Nat.le_of_ble_eq_true rfl) ⟨Nat.zero_le _, Nat.zero_le _⟩ dX3_riverClause_21 rfl ?_
    refine go_if_ne (pc := 24) (tgt := 33) C dX3_riverClause_24 (by decide) h (fun h => ?_) (fun h => ?_)
    · exact w3_riverClause_33 hN C hE h
    · refine go_iinc (pc := 27) (v := (v3 + (1 : Int32))) C hN dX3_riverClause_27 (q := 3) rfl rfl (by decide) rfl ?_
      refine go_goto (pc := 30) (tgt := 11) C dX3_riverClause_30 (by decide) ?_
      refine go_sub [1, 2, 3, 0] rfl ?_
      exact hK11 (v3 + (1 : Int32)) h
theorem m3_riverClause {l : Launch} {d : gD} {a : Nat → Nat} {s0 : Bl} {v1 : Int32} {s9 : Bl} (h : f3_riverClause s0 v1 = some s9) : Mt l d yX3_riverClause cX3_riverClause 4 none (6, 0, 0) 138 (bW d 3 FK3 a s0) [.ref (a 0), .int v1] (fun v w => v = none ∧ w = (bW d 3 FK3 a s9)) := by
  refine Mt.of x3pn (Nat.le_of_ble_eq_true rfl) ?_
  intro Γ hl hd hN C hE
  subst hl; subst hd
  show Go Γ 0 0 (bW Γ.d 3 FK3 a s0) 0 [(0, .ref (a 0)), (1, .int v1)] []
  dsimp only [f3_riverClause] at h
  refine go_aload_n (pc := 0) C dX3_riverClause_0 rfl 0 rfl ?_
  obtain ⟨s1, e1, h⟩ := bnd_some h
  refine go_callVv (pc := 1) C [] (m3_blanks e1) q1515 q1517 qs58 q144 q1518 x3pd_blanks (by decide) (by decide) bW_O x3c rfl (Nat.le_of_ble_eq_true rfl) ⟨Nat.zero_le _, Nat.zero_le _⟩ dX3_riverClause_1 rfl ?_
  refine go_aload_n (pc := 4) C dX3_riverClause_4 rfl 0 rfl ?_
  refine x3gi_32 (pc := 5) C dX3_riverClause_5 ?_
  refine go_istore_n (pc := 8) C hN dX3_riverClause_8 rfl (by decide) rfl ?_
  refine go_iconst (pc := 9) (v := (0 : Int32)) C dX3_riverClause_9 (by decide) ?_
  refine go_istore_n (pc := 10) C hN dX3_riverClause_10 rfl (by decide) rfl ?_
  refine go_sub [2, 3, 1, 0] rfl ?_
  exact w3_riverClause_11 hN C hE FU (0 : Int32) h
theorem w3_goesOn_40 {Γ : Gam} {a : Nat → Nat} {s0 : Bl} {r9 : Int32} {s9 : Bl} (hN : Γ.nL = 2) (C : Cx Γ cX3_goesOn RX3 (2, 0, 0) 40) (hE : Rets Γ cX3_goesOn (some .boolean) 0 0 (fun v w => v = some (.int r9) ∧ w = (bW Γ.d 3 FK3 a s9))) (h : g3_goesOn_40 s0 = some (r9, s9)) : Go Γ 0 0 (bW Γ.d 3 FK3 a s0) 40 [(0, .ref (a 0))] [] := by
  dsimp only [g3_goesOn_40] at h
  refine go_aload_n (pc := 40) C dX3_goesOn_40 rfl 0 rfl ?_
  refine x3gi_33 (pc := 41) C dX3_goesOn_41 ?_
  refine go_if_ne (pc := 44) (tgt := 62) C dX3_goesOn_44 (by decide) h (fun h => ?_) (fun h => ?_)
  · refine go_iconst (pc := 62) (v := (0 : Int32)) C dX3_goesOn_62 (by decide) ?_
    refine go_istore_n (pc := 63) C hN dX3_goesOn_63 rfl (by decide) rfl ?_
    refine go_aload_n (pc := 64) C dX3_goesOn_64 rfl 1 rfl ?_
    refine go_dup (pc := 65) C dX3_goesOn_65 rfl ?_
    refine x3gi_32 (pc := 66) C dX3_goesOn_66 ?_
    refine go_iconst (pc := 69) (v := (1 : Int32)) C dX3_goesOn_69 (by decide) ?_
    refine go_iadd (pc := 70) C dX3_goesOn_70 ?_
    refine x3pi_32 (pc := 71) C dX3_goesOn_71 ?_
    refine go_iload_n (pc := 74) C dX3_goesOn_74 rfl 0 rfl ?_
    exact (hE 0 0 _ _ _ (Nat.zero_le _) (Nat.zero_le _)).2.1 _ rfl (Or.inl rfl) dX3_goesOn_75 ⟨congrArg (fun z => some (Value.int z)) (some2 h).1, congrArg (fun z => bW Γ.d 3 FK3 a z) (some2 h).2⟩
  · refine go_aload_n (pc := 47) C dX3_goesOn_47 rfl 0 rfl ?_
    refine x3gi_32 (pc := 48) C dX3_goesOn_48 ?_
    refine go_aload_n (pc := 51) C dX3_goesOn_51 rfl 0 rfl ?_
    refine x3gi_31 (pc := 52) C dX3_goesOn_52 ?_
    refine go_icmp_ge (pc := 55) (tgt := 62) C dX3_goesOn_55 (by decide) h (fun h => ?_) (fun h => ?_)
    · refine go_iconst (pc := 62) (v := (0 : Int32)) C dX3_goesOn_62 (by decide) ?_
      refine go_istore_n (pc := 63) C hN dX3_goesOn_63 rfl (by decide) rfl ?_
      refine go_aload_n (pc := 64) C dX3_goesOn_64 rfl 1 rfl ?_
      refine go_dup (pc := 65) C dX3_goesOn_65 rfl ?_
      refine x3gi_32 (pc := 66) C dX3_goesOn_66 ?_
      refine go_iconst (pc := 69) (v := (1 : Int32)) C dX3_goesOn_69 (by decide) ?_
      refine go_iadd (pc := 70) C dX3_goesOn_70 ?_
      refine x3pi_32 (pc := 71) C dX3_goesOn_71 ?_
      refine go_iload_n (pc := 74) C dX3_goesOn_74 rfl 0 rfl ?_
      exact (hE 0 0 _ _ _ (Nat.zero_le _) (Nat.zero_le _)).2.1 _ rfl (Or.inl rfl) dX3_goesOn_75 ⟨congrArg (fun z => some (Value.int z)) (some2 h).1, congrArg (fun z => bW Γ.d 3 FK3 a z) (some2 h).2⟩
    · refine go_iconst (pc := 58) (v := (1 : Int32)) C dX3_goesOn_58 (by decide) ?_
      refine go_goto (pc := 59) (tgt := 63) C dX3_goesOn_59 (by decide) ?_
      refine go_istore_n (pc := 63) C hN dX3_goesOn_63 rfl (by decide) rfl ?_
      refine go_aload_n (pc := 64) C dX3_goesOn_64 rfl 1 rfl ?_
      refine go_dup (pc := 65) C dX3_goesOn_65 rfl ?_
      refine x3gi_32 (pc := 66) C dX3_goesOn_66 ?_
      refine go_iconst (pc := 69) (v := (1 : Int32)) C dX3_goesOn_69 (by decide) ?_
      refine go_iadd (pc := 70) C dX3_goesOn_70 ?_
      refine x3pi_32 (pc := 71) C dX3_goesOn_71 ?_
      refine go_iload_n (pc := 74) C dX3_goesOn_74 rfl 0 rfl ?_
      exact (hE 0 0 _ _ _ (Nat.zero_le _) (Nat.zero_le _)).2.1 _ rfl (Or.inr rfl) dX3_goesOn_75 ⟨congrArg (fun z => some (Value.int z)) (some2 h).1, congrArg (fun z => bW Γ.d 3 FK3 a z) (some2 h).2⟩
theorem m3_goesOn {l : Launch} {d : gD} {a : Nat → Nat} {s0 : Bl} {r9 : Int32} {s9 : Bl} (h : f3_goesOn s0 = some (r9, s9)) : Mt l d yX3_goesOn cX3_goesOn 2 (some .boolean) (2, 0, 0) 40 (bW d 3 FK3 a s0) [.ref (a 0)] (fun v w => v = some (.int r9) ∧ w = (bW d 3 FK3 a s9)) := by
  refine Mt.of x3pn (Nat.le_of_ble_eq_true rfl) ?_
  intro Γ hl hd hN C hE
  subst hl; subst hd
  show Go Γ 0 0 (bW Γ.d 3 FK3 a s0) 0 [(0, .ref (a 0))] []
  dsimp only [f3_goesOn] at h
  refine go_aload_n (pc := 0) C dX3_goesOn_0 rfl 0 rfl ?_
  obtain ⟨s1, e1, h⟩ := bnd_some h
  refine go_callVv (pc := 1) C [] (m3_blanks e1) q1515 q1517 qs58 q144 q1518 x3pd_blanks (by decide) (by decide) bW_O x3c rfl (Nat.le_of_ble_eq_true rfl) ⟨Nat.zero_le _, Nat.zero_le _⟩ dX3_goesOn_1 rfl ?_
  refine go_aload_n (pc := 4) C dX3_goesOn_4 rfl 0 rfl ?_
  refine x3gi_33 (pc := 5) C dX3_goesOn_5 ?_
  refine go_if_ne (pc := 8) (tgt := 40) C dX3_goesOn_8 (by decide) h (fun h => ?_) (fun h => ?_)
  · exact w3_goesOn_40 hN C hE h
  · refine go_aload_n (pc := 11) C dX3_goesOn_11 rfl 0 rfl ?_
    refine x3gi_32 (pc := 12) C dX3_goesOn_12 ?_
    refine go_aload_n (pc := 15) C dX3_goesOn_15 rfl 0 rfl ?_
    refine x3gi_31 (pc := 16) C dX3_goesOn_16 ?_
    refine go_icmp_ge (pc := 19) (tgt := 40) C dX3_goesOn_19 (by decide) h (fun h => ?_) (fun h => ?_)
    · exact w3_goesOn_40 hN C hE h
    · refine go_aload_n (pc := 22) C dX3_goesOn_22 rfl 0 rfl ?_
      obtain ⟨r2, e2, h⟩ := bnd_some h
      refine go_callVi (pc := 23) C [] (m3_sign e2) q1519 q1521 qs59 q144 q1522 x3pd_sign (by decide) (by decide) bW_O x3c rfl (Nat.le_of_ble_eq_true rfl) ⟨Nat.zero_le _, Nat.zero_le _⟩ dX3_goesOn_23 rfl ?_
      refine go_bipush (pc := 26) (v := (59 : Int32)) C dX3_goesOn_26 (by decide) ?_
      refine go_icmp_eq (pc := 28) (tgt := 40) C dX3_goesOn_28 (by decide) h (fun h => ?_) (fun h => ?_)
      · exact w3_goesOn_40 hN C hE h
      · refine go_aload_n (pc := 31) C dX3_goesOn_31 rfl 0 rfl ?_
        refine go_iconst (pc := 32) (v := (0 : Int32)) C dX3_goesOn_32 (by decide) ?_
        refine go_aload_n (pc := 33) C dX3_goesOn_33 rfl 0 rfl ?_
        refine x3gi_32 (pc := 34) C dX3_goesOn_34 ?_
        obtain ⟨s3, e3, h⟩ := bnd_some h
        refine go_callVv (pc := 37) C [.int (0 : Int32), .int (s1.1 32)] (m3_fails e3) q1537 q1539 qs61 q144 q1540 x3pd_fails (by decide) (by decide) bW_O x3c rfl (Nat.le_of_ble_eq_true rfl) ⟨Nat.zero_le _, Nat.zero_le _⟩ dX3_goesOn_37 rfl ?_
        exact w3_goesOn_40 hN C hE h
theorem w3_readsAll_29 {Γ : Gam} {a : Nat → Nat} {s9 : Bl} (hN : Γ.nL = 3) (C : Cx Γ cX3_readsAll RX3 (7, 0, 0) 161) (hE : Rets Γ cX3_readsAll none 0 0 (fun v w => v = none ∧ w = (bW Γ.d 3 FK3 a s9))) : ∀ (n : Nat) (s : Bl × Int32 × Int32), loop (g3_readsAll_29) n s = some s9 → (fun s : Bl × Int32 × Int32 => Go Γ 0 0 (bW Γ.d 3 FK3 a s.1) 29 [(0, .ref (a 0)), (1, .int s.2.1), (2, .int s.2.2)] []) s := by
  refine loop_walk (P := fun s : Bl × Int32 × Int32 => Go Γ 0 0 (bW Γ.d 3 FK3 a s.1) 29 [(0, .ref (a 0)), (1, .int s.2.1), (2, .int s.2.2)] []) ?_
  intro K29 hK29 s h
  obtain ⟨s0, v1, v2⟩ := s
  dsimp only [g3_readsAll_29] at h
  show Go Γ 0 0 (bW Γ.d 3 FK3 a s0) 29 [(0, .ref (a 0)), (1, .int v1), (2, .int v2)] []
  refine go_iload_n (pc := 29) C dX3_readsAll_29 rfl 2 rfl ?_
  refine go_if_eq (pc := 30) (tgt := 49) C dX3_readsAll_30 (by decide) h (fun h => ?_) (fun h => ?_)
  · refine go_aload_n (pc := 49) C dX3_readsAll_49 rfl 0 rfl ?_
    refine go_iconst (pc := 50) (v := (0 : Int32)) C dX3_readsAll_50 (by decide) ?_
    refine x3pi_31 (pc := 51) C dX3_readsAll_51 ?_
    exact (hE 0 0 _ _ _ (Nat.zero_le _) (Nat.zero_le _)).2.2.2.1 rfl dX3_readsAll_54 ⟨rfl, congrArg (fun z => bW Γ.d 3 FK3 a z) (some1 h)⟩
  · refine go_aload_n (pc := 33) C dX3_readsAll_33 rfl 0 rfl ?_
    refine go_iload_n (pc := 34) C dX3_readsAll_34 rfl 1 rfl ?_
    obtain ⟨s2, e2, h⟩ := bnd_some h
    refine go_callVv (pc := 35) C [.int v1] (m3_riverClause e2) q1511 q1513 qs57 q144 q1514 x3pd_riverClause (by decide) (by decide) bW_O x3c rfl (Nat.le_of_ble_eq_true rfl) ⟨Nat.zero_le _, Nat.zero_le _⟩ dX3_readsAll_35 rfl ?_
    refine go_iinc (pc := 38) (v := (v1 + (1 : Int32))) C hN dX3_readsAll_38 (q := 1) rfl rfl (by decide) rfl ?_
    refine go_aload_n (pc := 41) C dX3_readsAll_41 rfl 1 rfl ?_
    obtain ⟨r3, s3, e3, h⟩ := bnd2_some h
    refine go_callVi (pc := 42) C [] (m3_goesOn e3) q1579 q1581 qs70 q144 q1582 x3pd_goesOn (by decide) (by decide) bW_O x3c rfl (Nat.le_of_ble_eq_true rfl) ⟨Nat.zero_le _, Nat.zero_le _⟩ dX3_readsAll_42 rfl ?_
    refine go_istore_n (pc := 45) C hN dX3_readsAll_45 rfl (by decide) rfl ?_
    refine go_goto (pc := 46) (tgt := 29) C dX3_readsAll_46 (by decide) ?_
    refine go_sub [2, 1, 0] rfl ?_
    exact hK29 (s3, (v1 + (1 : Int32)), r3) h
theorem w3_readsAll_6 {Γ : Gam} {a : Nat → Nat} {s9 : Bl} (hN : Γ.nL = 3) (C : Cx Γ cX3_readsAll RX3 (7, 0, 0) 161) (hE : Rets Γ cX3_readsAll none 0 0 (fun v w => v = none ∧ w = (bW Γ.d 3 FK3 a s9))) : ∀ (n : Nat) (s : Bl × Int32), loop (g3_readsAll_6) n s = some s9 → (fun s : Bl × Int32 => Go Γ 0 0 (bW Γ.d 3 FK3 a s.1) 6 [(0, .ref (a 0)), (1, .int s.2)] []) s := by
  refine loop_walk (P := fun s : Bl × Int32 => Go Γ 0 0 (bW Γ.d 3 FK3 a s.1) 6 [(0, .ref (a 0)), (1, .int s.2)] []) ?_
  intro K6 hK6 s h
  obtain ⟨s0, v1⟩ := s
  dsimp only [g3_readsAll_6] at h
  show Go Γ 0 0 (bW Γ.d 3 FK3 a s0) 6 [(0, .ref (a 0)), (1, .int v1)] []
  refine go_iload_n (pc := 6) C dX3_readsAll_6 rfl 1 rfl ?_
  refine go_bipush (pc := 7) (v := (6 : Int32)) C dX3_readsAll_7 (by decide) ?_
  refine go_icmp_ge (pc := 9) (tgt := 25) C dX3_readsAll_9 (by decide) h (fun h => ?_) (fun h => ?_)
  · refine go_iconst (pc := 25) (v := (0 : Int32)) C dX3_readsAll_25 (by decide) ?_
    refine go_istore_n (pc := 26) C hN dX3_readsAll_26 rfl (by decide) rfl ?_
    refine go_iconst (pc := 27) (v := (1 : Int32)) C dX3_readsAll_27 (by decide) ?_
    refine go_istore_n (pc := 28) C hN dX3_readsAll_28 rfl (by decide) rfl ?_
    refine go_sub [2, 1, 0] rfl ?_
    exact w3_readsAll_29 hN C hE FU (s0, (0 : Int32), (1 : Int32)) h
  · refine go_aload_n (pc := 12) C dX3_readsAll_12 rfl 0 rfl ?_
    refine x3gr_19 (pc := 13) C dX3_readsAll_13 ?_
    refine go_iload_n (pc := 16) C dX3_readsAll_16 rfl 1 rfl ?_
    refine go_iconst (pc := 17) (v := (0 : Int32)) C dX3_readsAll_17 (by decide) ?_
    refine go_iast (pc := 18) C x3pA_19 h dX3_readsAll_18 (fun h => ?_)
    refine go_iinc (pc := 19) (v := (v1 + (1 : Int32))) C hN dX3_readsAll_19 (q := 1) rfl rfl (by decide) rfl ?_
    refine go_goto (pc := 22) (tgt := 6) C dX3_readsAll_22 (by decide) ?_
    refine go_sub [1, 0] rfl ?_
    exact hK6 ((bA s0 19 (v1).toNatClampNeg (0 : Int32)), (v1 + (1 : Int32))) h

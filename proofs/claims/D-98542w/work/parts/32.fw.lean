/-! walks of the flow, printed by gen/flow.py -/
set_option maxRecDepth 100000
set_option maxHeartbeats 4000000
theorem m0_in {l : Launch} {d : gD} {ws : va_W} {v0 : Int64} {v2 : Int64} {v4 : Int64} {r9 : Int32} (h : f0_in v0 v2 v4 = some r9) : Mt l d yX0_in cX0_in 6 (some .boolean) (0, 0, 0) 0 ws [.long v0, .long v2, .long v4] (fun v w => v = some (.int r9) ∧ w = ws) := by
  refine Mt.of x0pn (Nat.le_of_ble_eq_true rfl) ?_
  intro Γ hl hd hN C hE
  subst hl; subst hd
  show Go Γ 0 0 ws 0 [(0, .long v0), (2, .long v2), (4, .long v4)] []
  dsimp only [f0_in] at h
  refine go_lload_n (pc := 0) C dX0_in_0 rfl 0 rfl ?_
  refine go_lload_n (pc := 1) C dX0_in_1 rfl 1 rfl ?_
  refine go_lcmp (pc := 2) C dX0_in_2 ?_
  refine go_if_lt (pc := 3) (tgt := 17) C dX0_in_3 (by decide) h (fun h => ?_) (fun h => ?_)
  · refine go_iconst (pc := 17) (v := (0 : Int32)) C dX0_in_17 (by decide) ?_
    exact (hE 0 0 _ _ _ (Nat.zero_le _) (Nat.zero_le _)).2.1 _ rfl (Or.inl rfl) dX0_in_18 ⟨congrArg (fun z => some (Value.int z)) (some1 h), rfl⟩
  · refine go_lload_n (pc := 6) C dX0_in_6 rfl 0 rfl ?_
    refine go_lload (pc := 7) C dX0_in_7 2 rfl ?_
    refine go_lcmp (pc := 9) C dX0_in_9 ?_
    refine go_if_gt (pc := 10) (tgt := 17) C dX0_in_10 (by decide) h (fun h => ?_) (fun h => ?_)
    · refine go_iconst (pc := 17) (v := (0 : Int32)) C dX0_in_17 (by decide) ?_
      exact (hE 0 0 _ _ _ (Nat.zero_le _) (Nat.zero_le _)).2.1 _ rfl (Or.inl rfl) dX0_in_18 ⟨congrArg (fun z => some (Value.int z)) (some1 h), rfl⟩
    · refine go_iconst (pc := 13) (v := (1 : Int32)) C dX0_in_13 (by decide) ?_
      refine go_goto (pc := 14) (tgt := 18) C dX0_in_14 (by decide) ?_
      exact (hE 0 0 _ _ _ (Nat.zero_le _) (Nat.zero_le _)).2.1 _ rfl (Or.inr rfl) dX0_in_18 ⟨congrArg (fun z => some (Value.int z)) (some1 h), rfl⟩
theorem m0_has {l : Launch} {d : gD} {ws : va_W} {v0 : Int32} {v1 : Int32} {r9 : Int32} (h : f0_has v0 v1 = some r9) : Mt l d yX0_has cX0_has 2 (some .boolean) (0, 0, 0) 0 ws [.int v0, .int v1] (fun v w => v = some (.int r9) ∧ w = ws) := by
  refine Mt.of x0pn (Nat.le_of_ble_eq_true rfl) ?_
  intro Γ hl hd hN C hE
  subst hl; subst hd
  show Go Γ 0 0 ws 0 [(0, .int v0), (1, .int v1)] []
  dsimp only [f0_has] at h
  refine go_iload_n (pc := 0) C dX0_has_0 rfl 0 rfl ?_
  refine go_iload_n (pc := 1) C dX0_has_1 rfl 1 rfl ?_
  refine go_ishr (pc := 2) C dX0_has_2 ?_
  refine go_iconst (pc := 3) (v := (1 : Int32)) C dX0_has_3 (by decide) ?_
  refine go_iand (pc := 4) C dX0_has_4 ?_
  refine go_iconst (pc := 5) (v := (1 : Int32)) C dX0_has_5 (by decide) ?_
  refine go_icmp_ne (pc := 6) (tgt := 13) C dX0_has_6 (by decide) h (fun h => ?_) (fun h => ?_)
  · refine go_iconst (pc := 13) (v := (0 : Int32)) C dX0_has_13 (by decide) ?_
    exact (hE 0 0 _ _ _ (Nat.zero_le _) (Nat.zero_le _)).2.1 _ rfl (Or.inl rfl) dX0_has_14 ⟨congrArg (fun z => some (Value.int z)) (some1 h), rfl⟩
  · refine go_iconst (pc := 9) (v := (1 : Int32)) C dX0_has_9 (by decide) ?_
    refine go_goto (pc := 10) (tgt := 14) C dX0_has_10 (by decide) ?_
    exact (hE 0 0 _ _ _ (Nat.zero_le _) (Nat.zero_le _)).2.1 _ rfl (Or.inr rfl) dX0_has_14 ⟨congrArg (fun z => some (Value.int z)) (some1 h), rfl⟩
theorem mJ8_bitCount {l : Launch} {d : gD} {ws : va_W} {v0 : Int32} {r9 : Int32} (h : fJ8_bitCount v0 = some r9) : Mt l d yJ8_bitCount cJ8_bitCount 1 (some .int) (0, 0, 0) 0 ws [.int v0] (fun v w => v = some (.int r9) ∧ w = ws) := by
  refine Mt.of j8pn (Nat.le_of_ble_eq_true rfl) ?_
  intro Γ hl hd hN C hE
  subst hl; subst hd
  show Go Γ 0 0 ws 0 [(0, .int v0)] []
  dsimp only [fJ8_bitCount] at h
  refine go_iload_n (pc := 0) C dJ8_bitCount_0 rfl 0 rfl ?_
  refine go_iload_n (pc := 1) C dJ8_bitCount_1 rfl 0 rfl ?_
  refine go_iconst (pc := 2) (v := (1 : Int32)) C dJ8_bitCount_2 (by decide) ?_
  refine go_iushr (pc := 3) C dJ8_bitCount_3 ?_
  refine go_ldc_w (pc := 4) C dJ8_bitCount_4 q903 ?_
  refine go_iand (pc := 7) C dJ8_bitCount_7 ?_
  refine go_isub (pc := 8) C dJ8_bitCount_8 ?_
  refine go_topi (pc := 9) (fun y1 ey1 => ?_)
  have h := ltv_eq ey1 h
  refine go_istore_n (pc := 9) C hN dJ8_bitCount_9 rfl (by decide) rfl ?_
  refine go_iload_n (pc := 10) C dJ8_bitCount_10 rfl 0 rfl ?_
  refine go_ldc_w (pc := 11) C dJ8_bitCount_11 q904 ?_
  refine go_iand (pc := 14) C dJ8_bitCount_14 ?_
  refine go_iload_n (pc := 15) C dJ8_bitCount_15 rfl 0 rfl ?_
  refine go_iconst (pc := 16) (v := (2 : Int32)) C dJ8_bitCount_16 (by decide) ?_
  refine go_iushr (pc := 17) C dJ8_bitCount_17 ?_
  refine go_ldc_w (pc := 18) C dJ8_bitCount_18 q904 ?_
  refine go_iand (pc := 21) C dJ8_bitCount_21 ?_
  refine go_iadd (pc := 22) C dJ8_bitCount_22 ?_
  refine go_topi (pc := 23) (fun y2 ey2 => ?_)
  have h := ltv_eq ey2 h
  refine go_istore_n (pc := 23) C hN dJ8_bitCount_23 rfl (by decide) rfl ?_
  refine go_iload_n (pc := 24) C dJ8_bitCount_24 rfl 0 rfl ?_
  refine go_iload_n (pc := 25) C dJ8_bitCount_25 rfl 0 rfl ?_
  refine go_iconst (pc := 26) (v := (4 : Int32)) C dJ8_bitCount_26 (by decide) ?_
  refine go_iushr (pc := 27) C dJ8_bitCount_27 ?_
  refine go_iadd (pc := 28) C dJ8_bitCount_28 ?_
  refine go_ldc_w (pc := 29) C dJ8_bitCount_29 q905 ?_
  refine go_iand (pc := 32) C dJ8_bitCount_32 ?_
  refine go_topi (pc := 33) (fun y3 ey3 => ?_)
  have h := ltv_eq ey3 h
  refine go_istore_n (pc := 33) C hN dJ8_bitCount_33 rfl (by decide) rfl ?_
  refine go_iload_n (pc := 34) C dJ8_bitCount_34 rfl 0 rfl ?_
  refine go_iload_n (pc := 35) C dJ8_bitCount_35 rfl 0 rfl ?_
  refine go_bipush (pc := 36) (v := (8 : Int32)) C dJ8_bitCount_36 (by decide) ?_
  refine go_iushr (pc := 38) C dJ8_bitCount_38 ?_
  refine go_iadd (pc := 39) C dJ8_bitCount_39 ?_
  refine go_istore_n (pc := 40) C hN dJ8_bitCount_40 rfl (by decide) rfl ?_
  refine go_iload_n (pc := 41) C dJ8_bitCount_41 rfl 0 rfl ?_
  refine go_iload_n (pc := 42) C dJ8_bitCount_42 rfl 0 rfl ?_
  refine go_bipush (pc := 43) (v := (16 : Int32)) C dJ8_bitCount_43 (by decide) ?_
  refine go_iushr (pc := 45) C dJ8_bitCount_45 ?_
  refine go_iadd (pc := 46) C dJ8_bitCount_46 ?_
  refine go_topi (pc := 47) (fun y4 ey4 => ?_)
  have h := ltv_eq ey4 h
  refine go_istore_n (pc := 47) C hN dJ8_bitCount_47 rfl (by decide) rfl ?_
  refine go_iload_n (pc := 48) C dJ8_bitCount_48 rfl 0 rfl ?_
  refine go_bipush (pc := 49) (v := (63 : Int32)) C dJ8_bitCount_49 (by decide) ?_
  refine go_iand (pc := 51) C dJ8_bitCount_51 ?_
  exact (hE 0 0 _ _ _ (Nat.zero_le _) (Nat.zero_le _)).1 _ rfl dJ8_bitCount_52 ⟨congrArg (fun z => some (Value.int z)) (some1 h), rfl⟩
theorem wJ8_numberOfTrailingZeros_62 {Γ : Gam} {ws : va_W} {v0 : Int32} {v1 : Int32} {r9 : Int32} (hN : Γ.nL = 2) (C : Cx Γ cJ8_numberOfTrailingZeros RJ8 (0, 0, 0) 0) (hE : Rets Γ cJ8_numberOfTrailingZeros (some .int) 0 0 (fun v w => v = some (.int r9) ∧ w = ws)) (h : gJ8_numberOfTrailingZeros_62 v0 v1 = some r9) : Go Γ 0 0 ws 62 [(0, .int v0), (1, .int v1)] [] := by
  dsimp only [gJ8_numberOfTrailingZeros_62] at h
  refine go_iload_n (pc := 62) C dJ8_numberOfTrailingZeros_62 rfl 0 rfl ?_
  refine go_iconst (pc := 63) (v := (4 : Int32)) C dJ8_numberOfTrailingZeros_63 (by decide) ?_
  refine go_icmp_le (pc := 64) (tgt := 74) C dJ8_numberOfTrailingZeros_64 (by decide) h (fun h => ?_) (fun h => ?_)
  · refine go_iload_n (pc := 74) C dJ8_numberOfTrailingZeros_74 rfl 1 rfl ?_
    refine go_iload_n (pc := 75) C dJ8_numberOfTrailingZeros_75 rfl 0 rfl ?_
    refine go_iconst (pc := 76) (v := (1 : Int32)) C dJ8_numberOfTrailingZeros_76 (by decide) ?_
    refine go_iushr (pc := 77) C dJ8_numberOfTrailingZeros_77 ?_
    refine go_iadd (pc := 78) C dJ8_numberOfTrailingZeros_78 ?_
    exact (hE 0 0 _ _ _ (Nat.zero_le _) (Nat.zero_le _)).1 _ rfl dJ8_numberOfTrailingZeros_79 ⟨congrArg (fun z => some (Value.int z)) (some1 h), rfl⟩
  · refine go_iinc (pc := 67) (v := (v1 + (2 : Int32))) C hN dJ8_numberOfTrailingZeros_67 (q := 1) rfl rfl (by decide) rfl ?_
    refine go_iload_n (pc := 70) C dJ8_numberOfTrailingZeros_70 rfl 1 rfl ?_
    refine go_iconst (pc := 71) (v := (2 : Int32)) C dJ8_numberOfTrailingZeros_71 (by decide) ?_
    refine go_iushr (pc := 72) C dJ8_numberOfTrailingZeros_72 ?_
    refine go_istore_n (pc := 73) C hN dJ8_numberOfTrailingZeros_73 rfl (by decide) rfl ?_
    refine go_iload_n (pc := 74) C dJ8_numberOfTrailingZeros_74 rfl 1 rfl ?_
    refine go_iload_n (pc := 75) C dJ8_numberOfTrailingZeros_75 rfl 0 rfl ?_
    refine go_iconst (pc := 76) (v := (1 : Int32)) C dJ8_numberOfTrailingZeros_76 (by decide) ?_
    refine go_iushr (pc := 77) C dJ8_numberOfTrailingZeros_77 ?_
    refine go_iadd (pc := 78) C dJ8_numberOfTrailingZeros_78 ?_
    exact (hE 0 0 _ _ _ (Nat.zero_le _) (Nat.zero_le _)).1 _ rfl dJ8_numberOfTrailingZeros_79 ⟨congrArg (fun z => some (Value.int z)) (some1 h), rfl⟩
theorem wJ8_numberOfTrailingZeros_34 {Γ : Gam} {ws : va_W} {v0 : Int32} {v1 : Int32} {r9 : Int32} (hN : Γ.nL = 2) (C : Cx Γ cJ8_numberOfTrailingZeros RJ8 (0, 0, 0) 0) (hE : Rets Γ cJ8_numberOfTrailingZeros (some .int) 0 0 (fun v w => v = some (.int r9) ∧ w = ws)) (h : gJ8_numberOfTrailingZeros_34 v0 v1 = some r9) : Go Γ 0 0 ws 34 [(0, .int v0), (1, .int v1)] [] := by
  dsimp only [gJ8_numberOfTrailingZeros_34] at h
  refine go_iload_n (pc := 34) C dJ8_numberOfTrailingZeros_34 rfl 0 rfl ?_
  refine go_sipush (pc := 35) (v := (256 : Int32)) C dJ8_numberOfTrailingZeros_35 (by decide) ?_
  refine go_icmp_le (pc := 38) (tgt := 49) C dJ8_numberOfTrailingZeros_38 (by decide) h (fun h => ?_) (fun h => ?_)
  · refine go_iload_n (pc := 49) C dJ8_numberOfTrailingZeros_49 rfl 0 rfl ?_
    refine go_bipush (pc := 50) (v := (16 : Int32)) C dJ8_numberOfTrailingZeros_50 (by decide) ?_
    refine go_icmp_le (pc := 52) (tgt := 62) C dJ8_numberOfTrailingZeros_52 (by decide) h (fun h => ?_) (fun h => ?_)
    · exact wJ8_numberOfTrailingZeros_62 hN C hE h
    · refine go_iinc (pc := 55) (v := (v1 + (4 : Int32))) C hN dJ8_numberOfTrailingZeros_55 (q := 1) rfl rfl (by decide) rfl ?_
      refine go_iload_n (pc := 58) C dJ8_numberOfTrailingZeros_58 rfl 1 rfl ?_
      refine go_iconst (pc := 59) (v := (4 : Int32)) C dJ8_numberOfTrailingZeros_59 (by decide) ?_
      refine go_iushr (pc := 60) C dJ8_numberOfTrailingZeros_60 ?_
      refine go_istore_n (pc := 61) C hN dJ8_numberOfTrailingZeros_61 rfl (by decide) rfl ?_
      exact wJ8_numberOfTrailingZeros_62 hN C hE h
  · refine go_iinc (pc := 41) (v := (v1 + (8 : Int32))) C hN dJ8_numberOfTrailingZeros_41 (q := 1) rfl rfl (by decide) rfl ?_
    refine go_iload_n (pc := 44) C dJ8_numberOfTrailingZeros_44 rfl 1 rfl ?_
    refine go_bipush (pc := 45) (v := (8 : Int32)) C dJ8_numberOfTrailingZeros_45 (by decide) ?_
    refine go_iushr (pc := 47) C dJ8_numberOfTrailingZeros_47 ?_
    refine go_istore_n (pc := 48) C hN dJ8_numberOfTrailingZeros_48 rfl (by decide) rfl ?_
    refine go_iload_n (pc := 49) C dJ8_numberOfTrailingZeros_49 rfl 0 rfl ?_
    refine go_bipush (pc := 50) (v := (16 : Int32)) C dJ8_numberOfTrailingZeros_50 (by decide) ?_
    refine go_icmp_le (pc := 52) (tgt := 62) C dJ8_numberOfTrailingZeros_52 (by decide) h (fun h => ?_) (fun h => ?_)
    · exact wJ8_numberOfTrailingZeros_62 hN C hE h
    · refine go_iinc (pc := 55) (v := ((v1 + (8 : Int32)) + (4 : Int32))) C hN dJ8_numberOfTrailingZeros_55 (q := 1) rfl rfl (by decide) rfl ?_
      refine go_iload_n (pc := 58) C dJ8_numberOfTrailingZeros_58 rfl 1 rfl ?_
      refine go_iconst (pc := 59) (v := (4 : Int32)) C dJ8_numberOfTrailingZeros_59 (by decide) ?_
      refine go_iushr (pc := 60) C dJ8_numberOfTrailingZeros_60 ?_
      refine go_topi (pc := 61) (fun y1 ey1 => ?_)
      have h := ltv_eq ey1 h
      refine go_istore_n (pc := 61) C hN dJ8_numberOfTrailingZeros_61 rfl (by decide) rfl ?_
      exact wJ8_numberOfTrailingZeros_62 hN C hE h
theorem mJ8_numberOfTrailingZeros {l : Launch} {d : gD} {ws : va_W} {v0 : Int32} {r9 : Int32} (h : fJ8_numberOfTrailingZeros v0 = some r9) : Mt l d yJ8_numberOfTrailingZeros cJ8_numberOfTrailingZeros 2 (some .int) (0, 0, 0) 0 ws [.int v0] (fun v w => v = some (.int r9) ∧ w = ws) := by
  refine Mt.of j8pn (Nat.le_of_ble_eq_true rfl) ?_
  intro Γ hl hd hN C hE
  subst hl; subst hd
  show Go Γ 0 0 ws 0 [(0, .int v0)] []
  dsimp only [fJ8_numberOfTrailingZeros] at h
  refine go_iload_n (pc := 0) C dJ8_numberOfTrailingZeros_0 rfl 0 rfl ?_
  refine go_iconst (pc := 1) (v := (-1 : Int32)) C dJ8_numberOfTrailingZeros_1 (by decide) ?_
  refine go_ixor (pc := 2) C dJ8_numberOfTrailingZeros_2 ?_
  refine go_iload_n (pc := 3) C dJ8_numberOfTrailingZeros_3 rfl 0 rfl ?_
  refine go_iconst (pc := 4) (v := (1 : Int32)) C dJ8_numberOfTrailingZeros_4 (by decide) ?_
  refine go_isub (pc := 5) C dJ8_numberOfTrailingZeros_5 ?_
  refine go_iand (pc := 6) C dJ8_numberOfTrailingZeros_6 ?_
  refine go_istore_n (pc := 7) C hN dJ8_numberOfTrailingZeros_7 rfl (by decide) rfl ?_
  refine go_iload_n (pc := 8) C dJ8_numberOfTrailingZeros_8 rfl 0 rfl ?_
  refine go_if_gt (pc := 9) (tgt := 17) C dJ8_numberOfTrailingZeros_9 (by decide) h (fun h => ?_) (fun h => ?_)
  · refine go_iconst (pc := 17) (v := (1 : Int32)) C dJ8_numberOfTrailingZeros_17 (by decide) ?_
    refine go_istore_n (pc := 18) C hN dJ8_numberOfTrailingZeros_18 rfl (by decide) rfl ?_
    refine go_iload_n (pc := 19) C dJ8_numberOfTrailingZeros_19 rfl 1 rfl ?_
    refine go_ldc_w (pc := 20) C dJ8_numberOfTrailingZeros_20 q1164 ?_
    refine go_icmp_le (pc := 23) (tgt := 34) C dJ8_numberOfTrailingZeros_23 (by decide) h (fun h => ?_) (fun h => ?_)
    · refine go_sub [1, 0] rfl ?_
      exact wJ8_numberOfTrailingZeros_34 hN C hE h
    · refine go_iinc (pc := 26) (v := (17 : Int32)) C hN dJ8_numberOfTrailingZeros_26 (q := 0) rfl (by decide) (by decide) rfl ?_
      refine go_iload_n (pc := 29) C dJ8_numberOfTrailingZeros_29 rfl 1 rfl ?_
      refine go_bipush (pc := 30) (v := (16 : Int32)) C dJ8_numberOfTrailingZeros_30 (by decide) ?_
      refine go_iushr (pc := 32) C dJ8_numberOfTrailingZeros_32 ?_
      refine go_topi (pc := 33) (fun y2 ey2 => ?_)
      have h := ltv_eq ey2 h
      refine go_istore_n (pc := 33) C hN dJ8_numberOfTrailingZeros_33 rfl (by decide) rfl ?_
      exact wJ8_numberOfTrailingZeros_34 hN C hE h
  · refine go_iload_n (pc := 12) C dJ8_numberOfTrailingZeros_12 rfl 0 rfl ?_
    refine go_bipush (pc := 13) (v := (32 : Int32)) C dJ8_numberOfTrailingZeros_13 (by decide) ?_
    refine go_iand (pc := 15) C dJ8_numberOfTrailingZeros_15 ?_
    exact (hE 0 0 _ _ _ (Nat.zero_le _) (Nat.zero_le _)).1 _ rfl dJ8_numberOfTrailingZeros_16 ⟨congrArg (fun z => some (Value.int z)) (some1 h), rfl⟩
theorem m1_lays {l : Launch} {d : gD} {a : Nat → Nat} {s0 : Bl} {v1 : Int32} {s9 : Bl} (h : f1_lays s0 v1 = some s9) : Mt l d yX1_lays cX1_lays 3 none (1, 0, 0) 26 (bW d 1 FK1 a s0) [.ref (a 0), .int v1] (fun v w => v = none ∧ w = (bW d 1 FK1 a s9)) := by
  refine Mt.of x1pn (Nat.le_of_ble_eq_true rfl) ?_
  intro Γ hl hd hN C hE
  subst hl; subst hd
  show Go Γ 0 0 (bW Γ.d 1 FK1 a s0) 0 [(0, .ref (a 0)), (1, .int v1)] []
  dsimp only [f1_lays] at h
  refine go_bipush (pc := 0) (v := (77 : Int32)) C dX1_lays_0 (by decide) ?_
  refine go_iload_n (pc := 2) C dX1_lays_2 rfl 1 rfl ?_
  refine go_imul (pc := 3) C dX1_lays_3 ?_
  refine go_istore_n (pc := 4) C hN dX1_lays_4 rfl (by decide) rfl ?_
  refine go_aload_n (pc := 5) C dX1_lays_5 rfl 1 rfl ?_
  refine x1gr_24 (pc := 6) C dX1_lays_6 ?_
  refine go_iload_n (pc := 9) C dX1_lays_9 rfl 0 rfl ?_
  refine go_aload_n (pc := 10) C dX1_lays_10 rfl 1 rfl ?_
  refine x1gi_6 (pc := 11) C dX1_lays_11 ?_
  refine go_iast (pc := 14) C x1pA_24 h dX1_lays_14 (fun h => ?_)
  refine go_aload_n (pc := 15) C dX1_lays_15 rfl 1 rfl ?_
  refine x1gr_24 (pc := 16) C dX1_lays_16 ?_
  refine go_iload_n (pc := 19) C dX1_lays_19 rfl 0 rfl ?_
  refine go_iconst (pc := 20) (v := (1 : Int32)) C dX1_lays_20 (by decide) ?_
  refine go_iadd (pc := 21) C dX1_lays_21 ?_
  refine go_aload_n (pc := 22) C dX1_lays_22 rfl 1 rfl ?_
  refine x1gi_4 (pc := 23) C dX1_lays_23 ?_
  refine go_iast (pc := 26) C x1pA_24 h dX1_lays_26 (fun h => ?_)
  refine go_nm (pc := 27) (fun z9 => (bW Γ.d 1 FK1 a z9)) (fun s1 es1 => ?_)
  have h := ltv_eq es1 h
  refine go_aload_n (pc := 27) C dX1_lays_27 rfl 1 rfl ?_
  refine x1gr_24 (pc := 28) C dX1_lays_28 ?_
  refine go_iload_n (pc := 31) C dX1_lays_31 rfl 0 rfl ?_
  refine go_iconst (pc := 32) (v := (2 : Int32)) C dX1_lays_32 (by decide) ?_
  refine go_iadd (pc := 33) C dX1_lays_33 ?_
  refine go_aload_n (pc := 34) C dX1_lays_34 rfl 1 rfl ?_
  refine x1gi_5 (pc := 35) C dX1_lays_35 ?_
  refine go_iast (pc := 38) C x1pA_24 h dX1_lays_38 (fun h => ?_)
  refine go_aload_n (pc := 39) C dX1_lays_39 rfl 1 rfl ?_
  refine x1gr_11 (pc := 40) C dX1_lays_40 ?_
  refine go_iconst (pc := 43) (v := (0 : Int32)) C dX1_lays_43 (by decide) ?_
  refine go_aload_n (pc := 44) C dX1_lays_44 rfl 1 rfl ?_
  refine x1gr_24 (pc := 45) C dX1_lays_45 ?_
  refine go_iload_n (pc := 48) C dX1_lays_48 rfl 0 rfl ?_
  refine go_iconst (pc := 49) (v := (3 : Int32)) C dX1_lays_49 (by decide) ?_
  refine go_iadd (pc := 50) C dX1_lays_50 ?_
  refine go_bipush (pc := 51) (v := (6 : Int32)) C dX1_lays_51 (by decide) ?_
  obtain ⟨hc9, h⟩ := chk_some h
  refine go_copy (pc := 53) (sp' := 0) (dp' := ((((77 : Int32) * v1) + (3 : Int32))).toNatClampNeg) (m' := 6) C x1aA_11 x1pS_24 hc9 (by decide) rfl (by decide) q555 (by decide) (Nat.le_of_ble_eq_true rfl) dX1_lays_53 ?_
  refine go_nm (pc := 56) (fun z9 => (bW Γ.d 1 FK1 a z9)) (fun s2 es2 => ?_)
  have h := ltv_eq es2 h
  refine go_aload_n (pc := 56) C dX1_lays_56 rfl 1 rfl ?_
  refine x1gr_12 (pc := 57) C dX1_lays_57 ?_
  refine go_iconst (pc := 60) (v := (0 : Int32)) C dX1_lays_60 (by decide) ?_
  refine go_aload_n (pc := 61) C dX1_lays_61 rfl 1 rfl ?_
  refine x1gr_24 (pc := 62) C dX1_lays_62 ?_
  refine go_iload_n (pc := 65) C dX1_lays_65 rfl 0 rfl ?_
  refine go_bipush (pc := 66) (v := (9 : Int32)) C dX1_lays_66 (by decide) ?_
  refine go_iadd (pc := 68) C dX1_lays_68 ?_
  refine go_bipush (pc := 69) (v := (8 : Int32)) C dX1_lays_69 (by decide) ?_
  obtain ⟨hc9, h⟩ := chk_some h
  refine go_copy (pc := 71) (sp' := 0) (dp' := ((((77 : Int32) * v1) + (9 : Int32))).toNatClampNeg) (m' := 8) C x1aA_12 x1pS_24 hc9 (by decide) rfl (by decide) q555 (by decide) (Nat.le_of_ble_eq_true rfl) dX1_lays_71 ?_
  refine go_aload_n (pc := 74) C dX1_lays_74 rfl 1 rfl ?_
  refine x1gr_14 (pc := 75) C dX1_lays_75 ?_
  refine go_iconst (pc := 78) (v := (0 : Int32)) C dX1_lays_78 (by decide) ?_
  refine go_aload_n (pc := 79) C dX1_lays_79 rfl 1 rfl ?_
  refine x1gr_24 (pc := 80) C dX1_lays_80 ?_
  refine go_iload_n (pc := 83) C dX1_lays_83 rfl 0 rfl ?_
  refine go_bipush (pc := 84) (v := (17 : Int32)) C dX1_lays_84 (by decide) ?_
  refine go_iadd (pc := 86) C dX1_lays_86 ?_
  refine go_bipush (pc := 87) (v := (8 : Int32)) C dX1_lays_87 (by decide) ?_
  obtain ⟨hc9, h⟩ := chk_some h
  refine go_copy (pc := 89) (sp' := 0) (dp' := ((((77 : Int32) * v1) + (17 : Int32))).toNatClampNeg) (m' := 8) C x1aA_14 x1pS_24 hc9 (by decide) rfl (by decide) q555 (by decide) (Nat.le_of_ble_eq_true rfl) dX1_lays_89 ?_
  refine go_nm (pc := 92) (fun z9 => (bW Γ.d 1 FK1 a z9)) (fun s3 es3 => ?_)
  have h := ltv_eq es3 h
  refine go_aload_n (pc := 92) C dX1_lays_92 rfl 1 rfl ?_
  refine x1gr_16 (pc := 93) C dX1_lays_93 ?_
  refine go_iconst (pc := 96) (v := (0 : Int32)) C dX1_lays_96 (by decide) ?_
  refine go_aload_n (pc := 97) C dX1_lays_97 rfl 1 rfl ?_
  refine x1gr_24 (pc := 98) C dX1_lays_98 ?_
  refine go_iload_n (pc := 101) C dX1_lays_101 rfl 0 rfl ?_
  refine go_bipush (pc := 102) (v := (25 : Int32)) C dX1_lays_102 (by decide) ?_
  refine go_iadd (pc := 104) C dX1_lays_104 ?_
  refine go_bipush (pc := 105) (v := (8 : Int32)) C dX1_lays_105 (by decide) ?_
  obtain ⟨hc9, h⟩ := chk_some h
  refine go_copy (pc := 107) (sp' := 0) (dp' := ((((77 : Int32) * v1) + (25 : Int32))).toNatClampNeg) (m' := 8) C x1aA_16 x1pS_24 hc9 (by decide) rfl (by decide) q555 (by decide) (Nat.le_of_ble_eq_true rfl) dX1_lays_107 ?_
  refine go_aload_n (pc := 110) C dX1_lays_110 rfl 1 rfl ?_
  refine x1gr_17 (pc := 111) C dX1_lays_111 ?_
  refine go_iconst (pc := 114) (v := (0 : Int32)) C dX1_lays_114 (by decide) ?_
  refine go_aload_n (pc := 115) C dX1_lays_115 rfl 1 rfl ?_
  refine x1gr_24 (pc := 116) C dX1_lays_116 ?_
  refine go_iload_n (pc := 119) C dX1_lays_119 rfl 0 rfl ?_
  refine go_bipush (pc := 120) (v := (33 : Int32)) C dX1_lays_120 (by decide) ?_
  refine go_iadd (pc := 122) C dX1_lays_122 ?_
  refine go_bipush (pc := 123) (v := (8 : Int32)) C dX1_lays_123 (by decide) ?_
  obtain ⟨hc9, h⟩ := chk_some h
  refine go_copy (pc := 125) (sp' := 0) (dp' := ((((77 : Int32) * v1) + (33 : Int32))).toNatClampNeg) (m' := 8) C x1aA_17 x1pS_24 hc9 (by decide) rfl (by decide) q555 (by decide) (Nat.le_of_ble_eq_true rfl) dX1_lays_125 ?_
  refine go_nm (pc := 128) (fun z9 => (bW Γ.d 1 FK1 a z9)) (fun s4 es4 => ?_)
  have h := ltv_eq es4 h
  refine go_aload_n (pc := 128) C dX1_lays_128 rfl 1 rfl ?_
  refine x1gr_18 (pc := 129) C dX1_lays_129 ?_
  refine go_iconst (pc := 132) (v := (0 : Int32)) C dX1_lays_132 (by decide) ?_
  refine go_aload_n (pc := 133) C dX1_lays_133 rfl 1 rfl ?_
  refine x1gr_24 (pc := 134) C dX1_lays_134 ?_
  refine go_iload_n (pc := 137) C dX1_lays_137 rfl 0 rfl ?_
  refine go_bipush (pc := 138) (v := (41 : Int32)) C dX1_lays_138 (by decide) ?_
  refine go_iadd (pc := 140) C dX1_lays_140 ?_
  refine go_bipush (pc := 141) (v := (12 : Int32)) C dX1_lays_141 (by decide) ?_
  obtain ⟨hc9, h⟩ := chk_some h
  refine go_copy (pc := 143) (sp' := 0) (dp' := ((((77 : Int32) * v1) + (41 : Int32))).toNatClampNeg) (m' := 12) C x1aA_18 x1pS_24 hc9 (by decide) rfl (by decide) q555 (by decide) (Nat.le_of_ble_eq_true rfl) dX1_lays_143 ?_
  refine go_aload_n (pc := 146) C dX1_lays_146 rfl 1 rfl ?_
  refine x1gr_19 (pc := 147) C dX1_lays_147 ?_
  refine go_iconst (pc := 150) (v := (0 : Int32)) C dX1_lays_150 (by decide) ?_
  refine go_aload_n (pc := 151) C dX1_lays_151 rfl 1 rfl ?_
  refine x1gr_24 (pc := 152) C dX1_lays_152 ?_
  refine go_iload_n (pc := 155) C dX1_lays_155 rfl 0 rfl ?_
  refine go_bipush (pc := 156) (v := (53 : Int32)) C dX1_lays_156 (by decide) ?_
  refine go_iadd (pc := 158) C dX1_lays_158 ?_
  refine go_bipush (pc := 159) (v := (12 : Int32)) C dX1_lays_159 (by decide) ?_
  obtain ⟨hc9, h⟩ := chk_some h
  refine go_copy (pc := 161) (sp' := 0) (dp' := ((((77 : Int32) * v1) + (53 : Int32))).toNatClampNeg) (m' := 12) C x1aA_19 x1pS_24 hc9 (by decide) rfl (by decide) q555 (by decide) (Nat.le_of_ble_eq_true rfl) dX1_lays_161 ?_
  refine go_nm (pc := 164) (fun z9 => (bW Γ.d 1 FK1 a z9)) (fun s5 es5 => ?_)
  have h := ltv_eq es5 h
  refine go_aload_n (pc := 164) C dX1_lays_164 rfl 1 rfl ?_
  refine x1gr_20 (pc := 165) C dX1_lays_165 ?_
  refine go_iconst (pc := 168) (v := (0 : Int32)) C dX1_lays_168 (by decide) ?_
  refine go_aload_n (pc := 169) C dX1_lays_169 rfl 1 rfl ?_
  refine x1gr_24 (pc := 170) C dX1_lays_170 ?_
  refine go_iload_n (pc := 173) C dX1_lays_173 rfl 0 rfl ?_
  refine go_bipush (pc := 174) (v := (65 : Int32)) C dX1_lays_174 (by decide) ?_
  refine go_iadd (pc := 176) C dX1_lays_176 ?_
  refine go_bipush (pc := 177) (v := (12 : Int32)) C dX1_lays_177 (by decide) ?_
  obtain ⟨hc9, h⟩ := chk_some h
  refine go_copy (pc := 179) (sp' := 0) (dp' := ((((77 : Int32) * v1) + (65 : Int32))).toNatClampNeg) (m' := 12) C x1aA_20 x1pS_24 hc9 (by decide) rfl (by decide) q555 (by decide) (Nat.le_of_ble_eq_true rfl) dX1_lays_179 ?_
  exact (hE 0 0 _ _ _ (Nat.zero_le _) (Nat.zero_le _)).2.2.2.1 rfl dX1_lays_182 ⟨rfl, congrArg (fun z => bW Γ.d 1 FK1 a z) (some1 h)⟩
theorem m1_takes {l : Launch} {d : gD} {a : Nat → Nat} {s0 : Bl} {v1 : Int32} {s9 : Bl} (h : f1_takes s0 v1 = some s9) : Mt l d yX1_takes cX1_takes 3 none (1, 0, 0) 26 (bW d 1 FK1 a s0) [.ref (a 0), .int v1] (fun v w => v = none ∧ w = (bW d 1 FK1 a s9)) := by
  refine Mt.of x1pn (Nat.le_of_ble_eq_true rfl) ?_
  intro Γ hl hd hN C hE
  subst hl; subst hd
  show Go Γ 0 0 (bW Γ.d 1 FK1 a s0) 0 [(0, .ref (a 0)), (1, .int v1)] []
  dsimp only [f1_takes] at h
  refine go_bipush (pc := 0) (v := (77 : Int32)) C dX1_takes_0 (by decide) ?_
  refine go_iload_n (pc := 2) C dX1_takes_2 rfl 1 rfl ?_
  refine go_imul (pc := 3) C dX1_takes_3 ?_
  refine go_istore_n (pc := 4) C hN dX1_takes_4 rfl (by decide) rfl ?_
  refine go_aload_n (pc := 5) C dX1_takes_5 rfl 1 rfl ?_
  refine go_aload_n (pc := 6) C dX1_takes_6 rfl 1 rfl ?_
  refine x1gr_24 (pc := 7) C dX1_takes_7 ?_
  refine go_iload_n (pc := 10) C dX1_takes_10 rfl 0 rfl ?_
  refine go_iald (pc := 11) C x1aA_24 h dX1_takes_11 (fun h => ?_)
  refine x1pi_6 (pc := 12) C dX1_takes_12 ?_
  refine go_aload_n (pc := 15) C dX1_takes_15 rfl 1 rfl ?_
  refine go_aload_n (pc := 16) C dX1_takes_16 rfl 1 rfl ?_
  refine x1gr_24 (pc := 17) C dX1_takes_17 ?_
  refine go_iload_n (pc := 20) C dX1_takes_20 rfl 0 rfl ?_
  refine go_iconst (pc := 21) (v := (1 : Int32)) C dX1_takes_21 (by decide) ?_
  refine go_iadd (pc := 22) C dX1_takes_22 ?_
  refine go_iald (pc := 23) C x1aA_24 h dX1_takes_23 (fun h => ?_)
  refine x1pi_4 (pc := 24) C dX1_takes_24 ?_
  refine go_nm (pc := 27) (fun z9 => (bW Γ.d 1 FK1 a z9)) (fun s1 es1 => ?_)
  have h := ltv_eq es1 h
  refine go_aload_n (pc := 27) C dX1_takes_27 rfl 1 rfl ?_
  refine go_aload_n (pc := 28) C dX1_takes_28 rfl 1 rfl ?_
  refine x1gr_24 (pc := 29) C dX1_takes_29 ?_
  refine go_iload_n (pc := 32) C dX1_takes_32 rfl 0 rfl ?_
  refine go_iconst (pc := 33) (v := (2 : Int32)) C dX1_takes_33 (by decide) ?_
  refine go_iadd (pc := 34) C dX1_takes_34 ?_
  refine go_iald (pc := 35) C x1aA_24 h dX1_takes_35 (fun h => ?_)
  refine x1pi_5 (pc := 36) C dX1_takes_36 ?_
  refine go_aload_n (pc := 39) C dX1_takes_39 rfl 1 rfl ?_
  refine x1gr_24 (pc := 40) C dX1_takes_40 ?_
  refine go_iload_n (pc := 43) C dX1_takes_43 rfl 0 rfl ?_
  refine go_iconst (pc := 44) (v := (3 : Int32)) C dX1_takes_44 (by decide) ?_
  refine go_iadd (pc := 45) C dX1_takes_45 ?_
  refine go_aload_n (pc := 46) C dX1_takes_46 rfl 1 rfl ?_
  refine x1gr_11 (pc := 47) C dX1_takes_47 ?_
  refine go_iconst (pc := 50) (v := (0 : Int32)) C dX1_takes_50 (by decide) ?_
  refine go_bipush (pc := 51) (v := (6 : Int32)) C dX1_takes_51 (by decide) ?_
  obtain ⟨hc9, h⟩ := chk_some h
  refine go_copy (pc := 53) (sp' := ((((77 : Int32) * v1) + (3 : Int32))).toNatClampNeg) (dp' := 0) (m' := 6) C x1aA_24 x1pS_11 hc9 rfl (by decide) (by decide) q555 (by decide) (Nat.le_of_ble_eq_true rfl) dX1_takes_53 ?_
  refine go_nm (pc := 56) (fun z9 => (bW Γ.d 1 FK1 a z9)) (fun s2 es2 => ?_)
  have h := ltv_eq es2 h
  refine go_aload_n (pc := 56) C dX1_takes_56 rfl 1 rfl ?_
  refine x1gr_24 (pc := 57) C dX1_takes_57 ?_
  refine go_iload_n (pc := 60) C dX1_takes_60 rfl 0 rfl ?_
  refine go_bipush (pc := 61) (v := (9 : Int32)) C dX1_takes_61 (by decide) ?_
  refine go_iadd (pc := 63) C dX1_takes_63 ?_
  refine go_aload_n (pc := 64) C dX1_takes_64 rfl 1 rfl ?_
  refine x1gr_12 (pc := 65) C dX1_takes_65 ?_
  refine go_iconst (pc := 68) (v := (0 : Int32)) C dX1_takes_68 (by decide) ?_
  refine go_bipush (pc := 69) (v := (8 : Int32)) C dX1_takes_69 (by decide) ?_
  obtain ⟨hc9, h⟩ := chk_some h
  refine go_copy (pc := 71) (sp' := ((((77 : Int32) * v1) + (9 : Int32))).toNatClampNeg) (dp' := 0) (m' := 8) C x1aA_24 x1pS_12 hc9 rfl (by decide) (by decide) q555 (by decide) (Nat.le_of_ble_eq_true rfl) dX1_takes_71 ?_
  refine go_aload_n (pc := 74) C dX1_takes_74 rfl 1 rfl ?_
  refine x1gr_24 (pc := 75) C dX1_takes_75 ?_
  refine go_iload_n (pc := 78) C dX1_takes_78 rfl 0 rfl ?_
  refine go_bipush (pc := 79) (v := (17 : Int32)) C dX1_takes_79 (by decide) ?_
  refine go_iadd (pc := 81) C dX1_takes_81 ?_
  refine go_aload_n (pc := 82) C dX1_takes_82 rfl 1 rfl ?_
  refine x1gr_14 (pc := 83) C dX1_takes_83 ?_
  refine go_iconst (pc := 86) (v := (0 : Int32)) C dX1_takes_86 (by decide) ?_
  refine go_bipush (pc := 87) (v := (8 : Int32)) C dX1_takes_87 (by decide) ?_
  obtain ⟨hc9, h⟩ := chk_some h
  refine go_copy (pc := 89) (sp' := ((((77 : Int32) * v1) + (17 : Int32))).toNatClampNeg) (dp' := 0) (m' := 8) C x1aA_24 x1pS_14 hc9 rfl (by decide) (by decide) q555 (by decide) (Nat.le_of_ble_eq_true rfl) dX1_takes_89 ?_
  refine go_nm (pc := 92) (fun z9 => (bW Γ.d 1 FK1 a z9)) (fun s3 es3 => ?_)
  have h := ltv_eq es3 h
  refine go_aload_n (pc := 92) C dX1_takes_92 rfl 1 rfl ?_
  refine x1gr_24 (pc := 93) C dX1_takes_93 ?_
  refine go_iload_n (pc := 96) C dX1_takes_96 rfl 0 rfl ?_
  refine go_bipush (pc := 97) (v := (25 : Int32)) C dX1_takes_97 (by decide) ?_
  refine go_iadd (pc := 99) C dX1_takes_99 ?_
  refine go_aload_n (pc := 100) C dX1_takes_100 rfl 1 rfl ?_
  refine x1gr_16 (pc := 101) C dX1_takes_101 ?_
  refine go_iconst (pc := 104) (v := (0 : Int32)) C dX1_takes_104 (by decide) ?_
  refine go_bipush (pc := 105) (v := (8 : Int32)) C dX1_takes_105 (by decide) ?_
  obtain ⟨hc9, h⟩ := chk_some h
  refine go_copy (pc := 107) (sp' := ((((77 : Int32) * v1) + (25 : Int32))).toNatClampNeg) (dp' := 0) (m' := 8) C x1aA_24 x1pS_16 hc9 rfl (by decide) (by decide) q555 (by decide) (Nat.le_of_ble_eq_true rfl) dX1_takes_107 ?_
  refine go_aload_n (pc := 110) C dX1_takes_110 rfl 1 rfl ?_
  refine x1gr_24 (pc := 111) C dX1_takes_111 ?_
  refine go_iload_n (pc := 114) C dX1_takes_114 rfl 0 rfl ?_
  refine go_bipush (pc := 115) (v := (33 : Int32)) C dX1_takes_115 (by decide) ?_
  refine go_iadd (pc := 117) C dX1_takes_117 ?_
  refine go_aload_n (pc := 118) C dX1_takes_118 rfl 1 rfl ?_
  refine x1gr_17 (pc := 119) C dX1_takes_119 ?_
  refine go_iconst (pc := 122) (v := (0 : Int32)) C dX1_takes_122 (by decide) ?_
  refine go_bipush (pc := 123) (v := (8 : Int32)) C dX1_takes_123 (by decide) ?_
  obtain ⟨hc9, h⟩ := chk_some h
  refine go_copy (pc := 125) (sp' := ((((77 : Int32) * v1) + (33 : Int32))).toNatClampNeg) (dp' := 0) (m' := 8) C x1aA_24 x1pS_17 hc9 rfl (by decide) (by decide) q555 (by decide) (Nat.le_of_ble_eq_true rfl) dX1_takes_125 ?_
  refine go_nm (pc := 128) (fun z9 => (bW Γ.d 1 FK1 a z9)) (fun s4 es4 => ?_)
  have h := ltv_eq es4 h
  refine go_aload_n (pc := 128) C dX1_takes_128 rfl 1 rfl ?_
  refine x1gr_24 (pc := 129) C dX1_takes_129 ?_
  refine go_iload_n (pc := 132) C dX1_takes_132 rfl 0 rfl ?_
  refine go_bipush (pc := 133) (v := (41 : Int32)) C dX1_takes_133 (by decide) ?_
  refine go_iadd (pc := 135) C dX1_takes_135 ?_
  refine go_aload_n (pc := 136) C dX1_takes_136 rfl 1 rfl ?_
  refine x1gr_18 (pc := 137) C dX1_takes_137 ?_
  refine go_iconst (pc := 140) (v := (0 : Int32)) C dX1_takes_140 (by decide) ?_
  refine go_bipush (pc := 141) (v := (12 : Int32)) C dX1_takes_141 (by decide) ?_
  obtain ⟨hc9, h⟩ := chk_some h
  refine go_copy (pc := 143) (sp' := ((((77 : Int32) * v1) + (41 : Int32))).toNatClampNeg) (dp' := 0) (m' := 12) C x1aA_24 x1pS_18 hc9 rfl (by decide) (by decide) q555 (by decide) (Nat.le_of_ble_eq_true rfl) dX1_takes_143 ?_
  refine go_aload_n (pc := 146) C dX1_takes_146 rfl 1 rfl ?_
  refine x1gr_24 (pc := 147) C dX1_takes_147 ?_
  refine go_iload_n (pc := 150) C dX1_takes_150 rfl 0 rfl ?_
  refine go_bipush (pc := 151) (v := (53 : Int32)) C dX1_takes_151 (by decide) ?_
  refine go_iadd (pc := 153) C dX1_takes_153 ?_
  refine go_aload_n (pc := 154) C dX1_takes_154 rfl 1 rfl ?_
  refine x1gr_19 (pc := 155) C dX1_takes_155 ?_
  refine go_iconst (pc := 158) (v := (0 : Int32)) C dX1_takes_158 (by decide) ?_
  refine go_bipush (pc := 159) (v := (12 : Int32)) C dX1_takes_159 (by decide) ?_
  obtain ⟨hc9, h⟩ := chk_some h
  refine go_copy (pc := 161) (sp' := ((((77 : Int32) * v1) + (53 : Int32))).toNatClampNeg) (dp' := 0) (m' := 12) C x1aA_24 x1pS_19 hc9 rfl (by decide) (by decide) q555 (by decide) (Nat.le_of_ble_eq_true rfl) dX1_takes_161 ?_
  refine go_nm (pc := 164) (fun z9 => (bW Γ.d 1 FK1 a z9)) (fun s5 es5 => ?_)
  have h := ltv_eq es5 h
  refine go_aload_n (pc := 164) C dX1_takes_164 rfl 1 rfl ?_
  refine x1gr_24 (pc := 165) C dX1_takes_165 ?_
  refine go_iload_n (pc := 168) C dX1_takes_168 rfl 0 rfl ?_
  refine go_bipush (pc := 169) (v := (65 : Int32)) C dX1_takes_169 (by decide) ?_
  refine go_iadd (pc := 171) C dX1_takes_171 ?_
  refine go_aload_n (pc := 172) C dX1_takes_172 rfl 1 rfl ?_
  refine x1gr_20 (pc := 173) C dX1_takes_173 ?_
  refine go_iconst (pc := 176) (v := (0 : Int32)) C dX1_takes_176 (by decide) ?_
  refine go_bipush (pc := 177) (v := (12 : Int32)) C dX1_takes_177 (by decide) ?_
  obtain ⟨hc9, h⟩ := chk_some h
  refine go_copy (pc := 179) (sp' := ((((77 : Int32) * v1) + (65 : Int32))).toNatClampNeg) (dp' := 0) (m' := 12) C x1aA_24 x1pS_20 hc9 rfl (by decide) (by decide) q555 (by decide) (Nat.le_of_ble_eq_true rfl) dX1_takes_179 ?_
  exact (hE 0 0 _ _ _ (Nat.zero_le _) (Nat.zero_le _)).2.2.2.1 rfl dX1_takes_182 ⟨rfl, congrArg (fun z => bW Γ.d 1 FK1 a z) (some1 h)⟩
theorem m1_isAfloat {l : Launch} {d : gD} {a : Nat → Nat} {s0 : Bl} {v1 : Int32} {r9 : Int32} (h : f1_isAfloat s0 v1 = some r9) : Mt l d yX1_isAfloat cX1_isAfloat 2 (some .boolean) (0, 0, 0) 0 (bW d 1 FK1 a s0) [.ref (a 0), .int v1] (fun v w => v = some (.int r9) ∧ w = (bW d 1 FK1 a s0)) := by
  refine Mt.of x1pn (Nat.le_of_ble_eq_true rfl) ?_
  intro Γ hl hd hN C hE
  subst hl; subst hd
  show Go Γ 0 0 (bW Γ.d 1 FK1 a s0) 0 [(0, .ref (a 0)), (1, .int v1)] []
  dsimp only [f1_isAfloat] at h
  refine go_iload_n (pc := 0) C dX1_isAfloat_0 rfl 1 rfl ?_
  refine go_if_lt (pc := 1) (tgt := 25) C dX1_isAfloat_1 (by decide) h (fun h => ?_) (fun h => ?_)
  · refine go_iconst (pc := 25) (v := (0 : Int32)) C dX1_isAfloat_25 (by decide) ?_
    exact (hE 0 0 _ _ _ (Nat.zero_le _) (Nat.zero_le _)).2.1 _ rfl (Or.inl rfl) dX1_isAfloat_26 ⟨congrArg (fun z => some (Value.int z)) (some1 h), rfl⟩
  · refine go_iload_n (pc := 4) C dX1_isAfloat_4 rfl 1 rfl ?_
    refine go_aload_n (pc := 5) C dX1_isAfloat_5 rfl 0 rfl ?_
    refine x1gi_2 (pc := 6) C dX1_isAfloat_6 ?_
    refine go_icmp_ge (pc := 9) (tgt := 25) C dX1_isAfloat_9 (by decide) h (fun h => ?_) (fun h => ?_)
    · refine go_iconst (pc := 25) (v := (0 : Int32)) C dX1_isAfloat_25 (by decide) ?_
      exact (hE 0 0 _ _ _ (Nat.zero_le _) (Nat.zero_le _)).2.1 _ rfl (Or.inl rfl) dX1_isAfloat_26 ⟨congrArg (fun z => some (Value.int z)) (some1 h), rfl⟩
    · refine go_aload_n (pc := 12) C dX1_isAfloat_12 rfl 0 rfl ?_
      refine x1gr_16 (pc := 13) C dX1_isAfloat_13 ?_
      refine go_iload_n (pc := 16) C dX1_isAfloat_16 rfl 1 rfl ?_
      refine go_iald (pc := 17) C x1aA_16 h dX1_isAfloat_17 (fun h => ?_)
      refine go_if_ne (pc := 18) (tgt := 25) C dX1_isAfloat_18 (by decide) h (fun h => ?_) (fun h => ?_)
      · refine go_iconst (pc := 25) (v := (0 : Int32)) C dX1_isAfloat_25 (by decide) ?_
        exact (hE 0 0 _ _ _ (Nat.zero_le _) (Nat.zero_le _)).2.1 _ rfl (Or.inl rfl) dX1_isAfloat_26 ⟨congrArg (fun z => some (Value.int z)) (some1 h), rfl⟩
      · refine go_iconst (pc := 21) (v := (1 : Int32)) C dX1_isAfloat_21 (by decide) ?_
        refine go_goto (pc := 22) (tgt := 26) C dX1_isAfloat_22 (by decide) ?_
        exact (hE 0 0 _ _ _ (Nat.zero_le _) (Nat.zero_le _)).2.1 _ rfl (Or.inr rfl) dX1_isAfloat_26 ⟨congrArg (fun z => some (Value.int z)) (some1 h), rfl⟩
theorem w1_afloat_4 {Γ : Gam} {a : Nat → Nat} {s0 : Bl} {r9 : Int32} (hN : Γ.nL = 3) (C : Cx Γ cX1_afloat RX1 (0, 0, 0) 0) (hE : Rets Γ cX1_afloat (some .int) 0 0 (fun v w => v = some (.int r9) ∧ w = (bW Γ.d 1 FK1 a s0))) : ∀ (n : Nat) (s : Int32 × Int32), loop (g1_afloat_4 s0) n s = some r9 → (fun s : Int32 × Int32 => Go Γ 0 0 (bW Γ.d 1 FK1 a s0) 4 [(0, .ref (a 0)), (1, .int s.1), (2, .int s.2)] []) s := by
  refine loop_walk (P := fun s : Int32 × Int32 => Go Γ 0 0 (bW Γ.d 1 FK1 a s0) 4 [(0, .ref (a 0)), (1, .int s.1), (2, .int s.2)] []) ?_
  intro K4 hK4 s h
  obtain ⟨v1, v2⟩ := s
  dsimp only [g1_afloat_4] at h
  show Go Γ 0 0 (bW Γ.d 1 FK1 a s0) 4 [(0, .ref (a 0)), (1, .int v1), (2, .int v2)] []
  refine go_iload_n (pc := 4) C dX1_afloat_4 rfl 2 rfl ?_
  refine go_aload_n (pc := 5) C dX1_afloat_5 rfl 0 rfl ?_
  refine x1gi_2 (pc := 6) C dX1_afloat_6 ?_
  refine go_icmp_ge (pc := 9) (tgt := 37) C dX1_afloat_9 (by decide) h (fun h => ?_) (fun h => ?_)
  · refine go_iload_n (pc := 37) C dX1_afloat_37 rfl 1 rfl ?_
    exact (hE 0 0 _ _ _ (Nat.zero_le _) (Nat.zero_le _)).1 _ rfl dX1_afloat_38 ⟨congrArg (fun z => some (Value.int z)) (some1 h), rfl⟩
  · refine go_iload_n (pc := 12) C dX1_afloat_12 rfl 1 rfl ?_
    refine go_aload_n (pc := 13) C dX1_afloat_13 rfl 0 rfl ?_
    refine x1gr_16 (pc := 14) C dX1_afloat_14 ?_
    refine go_iload_n (pc := 17) C dX1_afloat_17 rfl 2 rfl ?_
    refine go_iald (pc := 18) C x1aA_16 h dX1_afloat_18 (fun h => ?_)
    refine go_if_ne (pc := 19) (tgt := 28) C dX1_afloat_19 (by decide) h (fun h => ?_) (fun h => ?_)
    · refine go_iconst (pc := 28) (v := (0 : Int32)) C dX1_afloat_28 (by decide) ?_
      refine go_ior (pc := 29) C dX1_afloat_29 ?_
      refine go_istore_n (pc := 30) C hN dX1_afloat_30 rfl (by decide) rfl ?_
      refine go_iinc (pc := 31) (v := (v2 + (1 : Int32))) C hN dX1_afloat_31 (q := 2) rfl rfl (by decide) rfl ?_
      refine go_goto (pc := 34) (tgt := 4) C dX1_afloat_34 (by decide) ?_
      refine go_sub [2, 1, 0] rfl ?_
      exact hK4 ((v1 ||| (0 : Int32)), (v2 + (1 : Int32))) h
    · refine go_iconst (pc := 22) (v := (1 : Int32)) C dX1_afloat_22 (by decide) ?_
      refine go_iload_n (pc := 23) C dX1_afloat_23 rfl 2 rfl ?_
      refine go_ishl (pc := 24) C dX1_afloat_24 ?_
      refine go_goto (pc := 25) (tgt := 29) C dX1_afloat_25 (by decide) ?_
      refine go_ior (pc := 29) C dX1_afloat_29 ?_
      refine go_istore_n (pc := 30) C hN dX1_afloat_30 rfl (by decide) rfl ?_
      refine go_iinc (pc := 31) (v := (v2 + (1 : Int32))) C hN dX1_afloat_31 (q := 2) rfl rfl (by decide) rfl ?_
      refine go_goto (pc := 34) (tgt := 4) C dX1_afloat_34 (by decide) ?_
      refine go_sub [2, 1, 0] rfl ?_
      exact hK4 ((v1 ||| ((1 : Int32) <<< (v2 &&& 31))), (v2 + (1 : Int32))) h
theorem m1_afloat {l : Launch} {d : gD} {a : Nat → Nat} {s0 : Bl} {r9 : Int32} (h : f1_afloat s0 = some r9) : Mt l d yX1_afloat cX1_afloat 3 (some .int) (0, 0, 0) 0 (bW d 1 FK1 a s0) [.ref (a 0)] (fun v w => v = some (.int r9) ∧ w = (bW d 1 FK1 a s0)) := by
  refine Mt.of x1pn (Nat.le_of_ble_eq_true rfl) ?_
  intro Γ hl hd hN C hE
  subst hl; subst hd
  show Go Γ 0 0 (bW Γ.d 1 FK1 a s0) 0 [(0, .ref (a 0))] []
  dsimp only [f1_afloat] at h
  refine go_iconst (pc := 0) (v := (0 : Int32)) C dX1_afloat_0 (by decide) ?_
  refine go_istore_n (pc := 1) C hN dX1_afloat_1 rfl (by decide) rfl ?_
  refine go_iconst (pc := 2) (v := (0 : Int32)) C dX1_afloat_2 (by decide) ?_
  refine go_istore_n (pc := 3) C hN dX1_afloat_3 rfl (by decide) rfl ?_
  refine go_sub [2, 1, 0] rfl ?_
  exact w1_afloat_4 hN C hE FU ((0 : Int32), (0 : Int32)) h
theorem w1_pieceBy_18 {Γ : Gam} {a : Nat → Nat} {s0 : Bl} {v2 : Int32} {r9 : Int32} {K7 : Int32 × Int32 → Option Int32} (hN : Γ.nL = 6) (C : Cx Γ cX1_pieceBy RX1 (1, 0, 0) 21) (hE : Rets Γ cX1_pieceBy (some .int) 0 0 (fun v w => v = some (.int r9) ∧ w = (bW Γ.d 1 FK1 a s0)))
    (hK7 : ∀ s, K7 s = some r9 → (fun s : Int32 × Int32 => Go Γ 0 0 (bW Γ.d 1 FK1 a s0) 7 [(0, .ref (a 0)), (2, .int v2), (3, .int s.1), (4, .int s.2)] []) s) : ∀ (n : Nat) (s : Int32 × Int32 × Int32), loop (g1_pieceBy_18 s0 v2 K7) n s = some r9 → (fun s : Int32 × Int32 × Int32 => Go Γ 0 0 (bW Γ.d 1 FK1 a s0) 18 [(0, .ref (a 0)), (2, .int v2), (3, .int s.1), (4, .int s.2.1), (5, .int s.2.2)] []) s := by
  refine loop_walk (P := fun s : Int32 × Int32 × Int32 => Go Γ 0 0 (bW Γ.d 1 FK1 a s0) 18 [(0, .ref (a 0)), (2, .int v2), (3, .int s.1), (4, .int s.2.1), (5, .int s.2.2)] []) ?_
  intro K18 hK18 s h
  obtain ⟨v3, v4, v5⟩ := s
  dsimp only [g1_pieceBy_18] at h
  show Go Γ 0 0 (bW Γ.d 1 FK1 a s0) 18 [(0, .ref (a 0)), (2, .int v2), (3, .int v3), (4, .int v4), (5, .int v5)] []
  refine go_iload (pc := 18) C dX1_pieceBy_18 4 rfl ?_
  refine go_aload_n (pc := 20) C dX1_pieceBy_20 rfl 0 rfl ?_
  refine x1gi_5 (pc := 21) C dX1_pieceBy_21 ?_
  refine go_icmp_ge (pc := 24) (tgt := 95) C dX1_pieceBy_24 (by decide) h (fun h => ?_) (fun h => ?_)
  · refine go_goto (pc := 95) (tgt := 7) C dX1_pieceBy_95 (by decide) ?_
    refine go_sub [0, 1, 2, 3] rfl ?_
    exact hK7 (v3, v4) h
  · refine go_iload_n (pc := 27) C dX1_pieceBy_27 rfl 1 rfl ?_
    refine go_iload (pc := 28) C dX1_pieceBy_28 4 rfl ?_
    obtain ⟨r1, e1, h⟩ := bnd_some h
    refine go_callSNi (pc := 30) C [.int v2, .int v5] (m0_has e1) q889 q890 q138 q891 x0pd_has (by decide) (by decide) rfl (Nat.le_of_ble_eq_true rfl) ⟨Nat.zero_le _, Nat.zero_le _⟩ dX1_pieceBy_30 rfl ?_
    refine go_if_eq (pc := 33) (tgt := 89) C dX1_pieceBy_33 (by decide) h (fun h => ?_) (fun h => ?_)
    · refine go_iinc (pc := 89) (v := (v5 + (1 : Int32))) C hN dX1_pieceBy_89 (q := 4) rfl rfl (by decide) rfl ?_
      refine go_goto (pc := 92) (tgt := 18) C dX1_pieceBy_92 (by decide) ?_
      refine go_sub [1, 2, 3, 4, 0] rfl ?_
      exact hK18 (v3, v4, (v5 + (1 : Int32))) h
    · refine go_iload_n (pc := 36) C dX1_pieceBy_36 rfl 2 rfl ?_
      refine go_aload_n (pc := 37) C dX1_pieceBy_37 rfl 0 rfl ?_
      refine x1gr_18 (pc := 38) C dX1_pieceBy_38 ?_
      refine go_iload (pc := 41) C dX1_pieceBy_41 4 rfl ?_
      refine go_iald (pc := 43) C x1aA_18 h dX1_pieceBy_43 (fun h => ?_)
      obtain ⟨r2, e2, h⟩ := bnd_some h
      refine go_callSNi (pc := 44) C [.int v3, .int (s0.2.1 18 (v5).toNatClampNeg)] (m0_has e2) q889 q890 q138 q891 x0pd_has (by decide) (by decide) rfl (Nat.le_of_ble_eq_true rfl) ⟨Nat.zero_le _, Nat.zero_le _⟩ dX1_pieceBy_44 rfl ?_
      refine go_iload_n (pc := 47) C dX1_pieceBy_47 rfl 2 rfl ?_
      refine go_aload_n (pc := 48) C dX1_pieceBy_48 rfl 0 rfl ?_
      refine x1gr_19 (pc := 49) C dX1_pieceBy_49 ?_
      refine go_iload (pc := 52) C dX1_pieceBy_52 4 rfl ?_
      refine go_iald (pc := 54) C x1aA_19 h dX1_pieceBy_54 (fun h => ?_)
      obtain ⟨r3, e3, h⟩ := bnd_some h
      refine go_callSNi (pc := 55) C [.int v3, .int (s0.2.1 19 (v5).toNatClampNeg)] (m0_has e3) q889 q890 q138 q891 x0pd_has (by decide) (by decide) rfl (Nat.le_of_ble_eq_true rfl) ⟨Nat.zero_le _, Nat.zero_le _⟩ dX1_pieceBy_55 rfl ?_
      refine go_icmp_ne (pc := 58) (tgt := 64) C dX1_pieceBy_58 (by decide) h (fun h => ?_) (fun h => ?_)
      · refine go_iload_n (pc := 64) C dX1_pieceBy_64 rfl 2 rfl ?_
        refine go_iconst (pc := 65) (v := (1 : Int32)) C dX1_pieceBy_65 (by decide) ?_
        refine go_aload_n (pc := 66) C dX1_pieceBy_66 rfl 0 rfl ?_
        refine x1gr_18 (pc := 67) C dX1_pieceBy_67 ?_
        refine go_iload (pc := 70) C dX1_pieceBy_70 4 rfl ?_
        refine go_iald (pc := 72) C x1aA_18 h dX1_pieceBy_72 (fun h => ?_)
        refine go_ishl (pc := 73) C dX1_pieceBy_73 ?_
        refine go_iconst (pc := 74) (v := (1 : Int32)) C dX1_pieceBy_74 (by decide) ?_
        refine go_aload_n (pc := 75) C dX1_pieceBy_75 rfl 0 rfl ?_
        refine x1gr_19 (pc := 76) C dX1_pieceBy_76 ?_
        refine go_iload (pc := 79) C dX1_pieceBy_79 4 rfl ?_
        refine go_iald (pc := 81) C x1aA_19 h dX1_pieceBy_81 (fun h => ?_)
        refine go_ishl (pc := 82) C dX1_pieceBy_82 ?_
        refine go_ior (pc := 83) C dX1_pieceBy_83 ?_
        refine go_ior (pc := 84) C dX1_pieceBy_84 ?_
        refine go_topi (pc := 85) (fun y4 ey4 => ?_)
        have h := ltv_eq ey4 h
        refine go_istore_n (pc := 85) C hN dX1_pieceBy_85 rfl (by decide) rfl ?_
        refine go_iconst (pc := 86) (v := (1 : Int32)) C dX1_pieceBy_86 (by decide) ?_
        refine go_istore (pc := 87) C hN dX1_pieceBy_87 (by decide) rfl ?_
        refine go_iinc (pc := 89) (v := (v5 + (1 : Int32))) C hN dX1_pieceBy_89 (q := 4) rfl rfl (by decide) rfl ?_
        refine go_goto (pc := 92) (tgt := 18) C dX1_pieceBy_92 (by decide) ?_
        refine go_sub [3, 4, 2, 1, 0] rfl ?_
        exact hK18 (y4, (1 : Int32), (v5 + (1 : Int32))) h
      · refine go_goto (pc := 61) (tgt := 89) C dX1_pieceBy_61 (by decide) ?_
        refine go_iinc (pc := 89) (v := (v5 + (1 : Int32))) C hN dX1_pieceBy_89 (q := 4) rfl rfl (by decide) rfl ?_
        refine go_goto (pc := 92) (tgt := 18) C dX1_pieceBy_92 (by decide) ?_
        refine go_sub [1, 2, 3, 4, 0] rfl ?_
        exact hK18 (v3, v4, (v5 + (1 : Int32))) h
theorem w1_pieceBy_7 {Γ : Gam} {a : Nat → Nat} {s0 : Bl} {v2 : Int32} {r9 : Int32} (hN : Γ.nL = 6) (C : Cx Γ cX1_pieceBy RX1 (1, 0, 0) 21) (hE : Rets Γ cX1_pieceBy (some .int) 0 0 (fun v w => v = some (.int r9) ∧ w = (bW Γ.d 1 FK1 a s0))) : ∀ (n : Nat) (s : Int32 × Int32), loop (g1_pieceBy_7 s0 v2) n s = some r9 → (fun s : Int32 × Int32 => Go Γ 0 0 (bW Γ.d 1 FK1 a s0) 7 [(0, .ref (a 0)), (2, .int v2), (3, .int s.1), (4, .int s.2)] []) s := by
  refine loop_walk (P := fun s : Int32 × Int32 => Go Γ 0 0 (bW Γ.d 1 FK1 a s0) 7 [(0, .ref (a 0)), (2, .int v2), (3, .int s.1), (4, .int s.2)] []) ?_
  intro K7 hK7 s h
  obtain ⟨v3, v4⟩ := s
  dsimp only [g1_pieceBy_7] at h
  show Go Γ 0 0 (bW Γ.d 1 FK1 a s0) 7 [(0, .ref (a 0)), (2, .int v2), (3, .int v3), (4, .int v4)] []
  refine go_iload (pc := 7) C dX1_pieceBy_7 3 rfl ?_
  refine go_if_eq (pc := 9) (tgt := 98) C dX1_pieceBy_9 (by decide) h (fun h => ?_) (fun h => ?_)
  · refine go_iload_n (pc := 98) C dX1_pieceBy_98 rfl 2 rfl ?_
    exact (hE 0 0 _ _ _ (Nat.zero_le _) (Nat.zero_le _)).1 _ rfl dX1_pieceBy_99 ⟨congrArg (fun z => some (Value.int z)) (some1 h), rfl⟩
  · refine go_iconst (pc := 12) (v := (0 : Int32)) C dX1_pieceBy_12 (by decide) ?_
    refine go_istore (pc := 13) C hN dX1_pieceBy_13 (by decide) rfl ?_
    refine go_iconst (pc := 15) (v := (0 : Int32)) C dX1_pieceBy_15 (by decide) ?_
    refine go_istore (pc := 16) C hN dX1_pieceBy_16 (by decide) rfl ?_
    refine go_sub [2, 3, 4, 1, 0] rfl ?_
    exact w1_pieceBy_18 hN C hE hK7 FU (v3, (0 : Int32), (0 : Int32)) h
theorem m1_pieceBy {l : Launch} {d : gD} {a : Nat → Nat} {s0 : Bl} {v1 : Int32} {v2 : Int32} {r9 : Int32} (h : f1_pieceBy s0 v1 v2 = some r9) : Mt l d yX1_pieceBy cX1_pieceBy 6 (some .int) (1, 0, 0) 21 (bW d 1 FK1 a s0) [.ref (a 0), .int v1, .int v2] (fun v w => v = some (.int r9) ∧ w = (bW d 1 FK1 a s0)) := by
  refine Mt.of x1pn (Nat.le_of_ble_eq_true rfl) ?_
  intro Γ hl hd hN C hE
  subst hl; subst hd
  show Go Γ 0 0 (bW Γ.d 1 FK1 a s0) 0 [(0, .ref (a 0)), (1, .int v1), (2, .int v2)] []
  dsimp only [f1_pieceBy] at h
  refine go_iconst (pc := 0) (v := (1 : Int32)) C dX1_pieceBy_0 (by decide) ?_
  refine go_iload_n (pc := 1) C dX1_pieceBy_1 rfl 1 rfl ?_
  refine go_ishl (pc := 2) C dX1_pieceBy_2 ?_
  refine go_istore_n (pc := 3) C hN dX1_pieceBy_3 rfl (by decide) rfl ?_
  refine go_iconst (pc := 4) (v := (1 : Int32)) C dX1_pieceBy_4 (by decide) ?_
  refine go_istore (pc := 5) C hN dX1_pieceBy_5 (by decide) rfl ?_
  refine go_sub [2, 4, 1, 0] rfl ?_
  exact w1_pieceBy_7 hN C hE FU (((1 : Int32) <<< (v1 &&& 31)), (1 : Int32)) h
theorem m1_allRopes {l : Launch} {d : gD} {a : Nat → Nat} {s0 : Bl} {r9 : Int32} (h : f1_allRopes s0 = some r9) : Mt l d yX1_allRopes cX1_allRopes 1 (some .int) (0, 0, 0) 0 (bW d 1 FK1 a s0) [.ref (a 0)] (fun v w => v = some (.int r9) ∧ w = (bW d 1 FK1 a s0)) := by
  refine Mt.of x1pn (Nat.le_of_ble_eq_true rfl) ?_
  intro Γ hl hd hN C hE
  subst hl; subst hd
  show Go Γ 0 0 (bW Γ.d 1 FK1 a s0) 0 [(0, .ref (a 0))] []
  dsimp only [f1_allRopes] at h
  refine go_iconst (pc := 0) (v := (1 : Int32)) C dX1_allRopes_0 (by decide) ?_
  refine go_aload_n (pc := 1) C dX1_allRopes_1 rfl 0 rfl ?_
  refine x1gi_5 (pc := 2) C dX1_allRopes_2 ?_
  refine go_ishl (pc := 5) C dX1_allRopes_5 ?_
  refine go_iconst (pc := 6) (v := (1 : Int32)) C dX1_allRopes_6 (by decide) ?_
  refine go_isub (pc := 7) C dX1_allRopes_7 ?_
  exact (hE 0 0 _ _ _ (Nat.zero_le _) (Nat.zero_le _)).1 _ rfl dX1_allRopes_8 ⟨congrArg (fun z => some (Value.int z)) (some1 h), rfl⟩
theorem m1_pieceOf {l : Launch} {d : gD} {a : Nat → Nat} {s0 : Bl} {v1 : Int32} {r9 : Int32} (h : f1_pieceOf s0 v1 = some r9) : Mt l d yX1_pieceOf cX1_pieceOf 2 (some .int) (2, 0, 0) 46 (bW d 1 FK1 a s0) [.ref (a 0), .int v1] (fun v w => v = some (.int r9) ∧ w = (bW d 1 FK1 a s0)) := by
  refine Mt.of x1pn (Nat.le_of_ble_eq_true rfl) ?_
  intro Γ hl hd hN C hE
  subst hl; subst hd
  show Go Γ 0 0 (bW Γ.d 1 FK1 a s0) 0 [(0, .ref (a 0)), (1, .int v1)] []
  dsimp only [f1_pieceOf] at h
  refine go_aload_n (pc := 0) C dX1_pieceOf_0 rfl 0 rfl ?_
  refine go_iload_n (pc := 1) C dX1_pieceOf_1 rfl 1 rfl ?_
  refine go_aload_n (pc := 2) C dX1_pieceOf_2 rfl 0 rfl ?_
  obtain ⟨r1, e1, h⟩ := bnd_some h
  refine go_callVi (pc := 3) C [] (m1_allRopes e1) q926 q878 q879 q139 q880 x1pd_allRopes (by decide) (by decide) bW_O x1c rfl (Nat.le_of_ble_eq_true rfl) ⟨Nat.zero_le _, Nat.zero_le _⟩ dX1_pieceOf_3 rfl ?_
  obtain ⟨r2, e2, h⟩ := bnd_some h
  refine go_callVi (pc := 6) C [.int v1, .int r1] (m1_pieceBy e2) q885 q886 q887 q139 q888 x1pd_pieceBy (by decide) (by decide) bW_O x1c rfl (Nat.le_of_ble_eq_true rfl) ⟨Nat.zero_le _, Nat.zero_le _⟩ dX1_pieceOf_6 rfl ?_
  exact (hE 0 0 _ _ _ (Nat.zero_le _) (Nat.zero_le _)).1 _ rfl dX1_pieceOf_9 ⟨congrArg (fun z => some (Value.int z)) (some1 h), rfl⟩
theorem w1_ownOf_4 {Γ : Gam} {a : Nat → Nat} {s0 : Bl} {v1 : Int32} {r9 : Int32} (hN : Γ.nL = 4) (C : Cx Γ cX1_ownOf RX1 (0, 0, 0) 0) (hE : Rets Γ cX1_ownOf (some .int) 0 0 (fun v w => v = some (.int r9) ∧ w = (bW Γ.d 1 FK1 a s0))) : ∀ (n : Nat) (s : Int32 × Int32), loop (g1_ownOf_4 s0 v1) n s = some r9 → (fun s : Int32 × Int32 => Go Γ 0 0 (bW Γ.d 1 FK1 a s0) 4 [(0, .ref (a 0)), (1, .int v1), (2, .int s.1), (3, .int s.2)] []) s := by
  refine loop_walk (P := fun s : Int32 × Int32 => Go Γ 0 0 (bW Γ.d 1 FK1 a s0) 4 [(0, .ref (a 0)), (1, .int v1), (2, .int s.1), (3, .int s.2)] []) ?_
  intro K4 hK4 s h
  obtain ⟨v2, v3⟩ := s
  dsimp only [g1_ownOf_4] at h
  show Go Γ 0 0 (bW Γ.d 1 FK1 a s0) 4 [(0, .ref (a 0)), (1, .int v1), (2, .int v2), (3, .int v3)] []
  refine go_iload_n (pc := 4) C dX1_ownOf_4 rfl 3 rfl ?_
  refine go_aload_n (pc := 5) C dX1_ownOf_5 rfl 0 rfl ?_
  refine x1gi_2 (pc := 6) C dX1_ownOf_6 ?_
  refine go_icmp_ge (pc := 9) (tgt := 47) C dX1_ownOf_9 (by decide) h (fun h => ?_) (fun h => ?_)
  · refine go_iload_n (pc := 47) C dX1_ownOf_47 rfl 2 rfl ?_
    exact (hE 0 0 _ _ _ (Nat.zero_le _) (Nat.zero_le _)).1 _ rfl dX1_ownOf_48 ⟨congrArg (fun z => some (Value.int z)) (some1 h), rfl⟩
  · refine go_iload_n (pc := 12) C dX1_ownOf_12 rfl 2 rfl ?_
    refine go_aload_n (pc := 13) C dX1_ownOf_13 rfl 0 rfl ?_
    refine x1gr_12 (pc := 14) C dX1_ownOf_14 ?_
    refine go_iload_n (pc := 17) C dX1_ownOf_17 rfl 3 rfl ?_
    refine go_iald (pc := 18) C x1aA_12 h dX1_ownOf_18 (fun h => ?_)
    refine go_iload_n (pc := 19) C dX1_ownOf_19 rfl 1 rfl ?_
    refine go_icmp_ne (pc := 20) (tgt := 38) C dX1_ownOf_20 (by decide) h (fun h => ?_) (fun h => ?_)
    · refine go_iconst (pc := 38) (v := (0 : Int32)) C dX1_ownOf_38 (by decide) ?_
      refine go_ior (pc := 39) C dX1_ownOf_39 ?_
      refine go_istore_n (pc := 40) C hN dX1_ownOf_40 rfl (by decide) rfl ?_
      refine go_iinc (pc := 41) (v := (v3 + (1 : Int32))) C hN dX1_ownOf_41 (q := 3) rfl rfl (by decide) rfl ?_
      refine go_goto (pc := 44) (tgt := 4) C dX1_ownOf_44 (by decide) ?_
      refine go_sub [2, 3, 1, 0] rfl ?_
      exact hK4 ((v2 ||| (0 : Int32)), (v3 + (1 : Int32))) h
    · refine go_aload_n (pc := 23) C dX1_ownOf_23 rfl 0 rfl ?_
      refine x1gr_16 (pc := 24) C dX1_ownOf_24 ?_
      refine go_iload_n (pc := 27) C dX1_ownOf_27 rfl 3 rfl ?_
      refine go_iald (pc := 28) C x1aA_16 h dX1_ownOf_28 (fun h => ?_)
      refine go_if_ne (pc := 29) (tgt := 38) C dX1_ownOf_29 (by decide) h (fun h => ?_) (fun h => ?_)
      · refine go_iconst (pc := 38) (v := (0 : Int32)) C dX1_ownOf_38 (by decide) ?_
        refine go_ior (pc := 39) C dX1_ownOf_39 ?_
        refine go_istore_n (pc := 40) C hN dX1_ownOf_40 rfl (by decide) rfl ?_
        refine go_iinc (pc := 41) (v := (v3 + (1 : Int32))) C hN dX1_ownOf_41 (q := 3) rfl rfl (by decide) rfl ?_
        refine go_goto (pc := 44) (tgt := 4) C dX1_ownOf_44 (by decide) ?_
        refine go_sub [2, 3, 1, 0] rfl ?_
        exact hK4 ((v2 ||| (0 : Int32)), (v3 + (1 : Int32))) h
      · refine go_iconst (pc := 32) (v := (1 : Int32)) C dX1_ownOf_32 (by decide) ?_
        refine go_iload_n (pc := 33) C dX1_ownOf_33 rfl 3 rfl ?_
        refine go_ishl (pc := 34) C dX1_ownOf_34 ?_
        refine go_goto (pc := 35) (tgt := 39) C dX1_ownOf_35 (by decide) ?_
        refine go_ior (pc := 39) C dX1_ownOf_39 ?_
        refine go_istore_n (pc := 40) C hN dX1_ownOf_40 rfl (by decide) rfl ?_
        refine go_iinc (pc := 41) (v := (v3 + (1 : Int32))) C hN dX1_ownOf_41 (q := 3) rfl rfl (by decide) rfl ?_
        refine go_goto (pc := 44) (tgt := 4) C dX1_ownOf_44 (by decide) ?_
        refine go_sub [2, 3, 1, 0] rfl ?_
        exact hK4 ((v2 ||| ((1 : Int32) <<< (v3 &&& 31))), (v3 + (1 : Int32))) h
theorem m1_ownOf {l : Launch} {d : gD} {a : Nat → Nat} {s0 : Bl} {v1 : Int32} {r9 : Int32} (h : f1_ownOf s0 v1 = some r9) : Mt l d yX1_ownOf cX1_ownOf 4 (some .int) (0, 0, 0) 0 (bW d 1 FK1 a s0) [.ref (a 0), .int v1] (fun v w => v = some (.int r9) ∧ w = (bW d 1 FK1 a s0)) := by
  refine Mt.of x1pn (Nat.le_of_ble_eq_true rfl) ?_
  intro Γ hl hd hN C hE
  subst hl; subst hd
  show Go Γ 0 0 (bW Γ.d 1 FK1 a s0) 0 [(0, .ref (a 0)), (1, .int v1)] []
  dsimp only [f1_ownOf] at h
  refine go_iconst (pc := 0) (v := (0 : Int32)) C dX1_ownOf_0 (by decide) ?_
  refine go_istore_n (pc := 1) C hN dX1_ownOf_1 rfl (by decide) rfl ?_
  refine go_iconst (pc := 2) (v := (0 : Int32)) C dX1_ownOf_2 (by decide) ?_
  refine go_istore_n (pc := 3) C hN dX1_ownOf_3 rfl (by decide) rfl ?_
  refine go_sub [2, 3, 1, 0] rfl ?_
  exact w1_ownOf_4 hN C hE FU ((0 : Int32), (0 : Int32)) h
theorem w1_parts_2 {Γ : Gam} {a : Nat → Nat} {v1 : Int32} {s9 : Bl} (hN : Γ.nL = 3) (C : Cx Γ cX1_parts RX1 (2, 0, 0) 46) (hE : Rets Γ cX1_parts none 0 0 (fun v w => v = none ∧ w = (bW Γ.d 1 FK1 a s9))) : ∀ (n : Nat) (s : Bl × Int32), loop (g1_parts_2 v1) n s = some s9 → (fun s : Bl × Int32 => Go Γ 0 0 (bW Γ.d 1 FK1 a s.1) 2 [(0, .ref (a 0)), (1, .int v1), (2, .int s.2)] []) s := by
  refine loop_walk (P := fun s : Bl × Int32 => Go Γ 0 0 (bW Γ.d 1 FK1 a s.1) 2 [(0, .ref (a 0)), (1, .int v1), (2, .int s.2)] []) ?_
  intro K2 hK2 s h
  obtain ⟨s0, v2⟩ := s
  dsimp only [g1_parts_2] at h
  show Go Γ 0 0 (bW Γ.d 1 FK1 a s0) 2 [(0, .ref (a 0)), (1, .int v1), (2, .int v2)] []
  refine go_iload_n (pc := 2) C dX1_parts_2 rfl 2 rfl ?_
  refine go_aload_n (pc := 3) C dX1_parts_3 rfl 0 rfl ?_
  refine x1gi_2 (pc := 4) C dX1_parts_4 ?_
  refine go_icmp_ge (pc := 7) (tgt := 41) C dX1_parts_7 (by decide) h (fun h => ?_) (fun h => ?_)
  · exact (hE 0 0 _ _ _ (Nat.zero_le _) (Nat.zero_le _)).2.2.2.1 rfl dX1_parts_41 ⟨rfl, congrArg (fun z => bW Γ.d 1 FK1 a z) (some1 h)⟩
  · refine go_aload_n (pc := 10) C dX1_parts_10 rfl 0 rfl ?_
    refine x1gr_28 (pc := 11) C dX1_parts_11 ?_
    refine go_iload_n (pc := 14) C dX1_parts_14 rfl 2 rfl ?_
    refine go_aload_n (pc := 15) C dX1_parts_15 rfl 0 rfl ?_
    refine x1gr_16 (pc := 16) C dX1_parts_16 ?_
    refine go_iload_n (pc := 19) C dX1_parts_19 rfl 2 rfl ?_
    refine go_iald (pc := 20) C x1aA_16 h dX1_parts_20 (fun h => ?_)
    refine go_if_ne (pc := 21) (tgt := 33) C dX1_parts_21 (by decide) h (fun h => ?_) (fun h => ?_)
    · refine go_iconst (pc := 33) (v := (0 : Int32)) C dX1_parts_33 (by decide) ?_
      refine go_iast (pc := 34) C x1pA_28 h dX1_parts_34 (fun h => ?_)
      refine go_iinc (pc := 35) (v := (v2 + (1 : Int32))) C hN dX1_parts_35 (q := 2) rfl rfl (by decide) rfl ?_
      refine go_goto (pc := 38) (tgt := 2) C dX1_parts_38 (by decide) ?_
      refine go_sub [1, 2, 0] rfl ?_
      exact hK2 ((bA s0 28 (v2).toNatClampNeg (0 : Int32)), (v2 + (1 : Int32))) h
    · refine go_aload_n (pc := 24) C dX1_parts_24 rfl 0 rfl ?_
      refine go_iload_n (pc := 25) C dX1_parts_25 rfl 2 rfl ?_
      refine go_iload_n (pc := 26) C dX1_parts_26 rfl 1 rfl ?_
      obtain ⟨r1, e1, h⟩ := bnd_some h
      refine go_callVi (pc := 27) C [.int v2, .int v1] (m1_pieceBy e1) q885 q886 q887 q139 q888 x1pd_pieceBy (by decide) (by decide) bW_O x1c rfl (Nat.le_of_ble_eq_true rfl) ⟨Nat.zero_le _, Nat.zero_le _⟩ dX1_parts_27 rfl ?_
      refine go_goto (pc := 30) (tgt := 34) C dX1_parts_30 (by decide) ?_
      refine go_iast (pc := 34) C x1pA_28 h dX1_parts_34 (fun h => ?_)
      refine go_iinc (pc := 35) (v := (v2 + (1 : Int32))) C hN dX1_parts_35 (q := 2) rfl rfl (by decide) rfl ?_
      refine go_goto (pc := 38) (tgt := 2) C dX1_parts_38 (by decide) ?_
      refine go_sub [1, 2, 0] rfl ?_
      exact hK2 ((bA s0 28 (v2).toNatClampNeg r1), (v2 + (1 : Int32))) h
theorem m1_parts {l : Launch} {d : gD} {a : Nat → Nat} {s0 : Bl} {v1 : Int32} {s9 : Bl} (h : f1_parts s0 v1 = some s9) : Mt l d yX1_parts cX1_parts 3 none (2, 0, 0) 46 (bW d 1 FK1 a s0) [.ref (a 0), .int v1] (fun v w => v = none ∧ w = (bW d 1 FK1 a s9)) := by
  refine Mt.of x1pn (Nat.le_of_ble_eq_true rfl) ?_
  intro Γ hl hd hN C hE
  subst hl; subst hd
  show Go Γ 0 0 (bW Γ.d 1 FK1 a s0) 0 [(0, .ref (a 0)), (1, .int v1)] []
  dsimp only [f1_parts] at h
  refine go_iconst (pc := 0) (v := (0 : Int32)) C dX1_parts_0 (by decide) ?_
  refine go_istore_n (pc := 1) C hN dX1_parts_1 rfl (by decide) rfl ?_
  refine go_sub [1, 2, 0] rfl ?_
  exact w1_parts_2 hN C hE FU (s0, (0 : Int32)) h
theorem w1_rides_27 {Γ : Gam} {a : Nat → Nat} {s0 : Bl} {v4 : Int32} {r9 : Int32} (hN : Γ.nL = 7) (C : Cx Γ cX1_rides RX1 (1, 0, 0) 23) (hE : Rets Γ cX1_rides (some .int) 0 0 (fun v w => v = some (.int r9) ∧ w = (bW Γ.d 1 FK1 a s0))) : ∀ (n : Nat) (s : Int32 × Int32 × Int32), loop (g1_rides_27 s0 v4) n s = some r9 → (fun s : Int32 × Int32 × Int32 => Go Γ 0 0 (bW Γ.d 1 FK1 a s0) 27 [(0, .ref (a 0)), (2, .int s.1), (3, .int s.2.1), (4, .int v4), (5, .int s.2.2)] []) s := by
  refine loop_walk (P := fun s : Int32 × Int32 × Int32 => Go Γ 0 0 (bW Γ.d 1 FK1 a s0) 27 [(0, .ref (a 0)), (2, .int s.1), (3, .int s.2.1), (4, .int v4), (5, .int s.2.2)] []) ?_
  intro K27 hK27 s h
  obtain ⟨v2, v3, v5⟩ := s
  dsimp only [g1_rides_27] at h
  show Go Γ 0 0 (bW Γ.d 1 FK1 a s0) 27 [(0, .ref (a 0)), (2, .int v2), (3, .int v3), (4, .int v4), (5, .int v5)] []
  refine go_iload (pc := 27) C dX1_rides_27 4 rfl ?_
  refine go_aload_n (pc := 29) C dX1_rides_29 rfl 0 rfl ?_
  refine x1gi_2 (pc := 30) C dX1_rides_30 ?_
  refine go_icmp_ge (pc := 33) (tgt := 72) C dX1_rides_33 (by decide) h (fun h => ?_) (fun h => ?_)
  · refine go_iload_n (pc := 72) C dX1_rides_72 rfl 1 rfl ?_
    exact (hE 0 0 _ _ _ (Nat.zero_le _) (Nat.zero_le _)).1 _ rfl dX1_rides_73 ⟨congrArg (fun z => some (Value.int z)) (some1 h), rfl⟩
  · refine go_aload_n (pc := 36) C dX1_rides_36 rfl 0 rfl ?_
    refine x1gr_28 (pc := 37) C dX1_rides_37 ?_
    refine go_iload (pc := 40) C dX1_rides_40 4 rfl ?_
    refine go_iald (pc := 42) C x1aA_28 h dX1_rides_42 (fun h => ?_)
    refine go_iload (pc := 43) C dX1_rides_43 3 rfl ?_
    refine go_iand (pc := 45) C dX1_rides_45 ?_
    obtain ⟨r1, e1, h⟩ := bnd_some h
    refine go_callSi (pc := 46) C [.int ((s0.2.1 28 (v5).toNatClampNeg) &&& v4)] (mJ8_bitCount e1) q900 q901 q162 q902 j8pd_bitCount (by decide) (by decide) rfl (Nat.le_of_ble_eq_true rfl) ⟨Nat.zero_le _, Nat.zero_le _⟩ dX1_rides_46 rfl ?_
    refine go_istore (pc := 49) C hN dX1_rides_49 (by decide) rfl ?_
    refine go_iload (pc := 51) C dX1_rides_51 0 rfl ?_
    refine go_iload_n (pc := 53) C dX1_rides_53 rfl 3 rfl ?_
    refine go_icmp_gt (pc := 54) (tgt := 60) C dX1_rides_54 (by decide) h (fun h => ?_) (fun h => ?_)
    · refine go_iload (pc := 60) C dX1_rides_60 5 rfl ?_
      refine go_istore_n (pc := 62) C hN dX1_rides_62 rfl (by decide) rfl ?_
      refine go_iload (pc := 63) C dX1_rides_63 1 rfl ?_
      refine go_istore_n (pc := 65) C hN dX1_rides_65 rfl (by decide) rfl ?_
      refine go_iinc (pc := 66) (v := (v5 + (1 : Int32))) C hN dX1_rides_66 (q := 5) rfl rfl (by decide) rfl ?_
      refine go_goto (pc := 69) (tgt := 27) C dX1_rides_69 (by decide) ?_
      refine go_sub [4, 2, 1, 5, 0] rfl ?_
      exact hK27 (v5, r1, (v5 + (1 : Int32))) h
    · refine go_goto (pc := 57) (tgt := 66) C dX1_rides_57 (by decide) ?_
      refine go_iinc (pc := 66) (v := (v5 + (1 : Int32))) C hN dX1_rides_66 (q := 5) rfl rfl (by decide) rfl ?_
      refine go_goto (pc := 69) (tgt := 27) C dX1_rides_69 (by decide) ?_
      refine go_sub [2, 3, 4, 5, 0] rfl ?_
      exact hK27 (v2, v3, (v5 + (1 : Int32))) h
theorem m1_rides {l : Launch} {d : gD} {a : Nat → Nat} {s0 : Bl} {v1 : Int32} {r9 : Int32} (h : f1_rides s0 v1 = some r9) : Mt l d yX1_rides cX1_rides 7 (some .int) (1, 0, 0) 23 (bW d 1 FK1 a s0) [.ref (a 0), .int v1] (fun v w => v = some (.int r9) ∧ w = (bW d 1 FK1 a s0)) := by
  refine Mt.of x1pn (Nat.le_of_ble_eq_true rfl) ?_
  intro Γ hl hd hN C hE
  subst hl; subst hd
  show Go Γ 0 0 (bW Γ.d 1 FK1 a s0) 0 [(0, .ref (a 0)), (1, .int v1)] []
  dsimp only [f1_rides] at h
  refine go_iconst (pc := 0) (v := (-1 : Int32)) C dX1_rides_0 (by decide) ?_
  refine go_istore_n (pc := 1) C hN dX1_rides_1 rfl (by decide) rfl ?_
  refine go_iconst (pc := 2) (v := (0 : Int32)) C dX1_rides_2 (by decide) ?_
  refine go_istore_n (pc := 3) C hN dX1_rides_3 rfl (by decide) rfl ?_
  refine go_aload_n (pc := 4) C dX1_rides_4 rfl 2 rfl ?_
  refine x1gr_11 (pc := 5) C dX1_rides_5 ?_
  refine go_iload_n (pc := 8) C dX1_rides_8 rfl 3 rfl ?_
  refine go_iald (pc := 9) C x1aA_11 h dX1_rides_9 (fun h => ?_)
  refine go_if_ne (pc := 10) (tgt := 21) C dX1_rides_10 (by decide) h (fun h => ?_) (fun h => ?_)
  · refine go_iconst (pc := 21) (v := (0 : Int32)) C dX1_rides_21 (by decide) ?_
    refine go_istore (pc := 22) C hN dX1_rides_22 (by decide) rfl ?_
    refine go_iconst (pc := 24) (v := (0 : Int32)) C dX1_rides_24 (by decide) ?_
    refine go_istore (pc := 25) C hN dX1_rides_25 (by decide) rfl ?_
    refine go_sub [4, 3, 2, 1, 0] rfl ?_
    exact w1_rides_27 hN C hE FU ((-1 : Int32), (0 : Int32), (0 : Int32)) h
  · refine go_aload_n (pc := 13) C dX1_rides_13 rfl 2 rfl ?_
    refine go_iload_n (pc := 14) C dX1_rides_14 rfl 3 rfl ?_
    obtain ⟨r2, e2, h⟩ := bnd_some h
    refine go_callVi (pc := 15) C [.int v1] (m1_ownOf e2) q896 q897 q898 q139 q899 x1pd_ownOf (by decide) (by decide) bW_O x1c rfl (Nat.le_of_ble_eq_true rfl) ⟨Nat.zero_le _, Nat.zero_le _⟩ dX1_rides_15 rfl ?_
    refine go_goto (pc := 18) (tgt := 22) C dX1_rides_18 (by decide) ?_
    refine go_istore (pc := 22) C hN dX1_rides_22 (by decide) rfl ?_
    refine go_iconst (pc := 24) (v := (0 : Int32)) C dX1_rides_24 (by decide) ?_
    refine go_istore (pc := 25) C hN dX1_rides_25 (by decide) rfl ?_
    refine go_sub [4, 3, 2, 1, 0] rfl ?_
    exact w1_rides_27 hN C hE FU ((-1 : Int32), (0 : Int32), (0 : Int32)) h
theorem w1_bearsOf_4 {Γ : Gam} {a : Nat → Nat} {s0 : Bl} {v1 : Int32} {r9 : Int32} (hN : Γ.nL = 4) (C : Cx Γ cX1_bearsOf RX1 (1, 0, 0) 21) (hE : Rets Γ cX1_bearsOf (some .int) 0 0 (fun v w => v = some (.int r9) ∧ w = (bW Γ.d 1 FK1 a s0))) : ∀ (n : Nat) (s : Int32 × Int32), loop (g1_bearsOf_4 s0 v1) n s = some r9 → (fun s : Int32 × Int32 => Go Γ 0 0 (bW Γ.d 1 FK1 a s0) 4 [(0, .ref (a 0)), (1, .int v1), (2, .int s.1), (3, .int s.2)] []) s := by
  refine loop_walk (P := fun s : Int32 × Int32 => Go Γ 0 0 (bW Γ.d 1 FK1 a s0) 4 [(0, .ref (a 0)), (1, .int v1), (2, .int s.1), (3, .int s.2)] []) ?_
  intro K4 hK4 s h
  obtain ⟨v2, v3⟩ := s
  dsimp only [g1_bearsOf_4] at h
  show Go Γ 0 0 (bW Γ.d 1 FK1 a s0) 4 [(0, .ref (a 0)), (1, .int v1), (2, .int v2), (3, .int v3)] []
  refine go_iload_n (pc := 4) C dX1_bearsOf_4 rfl 3 rfl ?_
  refine go_aload_n (pc := 5) C dX1_bearsOf_5 rfl 0 rfl ?_
  refine x1gi_2 (pc := 6) C dX1_bearsOf_6 ?_
  refine go_icmp_ge (pc := 9) (tgt := 46) C dX1_bearsOf_9 (by decide) h (fun h => ?_) (fun h => ?_)
  · refine go_iload_n (pc := 46) C dX1_bearsOf_46 rfl 2 rfl ?_
    exact (hE 0 0 _ _ _ (Nat.zero_le _) (Nat.zero_le _)).1 _ rfl dX1_bearsOf_47 ⟨congrArg (fun z => some (Value.int z)) (some1 h), rfl⟩
  · refine go_iload_n (pc := 12) C dX1_bearsOf_12 rfl 2 rfl ?_
    refine go_iload_n (pc := 13) C dX1_bearsOf_13 rfl 1 rfl ?_
    refine go_iload_n (pc := 14) C dX1_bearsOf_14 rfl 3 rfl ?_
    obtain ⟨r1, e1, h⟩ := bnd_some h
    refine go_callSNi (pc := 15) C [.int v1, .int v3] (m0_has e1) q889 q890 q138 q891 x0pd_has (by decide) (by decide) rfl (Nat.le_of_ble_eq_true rfl) ⟨Nat.zero_le _, Nat.zero_le _⟩ dX1_bearsOf_15 rfl ?_
    refine go_if_eq (pc := 18) (tgt := 37) C dX1_bearsOf_18 (by decide) h (fun h => ?_) (fun h => ?_)
    · refine go_iconst (pc := 37) (v := (0 : Int32)) C dX1_bearsOf_37 (by decide) ?_
      refine go_iadd (pc := 38) C dX1_bearsOf_38 ?_
      refine go_istore_n (pc := 39) C hN dX1_bearsOf_39 rfl (by decide) rfl ?_
      refine go_iinc (pc := 40) (v := (v3 + (1 : Int32))) C hN dX1_bearsOf_40 (q := 3) rfl rfl (by decide) rfl ?_
      refine go_goto (pc := 43) (tgt := 4) C dX1_bearsOf_43 (by decide) ?_
      refine go_sub [2, 3, 1, 0] rfl ?_
      exact hK4 ((v2 + (0 : Int32)), (v3 + (1 : Int32))) h
    · refine go_aload_n (pc := 21) C dX1_bearsOf_21 rfl 0 rfl ?_
      refine x1gr_14 (pc := 22) C dX1_bearsOf_22 ?_
      refine go_iload_n (pc := 25) C dX1_bearsOf_25 rfl 3 rfl ?_
      refine go_iald (pc := 26) C x1aA_14 h dX1_bearsOf_26 (fun h => ?_)
      refine go_aload_n (pc := 27) C dX1_bearsOf_27 rfl 0 rfl ?_
      refine x1gr_13 (pc := 28) C dX1_bearsOf_28 ?_
      refine go_iload_n (pc := 31) C dX1_bearsOf_31 rfl 3 rfl ?_
      refine go_iald (pc := 32) C x1aA_13 h dX1_bearsOf_32 (fun h => ?_)
      refine go_isub (pc := 33) C dX1_bearsOf_33 ?_
      refine go_goto (pc := 34) (tgt := 38) C dX1_bearsOf_34 (by decide) ?_
      refine go_iadd (pc := 38) C dX1_bearsOf_38 ?_
      refine go_istore_n (pc := 39) C hN dX1_bearsOf_39 rfl (by decide) rfl ?_
      refine go_iinc (pc := 40) (v := (v3 + (1 : Int32))) C hN dX1_bearsOf_40 (q := 3) rfl rfl (by decide) rfl ?_
      refine go_goto (pc := 43) (tgt := 4) C dX1_bearsOf_43 (by decide) ?_
      refine go_sub [2, 3, 1, 0] rfl ?_
      exact hK4 ((v2 + ((s0.2.1 14 (v3).toNatClampNeg) - (s0.2.1 13 (v3).toNatClampNeg))), (v3 + (1 : Int32))) h
theorem m1_bearsOf {l : Launch} {d : gD} {a : Nat → Nat} {s0 : Bl} {v1 : Int32} {r9 : Int32} (h : f1_bearsOf s0 v1 = some r9) : Mt l d yX1_bearsOf cX1_bearsOf 4 (some .int) (1, 0, 0) 21 (bW d 1 FK1 a s0) [.ref (a 0), .int v1] (fun v w => v = some (.int r9) ∧ w = (bW d 1 FK1 a s0)) := by
  refine Mt.of x1pn (Nat.le_of_ble_eq_true rfl) ?_
  intro Γ hl hd hN C hE
  subst hl; subst hd
  show Go Γ 0 0 (bW Γ.d 1 FK1 a s0) 0 [(0, .ref (a 0)), (1, .int v1)] []
  dsimp only [f1_bearsOf] at h
  refine go_iconst (pc := 0) (v := (0 : Int32)) C dX1_bearsOf_0 (by decide) ?_
  refine go_istore_n (pc := 1) C hN dX1_bearsOf_1 rfl (by decide) rfl ?_
  refine go_iconst (pc := 2) (v := (0 : Int32)) C dX1_bearsOf_2 (by decide) ?_
  refine go_istore_n (pc := 3) C hN dX1_bearsOf_3 rfl (by decide) rfl ?_
  refine go_sub [2, 3, 1, 0] rfl ?_
  exact w1_bearsOf_4 hN C hE FU ((0 : Int32), (0 : Int32)) h
theorem w1_ridersOf_4 {Γ : Gam} {a : Nat → Nat} {s0 : Bl} {v1 : Int32} {r9 : Int32} (hN : Γ.nL = 5) (C : Cx Γ cX1_ridersOf RX1 (2, 0, 0) 49) (hE : Rets Γ cX1_ridersOf (some .int) 0 0 (fun v w => v = some (.int r9) ∧ w = (bW Γ.d 1 FK1 a s0))) : ∀ (n : Nat) (s : Int32 × Int32), loop (g1_ridersOf_4 s0 v1) n s = some r9 → (fun s : Int32 × Int32 => Go Γ 0 0 (bW Γ.d 1 FK1 a s0) 4 [(0, .ref (a 0)), (1, .int v1), (2, .int s.1), (3, .int s.2)] []) s := by
  refine loop_walk (P := fun s : Int32 × Int32 => Go Γ 0 0 (bW Γ.d 1 FK1 a s0) 4 [(0, .ref (a 0)), (1, .int v1), (2, .int s.1), (3, .int s.2)] []) ?_
  intro K4 hK4 s h
  obtain ⟨v2, v3⟩ := s
  dsimp only [g1_ridersOf_4] at h
  show Go Γ 0 0 (bW Γ.d 1 FK1 a s0) 4 [(0, .ref (a 0)), (1, .int v1), (2, .int v2), (3, .int v3)] []
  refine go_iload_n (pc := 4) C dX1_ridersOf_4 rfl 3 rfl ?_
  refine go_aload_n (pc := 5) C dX1_ridersOf_5 rfl 0 rfl ?_
  refine x1gi_1 (pc := 6) C dX1_ridersOf_6 ?_
  refine go_icmp_ge (pc := 9) (tgt := 53) C dX1_ridersOf_9 (by decide) h (fun h => ?_) (fun h => ?_)
  · refine go_iload_n (pc := 53) C dX1_ridersOf_53 rfl 2 rfl ?_
    exact (hE 0 0 _ _ _ (Nat.zero_le _) (Nat.zero_le _)).1 _ rfl dX1_ridersOf_54 ⟨congrArg (fun z => some (Value.int z)) (some1 h), rfl⟩
  · refine go_aload_n (pc := 12) C dX1_ridersOf_12 rfl 0 rfl ?_
    refine go_iload_n (pc := 13) C dX1_ridersOf_13 rfl 3 rfl ?_
    obtain ⟨r1, e1, h⟩ := bnd_some h
    refine go_callVi (pc := 14) C [.int v3] (m1_rides e1) q958 q893 q894 q139 q895 x1pd_rides (by decide) (by decide) bW_O x1c rfl (Nat.le_of_ble_eq_true rfl) ⟨Nat.zero_le _, Nat.zero_le _⟩ dX1_ridersOf_14 rfl ?_
    refine go_istore (pc := 17) C hN dX1_ridersOf_17 (by decide) rfl ?_
    refine go_iload_n (pc := 19) C dX1_ridersOf_19 rfl 3 rfl ?_
    refine go_iload (pc := 20) C dX1_ridersOf_20 0 rfl ?_
    refine go_iconst (pc := 22) (v := (-1 : Int32)) C dX1_ridersOf_22 (by decide) ?_
    refine go_icmp_eq (pc := 23) (tgt := 44) C dX1_ridersOf_23 (by decide) h (fun h => ?_) (fun h => ?_)
    · refine go_iconst (pc := 44) (v := (0 : Int32)) C dX1_ridersOf_44 (by decide) ?_
      refine go_iadd (pc := 45) C dX1_ridersOf_45 ?_
      refine go_istore_n (pc := 46) C hN dX1_ridersOf_46 rfl (by decide) rfl ?_
      refine go_iinc (pc := 47) (v := (v3 + (1 : Int32))) C hN dX1_ridersOf_47 (q := 4) rfl rfl (by decide) rfl ?_
      refine go_goto (pc := 50) (tgt := 4) C dX1_ridersOf_50 (by decide) ?_
      refine go_sub [3, 4, 1, 0] rfl ?_
      exact hK4 ((v2 + (0 : Int32)), (v3 + (1 : Int32))) h
    · refine go_iload_n (pc := 26) C dX1_ridersOf_26 rfl 2 rfl ?_
      refine go_iload (pc := 27) C dX1_ridersOf_27 0 rfl ?_
      obtain ⟨r2, e2, h⟩ := bnd_some h
      refine go_callSNi (pc := 29) C [.int v1, .int r1] (m0_has e2) q889 q890 q138 q891 x0pd_has (by decide) (by decide) rfl (Nat.le_of_ble_eq_true rfl) ⟨Nat.zero_le _, Nat.zero_le _⟩ dX1_ridersOf_29 rfl ?_
      refine go_if_eq (pc := 32) (tgt := 44) C dX1_ridersOf_32 (by decide) h (fun h => ?_) (fun h => ?_)
      · refine go_iconst (pc := 44) (v := (0 : Int32)) C dX1_ridersOf_44 (by decide) ?_
        refine go_iadd (pc := 45) C dX1_ridersOf_45 ?_
        refine go_istore_n (pc := 46) C hN dX1_ridersOf_46 rfl (by decide) rfl ?_
        refine go_iinc (pc := 47) (v := (v3 + (1 : Int32))) C hN dX1_ridersOf_47 (q := 4) rfl rfl (by decide) rfl ?_
        refine go_goto (pc := 50) (tgt := 4) C dX1_ridersOf_50 (by decide) ?_
        refine go_sub [3, 4, 1, 0] rfl ?_
        exact hK4 ((v2 + (0 : Int32)), (v3 + (1 : Int32))) h
      · refine go_aload_n (pc := 35) C dX1_ridersOf_35 rfl 1 rfl ?_
        refine x1gr_10 (pc := 36) C dX1_ridersOf_36 ?_
        refine go_iload_n (pc := 39) C dX1_ridersOf_39 rfl 4 rfl ?_
        refine go_iald (pc := 40) C x1aA_10 h dX1_ridersOf_40 (fun h => ?_)
        refine go_goto (pc := 41) (tgt := 45) C dX1_ridersOf_41 (by decide) ?_
        refine go_iadd (pc := 45) C dX1_ridersOf_45 ?_
        refine go_istore_n (pc := 46) C hN dX1_ridersOf_46 rfl (by decide) rfl ?_
        refine go_iinc (pc := 47) (v := (v3 + (1 : Int32))) C hN dX1_ridersOf_47 (q := 4) rfl rfl (by decide) rfl ?_
        refine go_goto (pc := 50) (tgt := 4) C dX1_ridersOf_50 (by decide) ?_
        refine go_sub [3, 4, 1, 0] rfl ?_
        exact hK4 ((v2 + (s0.2.1 10 (v3).toNatClampNeg)), (v3 + (1 : Int32))) h
theorem m1_ridersOf {l : Launch} {d : gD} {a : Nat → Nat} {s0 : Bl} {v1 : Int32} {r9 : Int32} (h : f1_ridersOf s0 v1 = some r9) : Mt l d yX1_ridersOf cX1_ridersOf 5 (some .int) (2, 0, 0) 49 (bW d 1 FK1 a s0) [.ref (a 0), .int v1] (fun v w => v = some (.int r9) ∧ w = (bW d 1 FK1 a s0)) := by
  refine Mt.of x1pn (Nat.le_of_ble_eq_true rfl) ?_
  intro Γ hl hd hN C hE
  subst hl; subst hd
  show Go Γ 0 0 (bW Γ.d 1 FK1 a s0) 0 [(0, .ref (a 0)), (1, .int v1)] []
  dsimp only [f1_ridersOf] at h
  refine go_iconst (pc := 0) (v := (0 : Int32)) C dX1_ridersOf_0 (by decide) ?_
  refine go_istore_n (pc := 1) C hN dX1_ridersOf_1 rfl (by decide) rfl ?_
  refine go_iconst (pc := 2) (v := (0 : Int32)) C dX1_ridersOf_2 (by decide) ?_
  refine go_istore_n (pc := 3) C hN dX1_ridersOf_3 rfl (by decide) rfl ?_
  refine go_sub [2, 3, 1, 0] rfl ?_
  exact w1_ridersOf_4 hN C hE FU ((0 : Int32), (0 : Int32)) h
theorem m1_marginOf {l : Launch} {d : gD} {a : Nat → Nat} {s0 : Bl} {v1 : Int32} {r9 : Int32} {s9 : Bl} (h : f1_marginOf s0 v1 = some (r9, s9)) : Mt l d yX1_marginOf cX1_marginOf 2 (some .int) (3, 0, 0) 73 (bW d 1 FK1 a s0) [.ref (a 0), .int v1] (fun v w => v = some (.int r9) ∧ w = (bW d 1 FK1 a s9)) := by
  refine Mt.of x1pn (Nat.le_of_ble_eq_true rfl) ?_
  intro Γ hl hd hN C hE
  subst hl; subst hd
  show Go Γ 0 0 (bW Γ.d 1 FK1 a s0) 0 [(0, .ref (a 0)), (1, .int v1)] []
  dsimp only [f1_marginOf] at h
  refine go_aload_n (pc := 0) C dX1_marginOf_0 rfl 0 rfl ?_
  refine go_aload_n (pc := 1) C dX1_marginOf_1 rfl 0 rfl ?_
  obtain ⟨r1, e1, h⟩ := bnd_some h
  refine go_callVi (pc := 2) C [] (m1_allRopes e1) q926 q878 q879 q139 q880 x1pd_allRopes (by decide) (by decide) bW_O x1c rfl (Nat.le_of_ble_eq_true rfl) ⟨Nat.zero_le _, Nat.zero_le _⟩ dX1_marginOf_2 rfl ?_
  obtain ⟨s2, e2, h⟩ := bnd_some h
  refine go_callVv (pc := 5) C [.int r1] (m1_parts e2) q949 q882 q883 q139 q884 x1pd_parts (by decide) (by decide) bW_O x1c rfl (Nat.le_of_ble_eq_true rfl) ⟨Nat.zero_le _, Nat.zero_le _⟩ dX1_marginOf_5 rfl ?_
  refine go_aload_n (pc := 8) C dX1_marginOf_8 rfl 0 rfl ?_
  refine go_aload_n (pc := 9) C dX1_marginOf_9 rfl 0 rfl ?_
  refine x1gr_28 (pc := 10) C dX1_marginOf_10 ?_
  refine go_iload_n (pc := 13) C dX1_marginOf_13 rfl 1 rfl ?_
  refine go_iald (pc := 14) C x1aA_28 h dX1_marginOf_14 (fun h => ?_)
  obtain ⟨r3, e3, h⟩ := bnd_some h
  refine go_callVi (pc := 15) C [.int (s2.2.1 28 (v1).toNatClampNeg)] (m1_bearsOf e3) q950 q951 q952 q139 q953 x1pd_bearsOf (by decide) (by decide) bW_O x1c rfl (Nat.le_of_ble_eq_true rfl) ⟨Nat.zero_le _, Nat.zero_le _⟩ dX1_marginOf_15 rfl ?_
  refine go_aload_n (pc := 18) C dX1_marginOf_18 rfl 0 rfl ?_
  refine go_aload_n (pc := 19) C dX1_marginOf_19 rfl 0 rfl ?_
  refine x1gr_28 (pc := 20) C dX1_marginOf_20 ?_
  refine go_iload_n (pc := 23) C dX1_marginOf_23 rfl 1 rfl ?_
  refine go_iald (pc := 24) C x1aA_28 h dX1_marginOf_24 (fun h => ?_)
  obtain ⟨r4, e4, h⟩ := bnd_some h
  refine go_callVi (pc := 25) C [.int (s2.2.1 28 (v1).toNatClampNeg)] (m1_ridersOf e4) q954 q955 q956 q139 q957 x1pd_ridersOf (by decide) (by decide) bW_O x1c rfl (Nat.le_of_ble_eq_true rfl) ⟨Nat.zero_le _, Nat.zero_le _⟩ dX1_marginOf_25 rfl ?_
  refine go_isub (pc := 28) C dX1_marginOf_28 ?_
  exact (hE 0 0 _ _ _ (Nat.zero_le _) (Nat.zero_le _)).1 _ rfl dX1_marginOf_29 ⟨congrArg (fun z => some (Value.int z)) (some2 h).1, congrArg (fun z => bW Γ.d 1 FK1 a z) (some2 h).2⟩
theorem w1_sinkingBy_12 {Γ : Gam} {a : Nat → Nat} {s0 : Bl} {r9 : Int32} {s9 : Bl} (hN : Γ.nL = 5) (C : Cx Γ cX1_sinkingBy RX1 (3, 0, 0) 73) (hE : Rets Γ cX1_sinkingBy (some .int) 0 0 (fun v w => v = some (.int r9) ∧ w = (bW Γ.d 1 FK1 a s9))) : ∀ (n : Nat) (s : Int32 × Int32 × Int32), loop (g1_sinkingBy_12 s0) n s = some (r9, s9) → (fun s : Int32 × Int32 × Int32 => Go Γ 0 0 (bW Γ.d 1 FK1 a s0) 12 [(0, .ref (a 0)), (2, .int s.1), (3, .int s.2.1), (4, .int s.2.2)] []) s := by
  refine loop_walk (P := fun s : Int32 × Int32 × Int32 => Go Γ 0 0 (bW Γ.d 1 FK1 a s0) 12 [(0, .ref (a 0)), (2, .int s.1), (3, .int s.2.1), (4, .int s.2.2)] []) ?_
  intro K12 hK12 s h
  obtain ⟨v2, v3, v4⟩ := s
  dsimp only [g1_sinkingBy_12] at h
  show Go Γ 0 0 (bW Γ.d 1 FK1 a s0) 12 [(0, .ref (a 0)), (2, .int v2), (3, .int v3), (4, .int v4)] []
  refine go_iload (pc := 12) C dX1_sinkingBy_12 3 rfl ?_
  refine go_aload_n (pc := 14) C dX1_sinkingBy_14 rfl 0 rfl ?_
  refine x1gi_2 (pc := 15) C dX1_sinkingBy_15 ?_
  refine go_icmp_ge (pc := 18) (tgt := 95) C dX1_sinkingBy_18 (by decide) h (fun h => ?_) (fun h => ?_)
  · refine go_iload_n (pc := 95) C dX1_sinkingBy_95 rfl 1 rfl ?_
    exact (hE 0 0 _ _ _ (Nat.zero_le _) (Nat.zero_le _)).1 _ rfl dX1_sinkingBy_96 ⟨congrArg (fun z => some (Value.int z)) (some2 h).1, congrArg (fun z => bW Γ.d 1 FK1 a z) (some2 h).2⟩
  · refine go_aload_n (pc := 21) C dX1_sinkingBy_21 rfl 0 rfl ?_
    refine x1gr_16 (pc := 22) C dX1_sinkingBy_22 ?_
    refine go_iload (pc := 25) C dX1_sinkingBy_25 3 rfl ?_
    refine go_iald (pc := 27) C x1aA_16 h dX1_sinkingBy_27 (fun h => ?_)
    refine go_if_ne (pc := 28) (tgt := 89) C dX1_sinkingBy_28 (by decide) h (fun h => ?_) (fun h => ?_)
    · refine go_iinc (pc := 89) (v := (v4 + (1 : Int32))) C hN dX1_sinkingBy_89 (q := 3) rfl rfl (by decide) rfl ?_
      refine go_goto (pc := 92) (tgt := 12) C dX1_sinkingBy_92 (by decide) ?_
      refine go_sub [1, 2, 3, 0] rfl ?_
      exact hK12 (v2, v3, (v4 + (1 : Int32))) h
    · refine go_iload_n (pc := 31) C dX1_sinkingBy_31 rfl 2 rfl ?_
      refine go_iload (pc := 32) C dX1_sinkingBy_32 3 rfl ?_
      obtain ⟨r2, e2, h⟩ := bnd_some h
      refine go_callSNi (pc := 34) C [.int v3, .int v4] (m0_has e2) q889 q890 q138 q891 x0pd_has (by decide) (by decide) rfl (Nat.le_of_ble_eq_true rfl) ⟨Nat.zero_le _, Nat.zero_le _⟩ dX1_sinkingBy_34 rfl ?_
      refine go_if_eq (pc := 37) (tgt := 43) C dX1_sinkingBy_37 (by decide) h (fun h => ?_) (fun h => ?_)
      · refine go_iload_n (pc := 43) C dX1_sinkingBy_43 rfl 2 rfl ?_
        refine go_aload_n (pc := 44) C dX1_sinkingBy_44 rfl 0 rfl ?_
        refine x1gr_28 (pc := 45) C dX1_sinkingBy_45 ?_
        refine go_iload (pc := 48) C dX1_sinkingBy_48 3 rfl ?_
        refine go_iald (pc := 50) C x1aA_28 h dX1_sinkingBy_50 (fun h => ?_)
        refine go_ior (pc := 51) C dX1_sinkingBy_51 ?_
        refine go_istore_n (pc := 52) C hN dX1_sinkingBy_52 rfl (by decide) rfl ?_
        refine go_aload_n (pc := 53) C dX1_sinkingBy_53 rfl 1 rfl ?_
        refine go_aload_n (pc := 54) C dX1_sinkingBy_54 rfl 1 rfl ?_
        refine x1gr_28 (pc := 55) C dX1_sinkingBy_55 ?_
        refine go_iload (pc := 58) C dX1_sinkingBy_58 3 rfl ?_
        refine go_iald (pc := 60) C x1aA_28 h dX1_sinkingBy_60 (fun h => ?_)
        obtain ⟨r3, e3, h⟩ := bnd_some h
        refine go_callVi (pc := 61) C [.int (s0.2.1 28 (v4).toNatClampNeg)] (m1_bearsOf e3) q950 q951 q952 q139 q953 x1pd_bearsOf (by decide) (by decide) bW_O x1c rfl (Nat.le_of_ble_eq_true rfl) ⟨Nat.zero_le _, Nat.zero_le _⟩ dX1_sinkingBy_61 rfl ?_
        refine go_aload_n (pc := 64) C dX1_sinkingBy_64 rfl 1 rfl ?_
        refine go_aload_n (pc := 65) C dX1_sinkingBy_65 rfl 1 rfl ?_
        refine x1gr_28 (pc := 66) C dX1_sinkingBy_66 ?_
        refine go_iload (pc := 69) C dX1_sinkingBy_69 3 rfl ?_
        refine go_iald (pc := 71) C x1aA_28 h dX1_sinkingBy_71 (fun h => ?_)
        obtain ⟨r4, e4, h⟩ := bnd_some h
        refine go_callVi (pc := 72) C [.int (s0.2.1 28 (v4).toNatClampNeg)] (m1_ridersOf e4) q954 q955 q956 q139 q957 x1pd_ridersOf (by decide) (by decide) bW_O x1c rfl (Nat.le_of_ble_eq_true rfl) ⟨Nat.zero_le _, Nat.zero_le _⟩ dX1_sinkingBy_72 rfl ?_
        refine go_isub (pc := 75) C dX1_sinkingBy_75 ?_
        refine go_if_ge (pc := 76) (tgt := 89) C dX1_sinkingBy_76 (by decide) h (fun h => ?_) (fun h => ?_)
        · refine go_iinc (pc := 89) (v := (v4 + (1 : Int32))) C hN dX1_sinkingBy_89 (q := 3) rfl rfl (by decide) rfl ?_
          refine go_goto (pc := 92) (tgt := 12) C dX1_sinkingBy_92 (by decide) ?_
          refine go_sub [2, 3, 1, 0] rfl ?_
          exact hK12 (v2, (v3 ||| (s0.2.1 28 (v4).toNatClampNeg)), (v4 + (1 : Int32))) h
        · refine go_iload_n (pc := 79) C dX1_sinkingBy_79 rfl 2 rfl ?_
          refine go_aload_n (pc := 80) C dX1_sinkingBy_80 rfl 1 rfl ?_
          refine x1gr_28 (pc := 81) C dX1_sinkingBy_81 ?_
          refine go_iload (pc := 84) C dX1_sinkingBy_84 3 rfl ?_
          refine go_iald (pc := 86) C x1aA_28 h dX1_sinkingBy_86 (fun h => ?_)
          refine go_ior (pc := 87) C dX1_sinkingBy_87 ?_
          refine go_istore_n (pc := 88) C hN dX1_sinkingBy_88 rfl (by decide) rfl ?_
          refine go_iinc (pc := 89) (v := (v4 + (1 : Int32))) C hN dX1_sinkingBy_89 (q := 3) rfl rfl (by decide) rfl ?_
          refine go_goto (pc := 92) (tgt := 12) C dX1_sinkingBy_92 (by decide) ?_
          refine go_sub [3, 1, 2, 0] rfl ?_
          exact hK12 ((v2 ||| (s0.2.1 28 (v4).toNatClampNeg)), (v3 ||| (s0.2.1 28 (v4).toNatClampNeg)), (v4 + (1 : Int32))) h
      · refine go_goto (pc := 40) (tgt := 89) C dX1_sinkingBy_40 (by decide) ?_
        refine go_iinc (pc := 89) (v := (v4 + (1 : Int32))) C hN dX1_sinkingBy_89 (q := 3) rfl rfl (by decide) rfl ?_
        refine go_goto (pc := 92) (tgt := 12) C dX1_sinkingBy_92 (by decide) ?_
        refine go_sub [1, 2, 3, 0] rfl ?_
        exact hK12 (v2, v3, (v4 + (1 : Int32))) h
theorem m1_sinkingBy {l : Launch} {d : gD} {a : Nat → Nat} {s0 : Bl} {v1 : Int32} {r9 : Int32} {s9 : Bl} (h : f1_sinkingBy s0 v1 = some (r9, s9)) : Mt l d yX1_sinkingBy cX1_sinkingBy 5 (some .int) (3, 0, 0) 73 (bW d 1 FK1 a s0) [.ref (a 0), .int v1] (fun v w => v = some (.int r9) ∧ w = (bW d 1 FK1 a s9)) := by
  refine Mt.of x1pn (Nat.le_of_ble_eq_true rfl) ?_
  intro Γ hl hd hN C hE
  subst hl; subst hd
  show Go Γ 0 0 (bW Γ.d 1 FK1 a s0) 0 [(0, .ref (a 0)), (1, .int v1)] []
  dsimp only [f1_sinkingBy] at h
  refine go_iconst (pc := 0) (v := (0 : Int32)) C dX1_sinkingBy_0 (by decide) ?_
  refine go_istore_n (pc := 1) C hN dX1_sinkingBy_1 rfl (by decide) rfl ?_
  refine go_iconst (pc := 2) (v := (0 : Int32)) C dX1_sinkingBy_2 (by decide) ?_
  refine go_istore_n (pc := 3) C hN dX1_sinkingBy_3 rfl (by decide) rfl ?_
  refine go_aload_n (pc := 4) C dX1_sinkingBy_4 rfl 2 rfl ?_
  refine go_iload_n (pc := 5) C dX1_sinkingBy_5 rfl 3 rfl ?_
  obtain ⟨s1, e1, h⟩ := bnd_some h
  refine go_callVv (pc := 6) C [.int v1] (m1_parts e1) q949 q882 q883 q139 q884 x1pd_parts (by decide) (by decide) bW_O x1c rfl (Nat.le_of_ble_eq_true rfl) ⟨Nat.zero_le _, Nat.zero_le _⟩ dX1_sinkingBy_6 rfl ?_
  refine go_iconst (pc := 9) (v := (0 : Int32)) C dX1_sinkingBy_9 (by decide) ?_
  refine go_istore (pc := 10) C hN dX1_sinkingBy_10 (by decide) rfl ?_
  refine go_sub [3, 2, 1, 0] rfl ?_
  exact w1_sinkingBy_12 hN C hE FU ((0 : Int32), (0 : Int32), (0 : Int32)) h
theorem w1_ropeOf_2 {Γ : Gam} {a : Nat → Nat} {s0 : Bl} {v1 : Int32} {v2 : Int32} {r9 : Int32} (hN : Γ.nL = 4) (C : Cx Γ cX1_ropeOf RX1 (1, 0, 0) 26) (hE : Rets Γ cX1_ropeOf (some .int) 0 0 (fun v w => v = some (.int r9) ∧ w = (bW Γ.d 1 FK1 a s0))) : ∀ (n : Nat) (s : Int32), loop (g1_ropeOf_2 s0 v1 v2) n s = some r9 → (fun s : Int32 => Go Γ 0 0 (bW Γ.d 1 FK1 a s0) 2 [(0, .ref (a 0)), (1, .int v1), (2, .int v2), (3, .int s)] []) s := by
  refine loop_walk (P := fun s : Int32 => Go Γ 0 0 (bW Γ.d 1 FK1 a s0) 2 [(0, .ref (a 0)), (1, .int v1), (2, .int v2), (3, .int s)] []) ?_
  intro K2 hK2 s h
  obtain ⟨v3, rfl⟩ : ∃ z, z = s := ⟨_, rfl⟩
  dsimp only [g1_ropeOf_2] at h
  show Go Γ 0 0 (bW Γ.d 1 FK1 a s0) 2 [(0, .ref (a 0)), (1, .int v1), (2, .int v2), (3, .int v3)] []
  refine go_iload_n (pc := 2) C dX1_ropeOf_2 rfl 3 rfl ?_
  refine go_aload_n (pc := 3) C dX1_ropeOf_3 rfl 0 rfl ?_
  refine x1gi_5 (pc := 4) C dX1_ropeOf_4 ?_
  refine go_icmp_ge (pc := 7) (tgt := 46) C dX1_ropeOf_7 (by decide) h (fun h => ?_) (fun h => ?_)
  · refine go_iconst (pc := 46) (v := (-1 : Int32)) C dX1_ropeOf_46 (by decide) ?_
    exact (hE 0 0 _ _ _ (Nat.zero_le _) (Nat.zero_le _)).1 _ rfl dX1_ropeOf_47 ⟨congrArg (fun z => some (Value.int z)) (some1 h), rfl⟩
  · refine go_aload_n (pc := 10) C dX1_ropeOf_10 rfl 0 rfl ?_
    refine x1gr_18 (pc := 11) C dX1_ropeOf_11 ?_
    refine go_iload_n (pc := 14) C dX1_ropeOf_14 rfl 3 rfl ?_
    refine go_iald (pc := 15) C x1aA_18 h dX1_ropeOf_15 (fun h => ?_)
    refine go_iload_n (pc := 16) C dX1_ropeOf_16 rfl 1 rfl ?_
    refine go_iload_n (pc := 17) C dX1_ropeOf_17 rfl 2 rfl ?_
    refine go_mmin (pc := 18) C q665 (by decide) (Nat.le_of_ble_eq_true rfl) ⟨Nat.zero_le _, Nat.zero_le _⟩ dX1_ropeOf_18 ?_
    refine go_icmp_ne (pc := 21) (tgt := 40) C dX1_ropeOf_21 (by decide) h (fun h => ?_) (fun h => ?_)
    · refine go_iinc (pc := 40) (v := (v3 + (1 : Int32))) C hN dX1_ropeOf_40 (q := 3) rfl rfl (by decide) rfl ?_
      refine go_goto (pc := 43) (tgt := 2) C dX1_ropeOf_43 (by decide) ?_
      refine go_sub [1, 2, 3, 0] rfl ?_
      exact hK2 (v3 + (1 : Int32)) h
    · refine go_aload_n (pc := 24) C dX1_ropeOf_24 rfl 0 rfl ?_
      refine x1gr_19 (pc := 25) C dX1_ropeOf_25 ?_
      refine go_iload_n (pc := 28) C dX1_ropeOf_28 rfl 3 rfl ?_
      refine go_iald (pc := 29) C x1aA_19 h dX1_ropeOf_29 (fun h => ?_)
      refine go_iload_n (pc := 30) C dX1_ropeOf_30 rfl 1 rfl ?_
      refine go_iload_n (pc := 31) C dX1_ropeOf_31 rfl 2 rfl ?_
      refine go_mmax (pc := 32) C q668 (by decide) (Nat.le_of_ble_eq_true rfl) ⟨Nat.zero_le _, Nat.zero_le _⟩ dX1_ropeOf_32 ?_
      refine go_icmp_ne (pc := 35) (tgt := 40) C dX1_ropeOf_35 (by decide) h (fun h => ?_) (fun h => ?_)
      · refine go_iinc (pc := 40) (v := (v3 + (1 : Int32))) C hN dX1_ropeOf_40 (q := 3) rfl rfl (by decide) rfl ?_
        refine go_goto (pc := 43) (tgt := 2) C dX1_ropeOf_43 (by decide) ?_
        refine go_sub [1, 2, 3, 0] rfl ?_
        exact hK2 (v3 + (1 : Int32)) h
      · refine go_iload_n (pc := 38) C dX1_ropeOf_38 rfl 3 rfl ?_
        exact (hE 0 0 _ _ _ (Nat.zero_le _) (Nat.zero_le _)).1 _ rfl dX1_ropeOf_39 ⟨congrArg (fun z => some (Value.int z)) (some1 h), rfl⟩
theorem m1_ropeOf {l : Launch} {d : gD} {a : Nat → Nat} {s0 : Bl} {v1 : Int32} {v2 : Int32} {r9 : Int32} (h : f1_ropeOf s0 v1 v2 = some r9) : Mt l d yX1_ropeOf cX1_ropeOf 4 (some .int) (1, 0, 0) 26 (bW d 1 FK1 a s0) [.ref (a 0), .int v1, .int v2] (fun v w => v = some (.int r9) ∧ w = (bW d 1 FK1 a s0)) := by
  refine Mt.of x1pn (Nat.le_of_ble_eq_true rfl) ?_
  intro Γ hl hd hN C hE
  subst hl; subst hd
  show Go Γ 0 0 (bW Γ.d 1 FK1 a s0) 0 [(0, .ref (a 0)), (1, .int v1), (2, .int v2)] []
  dsimp only [f1_ropeOf] at h
  refine go_iconst (pc := 0) (v := (0 : Int32)) C dX1_ropeOf_0 (by decide) ?_
  refine go_istore_n (pc := 1) C hN dX1_ropeOf_1 rfl (by decide) rfl ?_
  refine go_sub [1, 2, 3, 0] rfl ?_
  exact w1_ropeOf_2 hN C hE FU (0 : Int32) h
theorem m1_binds {l : Launch} {d : gD} {a : Nat → Nat} {s0 : Bl} {v1 : Int32} {v2 : Int32} {v3 : Int32} {s9 : Bl} (h : f1_binds s0 v1 v2 v3 = some s9) : Mt l d yX1_binds cX1_binds 4 none (1, 0, 0) 26 (bW d 1 FK1 a s0) [.ref (a 0), .int v1, .int v2, .int v3] (fun v w => v = none ∧ w = (bW d 1 FK1 a s9)) := by
  refine Mt.of x1pn (Nat.le_of_ble_eq_true rfl) ?_
  intro Γ hl hd hN C hE
  subst hl; subst hd
  show Go Γ 0 0 (bW Γ.d 1 FK1 a s0) 0 [(0, .ref (a 0)), (1, .int v1), (2, .int v2), (3, .int v3)] []
  dsimp only [f1_binds] at h
  refine go_aload_n (pc := 0) C dX1_binds_0 rfl 0 rfl ?_
  refine x1gr_18 (pc := 1) C dX1_binds_1 ?_
  refine go_aload_n (pc := 4) C dX1_binds_4 rfl 0 rfl ?_
  refine x1gi_5 (pc := 5) C dX1_binds_5 ?_
  refine go_iload_n (pc := 8) C dX1_binds_8 rfl 1 rfl ?_
  refine go_iload_n (pc := 9) C dX1_binds_9 rfl 2 rfl ?_
  refine go_mmin (pc := 10) C q665 (by decide) (Nat.le_of_ble_eq_true rfl) ⟨Nat.zero_le _, Nat.zero_le _⟩ dX1_binds_10 ?_
  refine go_iast (pc := 13) C x1pA_18 h dX1_binds_13 (fun h => ?_)
  refine go_aload_n (pc := 14) C dX1_binds_14 rfl 0 rfl ?_
  refine x1gr_19 (pc := 15) C dX1_binds_15 ?_
  refine go_aload_n (pc := 18) C dX1_binds_18 rfl 0 rfl ?_
  refine x1gi_5 (pc := 19) C dX1_binds_19 ?_
  refine go_iload_n (pc := 22) C dX1_binds_22 rfl 1 rfl ?_
  refine go_iload_n (pc := 23) C dX1_binds_23 rfl 2 rfl ?_
  refine go_mmax (pc := 24) C q668 (by decide) (Nat.le_of_ble_eq_true rfl) ⟨Nat.zero_le _, Nat.zero_le _⟩ dX1_binds_24 ?_
  refine go_iast (pc := 27) C x1pA_19 h dX1_binds_27 (fun h => ?_)
  refine go_nm (pc := 28) (fun z9 => (bW Γ.d 1 FK1 a z9)) (fun s1 es1 => ?_)
  have h := ltv_eq es1 h
  refine go_aload_n (pc := 28) C dX1_binds_28 rfl 0 rfl ?_
  refine x1gr_20 (pc := 29) C dX1_binds_29 ?_
  refine go_aload_n (pc := 32) C dX1_binds_32 rfl 0 rfl ?_
  refine x1gi_5 (pc := 33) C dX1_binds_33 ?_
  refine go_iload_n (pc := 36) C dX1_binds_36 rfl 3 rfl ?_
  refine go_iast (pc := 37) C x1pA_20 h dX1_binds_37 (fun h => ?_)
  refine go_aload_n (pc := 38) C dX1_binds_38 rfl 0 rfl ?_
  refine go_dup (pc := 39) C dX1_binds_39 rfl ?_
  refine x1gi_5 (pc := 40) C dX1_binds_40 ?_
  refine go_iconst (pc := 43) (v := (1 : Int32)) C dX1_binds_43 (by decide) ?_
  refine go_iadd (pc := 44) C dX1_binds_44 ?_
  refine x1pi_5 (pc := 45) C dX1_binds_45 ?_
  exact (hE 0 0 _ _ _ (Nat.zero_le _) (Nat.zero_le _)).2.2.2.1 rfl dX1_binds_48 ⟨rfl, congrArg (fun z => bW Γ.d 1 FK1 a z) (some1 h)⟩
theorem w1_loses_7 {Γ : Gam} {a : Nat → Nat} {v1 : Int32} {r9 : Int32} {s9 : Bl} (hN : Γ.nL = 5) (C : Cx Γ cX1_loses RX1 (1, 0, 0) 21) (hE : Rets Γ cX1_loses (some .int) 0 0 (fun v w => v = some (.int r9) ∧ w = (bW Γ.d 1 FK1 a s9))) : ∀ (n : Nat) (s : Bl × Int32 × Int32 × Int32), loop (g1_loses_7 v1) n s = some (r9, s9) → (fun s : Bl × Int32 × Int32 × Int32 => Go Γ 0 0 (bW Γ.d 1 FK1 a s.1) 7 [(0, .ref (a 0)), (1, .int v1), (2, .int s.2.1), (3, .int s.2.2.1), (4, .int s.2.2.2)] []) s := by
  refine loop_walk (P := fun s : Bl × Int32 × Int32 × Int32 => Go Γ 0 0 (bW Γ.d 1 FK1 a s.1) 7 [(0, .ref (a 0)), (1, .int v1), (2, .int s.2.1), (3, .int s.2.2.1), (4, .int s.2.2.2)] []) ?_
  intro K7 hK7 s h
  obtain ⟨s0, v2, v3, v4⟩ := s
  dsimp only [g1_loses_7] at h
  show Go Γ 0 0 (bW Γ.d 1 FK1 a s0) 7 [(0, .ref (a 0)), (1, .int v1), (2, .int v2), (3, .int v3), (4, .int v4)] []
  refine go_iload (pc := 7) C dX1_loses_7 4 rfl ?_
  refine go_aload_n (pc := 9) C dX1_loses_9 rfl 0 rfl ?_
  refine x1gi_5 (pc := 10) C dX1_loses_10 ?_
  refine go_icmp_ge (pc := 13) (tgt := 86) C dX1_loses_13 (by decide) h (fun h => ?_) (fun h => ?_)
  · refine go_aload_n (pc := 86) C dX1_loses_86 rfl 0 rfl ?_
    refine go_iload_n (pc := 87) C dX1_loses_87 rfl 2 rfl ?_
    refine x1pi_5 (pc := 88) C dX1_loses_88 ?_
    refine go_iload_n (pc := 91) C dX1_loses_91 rfl 3 rfl ?_
    exact (hE 0 0 _ _ _ (Nat.zero_le _) (Nat.zero_le _)).1 _ rfl dX1_loses_92 ⟨congrArg (fun z => some (Value.int z)) (some2 h).1, congrArg (fun z => bW Γ.d 1 FK1 a z) (some2 h).2⟩
  · refine go_iload_n (pc := 16) C dX1_loses_16 rfl 1 rfl ?_
    refine go_iload (pc := 17) C dX1_loses_17 4 rfl ?_
    obtain ⟨r1, e1, h⟩ := bnd_some h
    refine go_callSNi (pc := 19) C [.int v1, .int v4] (m0_has e1) q889 q890 q138 q891 x0pd_has (by decide) (by decide) rfl (Nat.le_of_ble_eq_true rfl) ⟨Nat.zero_le _, Nat.zero_le _⟩ dX1_loses_19 rfl ?_
    refine go_if_eq (pc := 22) (tgt := 38) C dX1_loses_22 (by decide) h (fun h => ?_) (fun h => ?_)
    · refine go_aload_n (pc := 38) C dX1_loses_38 rfl 0 rfl ?_
      refine x1gr_18 (pc := 39) C dX1_loses_39 ?_
      refine go_iload_n (pc := 42) C dX1_loses_42 rfl 2 rfl ?_
      refine go_aload_n (pc := 43) C dX1_loses_43 rfl 0 rfl ?_
      refine x1gr_18 (pc := 44) C dX1_loses_44 ?_
      refine go_iload (pc := 47) C dX1_loses_47 4 rfl ?_
      refine go_iald (pc := 49) C x1aA_18 h dX1_loses_49 (fun h => ?_)
      refine go_iast (pc := 50) C x1pA_18 h dX1_loses_50 (fun h => ?_)
      refine go_aload_n (pc := 51) C dX1_loses_51 rfl 0 rfl ?_
      refine x1gr_19 (pc := 52) C dX1_loses_52 ?_
      refine go_iload_n (pc := 55) C dX1_loses_55 rfl 2 rfl ?_
      refine go_aload_n (pc := 56) C dX1_loses_56 rfl 0 rfl ?_
      refine x1gr_19 (pc := 57) C dX1_loses_57 ?_
      refine go_iload (pc := 60) C dX1_loses_60 4 rfl ?_
      refine go_iald (pc := 62) C x1aA_19 h dX1_loses_62 (fun h => ?_)
      refine go_iast (pc := 63) C x1pA_19 h dX1_loses_63 (fun h => ?_)
      refine go_nm (pc := 64) (fun z9 => (bW Γ.d 1 FK1 a z9)) (fun s2 es2 => ?_)
      have h := ltv_eq es2 h
      refine go_aload_n (pc := 64) C dX1_loses_64 rfl 0 rfl ?_
      refine x1gr_20 (pc := 65) C dX1_loses_65 ?_
      refine go_iload_n (pc := 68) C dX1_loses_68 rfl 2 rfl ?_
      refine go_aload_n (pc := 69) C dX1_loses_69 rfl 0 rfl ?_
      refine x1gr_20 (pc := 70) C dX1_loses_70 ?_
      refine go_iload (pc := 73) C dX1_loses_73 4 rfl ?_
      refine go_iald (pc := 75) C x1aA_20 h dX1_loses_75 (fun h => ?_)
      refine go_iast (pc := 76) C x1pA_20 h dX1_loses_76 (fun h => ?_)
      refine go_iinc (pc := 77) (v := (v2 + (1 : Int32))) C hN dX1_loses_77 (q := 2) rfl rfl (by decide) rfl ?_
      refine go_iinc (pc := 80) (v := (v4 + (1 : Int32))) C hN dX1_loses_80 (q := 4) rfl rfl (by decide) rfl ?_
      refine go_goto (pc := 83) (tgt := 7) C dX1_loses_83 (by decide) ?_
      refine go_sub [2, 3, 1, 4, 0] rfl ?_
      exact hK7 ((bA s2 20 (v2).toNatClampNeg (s2.2.1 20 (v4).toNatClampNeg)), (v2 + (1 : Int32)), v3, (v4 + (1 : Int32))) h
    · refine go_iload_n (pc := 25) C dX1_loses_25 rfl 3 rfl ?_
      refine go_aload_n (pc := 26) C dX1_loses_26 rfl 0 rfl ?_
      refine x1gr_20 (pc := 27) C dX1_loses_27 ?_
      refine go_iload (pc := 30) C dX1_loses_30 4 rfl ?_
      refine go_iald (pc := 32) C x1aA_20 h dX1_loses_32 (fun h => ?_)
      refine go_iadd (pc := 33) C dX1_loses_33 ?_
      refine go_istore_n (pc := 34) C hN dX1_loses_34 rfl (by decide) rfl ?_
      refine go_goto (pc := 35) (tgt := 80) C dX1_loses_35 (by decide) ?_
      refine go_iinc (pc := 80) (v := (v4 + (1 : Int32))) C hN dX1_loses_80 (q := 4) rfl rfl (by decide) rfl ?_
      refine go_goto (pc := 83) (tgt := 7) C dX1_loses_83 (by decide) ?_
      refine go_sub [2, 3, 4, 1, 0] rfl ?_
      exact hK7 (s0, v2, (v3 + (s0.2.1 20 (v4).toNatClampNeg)), (v4 + (1 : Int32))) h
theorem m1_loses {l : Launch} {d : gD} {a : Nat → Nat} {s0 : Bl} {v1 : Int32} {r9 : Int32} {s9 : Bl} (h : f1_loses s0 v1 = some (r9, s9)) : Mt l d yX1_loses cX1_loses 5 (some .int) (1, 0, 0) 21 (bW d 1 FK1 a s0) [.ref (a 0), .int v1] (fun v w => v = some (.int r9) ∧ w = (bW d 1 FK1 a s9)) := by
  refine Mt.of x1pn (Nat.le_of_ble_eq_true rfl) ?_
  intro Γ hl hd hN C hE
  subst hl; subst hd
  show Go Γ 0 0 (bW Γ.d 1 FK1 a s0) 0 [(0, .ref (a 0)), (1, .int v1)] []
  dsimp only [f1_loses] at h
  refine go_iconst (pc := 0) (v := (0 : Int32)) C dX1_loses_0 (by decide) ?_
  refine go_istore_n (pc := 1) C hN dX1_loses_1 rfl (by decide) rfl ?_
  refine go_iconst (pc := 2) (v := (0 : Int32)) C dX1_loses_2 (by decide) ?_
  refine go_istore_n (pc := 3) C hN dX1_loses_3 rfl (by decide) rfl ?_
  refine go_iconst (pc := 4) (v := (0 : Int32)) C dX1_loses_4 (by decide) ?_
  refine go_istore (pc := 5) C hN dX1_loses_5 (by decide) rfl ?_
  refine go_sub [3, 4, 2, 1, 0] rfl ?_
  exact w1_loses_7 hN C hE FU (s0, (0 : Int32), (0 : Int32), (0 : Int32)) h
theorem w1_ropesAt_4 {Γ : Gam} {a : Nat → Nat} {s0 : Bl} {v1 : Int32} {r9 : Int32} (hN : Γ.nL = 4) (C : Cx Γ cX1_ropesAt RX1 (1, 0, 0) 21) (hE : Rets Γ cX1_ropesAt (some .int) 0 0 (fun v w => v = some (.int r9) ∧ w = (bW Γ.d 1 FK1 a s0))) : ∀ (n : Nat) (s : Int32 × Int32), loop (g1_ropesAt_4 s0 v1) n s = some r9 → (fun s : Int32 × Int32 => Go Γ 0 0 (bW Γ.d 1 FK1 a s0) 4 [(0, .ref (a 0)), (1, .int v1), (2, .int s.1), (3, .int s.2)] []) s := by
  refine loop_walk (P := fun s : Int32 × Int32 => Go Γ 0 0 (bW Γ.d 1 FK1 a s0) 4 [(0, .ref (a 0)), (1, .int v1), (2, .int s.1), (3, .int s.2)] []) ?_
  intro K4 hK4 s h
  obtain ⟨v2, v3⟩ := s
  dsimp only [g1_ropesAt_4] at h
  show Go Γ 0 0 (bW Γ.d 1 FK1 a s0) 4 [(0, .ref (a 0)), (1, .int v1), (2, .int v2), (3, .int v3)] []
  refine go_iload_n (pc := 4) C dX1_ropesAt_4 rfl 3 rfl ?_
  refine go_aload_n (pc := 5) C dX1_ropesAt_5 rfl 0 rfl ?_
  refine x1gi_5 (pc := 6) C dX1_ropesAt_6 ?_
  refine go_icmp_ge (pc := 9) (tgt := 54) C dX1_ropesAt_9 (by decide) h (fun h => ?_) (fun h => ?_)
  · refine go_iload_n (pc := 54) C dX1_ropesAt_54 rfl 2 rfl ?_
    exact (hE 0 0 _ _ _ (Nat.zero_le _) (Nat.zero_le _)).1 _ rfl dX1_ropesAt_55 ⟨congrArg (fun z => some (Value.int z)) (some1 h), rfl⟩
  · refine go_iload_n (pc := 12) C dX1_ropesAt_12 rfl 2 rfl ?_
    refine go_iload_n (pc := 13) C dX1_ropesAt_13 rfl 1 rfl ?_
    refine go_aload_n (pc := 14) C dX1_ropesAt_14 rfl 0 rfl ?_
    refine x1gr_18 (pc := 15) C dX1_ropesAt_15 ?_
    refine go_iload_n (pc := 18) C dX1_ropesAt_18 rfl 3 rfl ?_
    refine go_iald (pc := 19) C x1aA_18 h dX1_ropesAt_19 (fun h => ?_)
    obtain ⟨r1, e1, h⟩ := bnd_some h
    refine go_callSNi (pc := 20) C [.int v1, .int (s0.2.1 18 (v3).toNatClampNeg)] (m0_has e1) q889 q890 q138 q891 x0pd_has (by decide) (by decide) rfl (Nat.le_of_ble_eq_true rfl) ⟨Nat.zero_le _, Nat.zero_le _⟩ dX1_ropesAt_20 rfl ?_
    refine go_if_ne (pc := 23) (tgt := 39) C dX1_ropesAt_23 (by decide) h (fun h => ?_) (fun h => ?_)
    · refine go_iconst (pc := 39) (v := (1 : Int32)) C dX1_ropesAt_39 (by decide) ?_
      refine go_iload_n (pc := 40) C dX1_ropesAt_40 rfl 3 rfl ?_
      refine go_ishl (pc := 41) C dX1_ropesAt_41 ?_
      refine go_goto (pc := 42) (tgt := 46) C dX1_ropesAt_42 (by decide) ?_
      refine go_ior (pc := 46) C dX1_ropesAt_46 ?_
      refine go_istore_n (pc := 47) C hN dX1_ropesAt_47 rfl (by decide) rfl ?_
      refine go_iinc (pc := 48) (v := (v3 + (1 : Int32))) C hN dX1_ropesAt_48 (q := 3) rfl rfl (by decide) rfl ?_
      refine go_goto (pc := 51) (tgt := 4) C dX1_ropesAt_51 (by decide) ?_
      refine go_sub [2, 3, 1, 0] rfl ?_
      exact hK4 ((v2 ||| ((1 : Int32) <<< (v3 &&& 31))), (v3 + (1 : Int32))) h
    · refine go_iload_n (pc := 26) C dX1_ropesAt_26 rfl 1 rfl ?_
      refine go_aload_n (pc := 27) C dX1_ropesAt_27 rfl 0 rfl ?_
      refine x1gr_19 (pc := 28) C dX1_ropesAt_28 ?_
      refine go_iload_n (pc := 31) C dX1_ropesAt_31 rfl 3 rfl ?_
      refine go_iald (pc := 32) C x1aA_19 h dX1_ropesAt_32 (fun h => ?_)
      obtain ⟨r2, e2, h⟩ := bnd_some h
      refine go_callSNi (pc := 33) C [.int v1, .int (s0.2.1 19 (v3).toNatClampNeg)] (m0_has e2) q889 q890 q138 q891 x0pd_has (by decide) (by decide) rfl (Nat.le_of_ble_eq_true rfl) ⟨Nat.zero_le _, Nat.zero_le _⟩ dX1_ropesAt_33 rfl ?_
      refine go_if_eq (pc := 36) (tgt := 45) C dX1_ropesAt_36 (by decide) h (fun h => ?_) (fun h => ?_)
      · refine go_iconst (pc := 45) (v := (0 : Int32)) C dX1_ropesAt_45 (by decide) ?_
        refine go_ior (pc := 46) C dX1_ropesAt_46 ?_
        refine go_istore_n (pc := 47) C hN dX1_ropesAt_47 rfl (by decide) rfl ?_
        refine go_iinc (pc := 48) (v := (v3 + (1 : Int32))) C hN dX1_ropesAt_48 (q := 3) rfl rfl (by decide) rfl ?_
        refine go_goto (pc := 51) (tgt := 4) C dX1_ropesAt_51 (by decide) ?_
        refine go_sub [2, 3, 1, 0] rfl ?_
        exact hK4 ((v2 ||| (0 : Int32)), (v3 + (1 : Int32))) h
      · refine go_iconst (pc := 39) (v := (1 : Int32)) C dX1_ropesAt_39 (by decide) ?_
        refine go_iload_n (pc := 40) C dX1_ropesAt_40 rfl 3 rfl ?_
        refine go_ishl (pc := 41) C dX1_ropesAt_41 ?_
        refine go_goto (pc := 42) (tgt := 46) C dX1_ropesAt_42 (by decide) ?_
        refine go_ior (pc := 46) C dX1_ropesAt_46 ?_
        refine go_istore_n (pc := 47) C hN dX1_ropesAt_47 rfl (by decide) rfl ?_
        refine go_iinc (pc := 48) (v := (v3 + (1 : Int32))) C hN dX1_ropesAt_48 (q := 3) rfl rfl (by decide) rfl ?_
        refine go_goto (pc := 51) (tgt := 4) C dX1_ropesAt_51 (by decide) ?_
        refine go_sub [2, 3, 1, 0] rfl ?_
        exact hK4 ((v2 ||| ((1 : Int32) <<< (v3 &&& 31))), (v3 + (1 : Int32))) h
theorem m1_ropesAt {l : Launch} {d : gD} {a : Nat → Nat} {s0 : Bl} {v1 : Int32} {r9 : Int32} (h : f1_ropesAt s0 v1 = some r9) : Mt l d yX1_ropesAt cX1_ropesAt 4 (some .int) (1, 0, 0) 21 (bW d 1 FK1 a s0) [.ref (a 0), .int v1] (fun v w => v = some (.int r9) ∧ w = (bW d 1 FK1 a s0)) := by
  refine Mt.of x1pn (Nat.le_of_ble_eq_true rfl) ?_
  intro Γ hl hd hN C hE
  subst hl; subst hd
  show Go Γ 0 0 (bW Γ.d 1 FK1 a s0) 0 [(0, .ref (a 0)), (1, .int v1)] []
  dsimp only [f1_ropesAt] at h
  refine go_iconst (pc := 0) (v := (0 : Int32)) C dX1_ropesAt_0 (by decide) ?_
  refine go_istore_n (pc := 1) C hN dX1_ropesAt_1 rfl (by decide) rfl ?_
  refine go_iconst (pc := 2) (v := (0 : Int32)) C dX1_ropesAt_2 (by decide) ?_
  refine go_istore_n (pc := 3) C hN dX1_ropesAt_3 rfl (by decide) rfl ?_
  refine go_sub [2, 3, 1, 0] rfl ?_
  exact w1_ropesAt_4 hN C hE FU ((0 : Int32), (0 : Int32)) h
theorem w1_forceAt_2 {Γ : Gam} {a : Nat → Nat} {s0 : Bl} {v1 : Int32} {r9 : Int32} (hN : Γ.nL = 3) (C : Cx Γ cX1_forceAt RX1 (0, 0, 0) 0) (hE : Rets Γ cX1_forceAt (some .int) 0 0 (fun v w => v = some (.int r9) ∧ w = (bW Γ.d 1 FK1 a s0))) : ∀ (n : Nat) (s : Int32), loop (g1_forceAt_2 s0 v1) n s = some r9 → (fun s : Int32 => Go Γ 0 0 (bW Γ.d 1 FK1 a s0) 2 [(0, .ref (a 0)), (1, .int v1), (2, .int s)] []) s := by
  refine loop_walk (P := fun s : Int32 => Go Γ 0 0 (bW Γ.d 1 FK1 a s0) 2 [(0, .ref (a 0)), (1, .int v1), (2, .int s)] []) ?_
  intro K2 hK2 s h
  obtain ⟨v2, rfl⟩ : ∃ z, z = s := ⟨_, rfl⟩
  dsimp only [g1_forceAt_2] at h
  show Go Γ 0 0 (bW Γ.d 1 FK1 a s0) 2 [(0, .ref (a 0)), (1, .int v1), (2, .int v2)] []
  refine go_iload_n (pc := 2) C dX1_forceAt_2 rfl 2 rfl ?_
  refine go_aload_n (pc := 3) C dX1_forceAt_3 rfl 0 rfl ?_
  refine x1gi_3 (pc := 4) C dX1_forceAt_4 ?_
  refine go_icmp_ge (pc := 7) (tgt := 33) C dX1_forceAt_7 (by decide) h (fun h => ?_) (fun h => ?_)
  · refine go_iconst (pc := 33) (v := (0 : Int32)) C dX1_forceAt_33 (by decide) ?_
    exact (hE 0 0 _ _ _ (Nat.zero_le _) (Nat.zero_le _)).1 _ rfl dX1_forceAt_34 ⟨congrArg (fun z => some (Value.int z)) (some1 h), rfl⟩
  · refine go_aload_n (pc := 10) C dX1_forceAt_10 rfl 0 rfl ?_
    refine x1gr_21 (pc := 11) C dX1_forceAt_11 ?_
    refine go_iload_n (pc := 14) C dX1_forceAt_14 rfl 2 rfl ?_
    refine go_iald (pc := 15) C x1aA_21 h dX1_forceAt_15 (fun h => ?_)
    refine go_iload_n (pc := 16) C dX1_forceAt_16 rfl 1 rfl ?_
    refine go_icmp_ne (pc := 17) (tgt := 27) C dX1_forceAt_17 (by decide) h (fun h => ?_) (fun h => ?_)
    · refine go_iinc (pc := 27) (v := (v2 + (1 : Int32))) C hN dX1_forceAt_27 (q := 2) rfl rfl (by decide) rfl ?_
      refine go_goto (pc := 30) (tgt := 2) C dX1_forceAt_30 (by decide) ?_
      refine go_sub [1, 2, 0] rfl ?_
      exact hK2 (v2 + (1 : Int32)) h
    · refine go_aload_n (pc := 20) C dX1_forceAt_20 rfl 0 rfl ?_
      refine x1gr_22 (pc := 21) C dX1_forceAt_21 ?_
      refine go_iload_n (pc := 24) C dX1_forceAt_24 rfl 2 rfl ?_
      refine go_iald (pc := 25) C x1aA_22 h dX1_forceAt_25 (fun h => ?_)
      exact (hE 0 0 _ _ _ (Nat.zero_le _) (Nat.zero_le _)).1 _ rfl dX1_forceAt_26 ⟨congrArg (fun z => some (Value.int z)) (some1 h), rfl⟩
theorem m1_forceAt {l : Launch} {d : gD} {a : Nat → Nat} {s0 : Bl} {v1 : Int32} {r9 : Int32} (h : f1_forceAt s0 v1 = some r9) : Mt l d yX1_forceAt cX1_forceAt 3 (some .int) (0, 0, 0) 0 (bW d 1 FK1 a s0) [.ref (a 0), .int v1] (fun v w => v = some (.int r9) ∧ w = (bW d 1 FK1 a s0)) := by
  refine Mt.of x1pn (Nat.le_of_ble_eq_true rfl) ?_
  intro Γ hl hd hN C hE
  subst hl; subst hd
  show Go Γ 0 0 (bW Γ.d 1 FK1 a s0) 0 [(0, .ref (a 0)), (1, .int v1)] []
  dsimp only [f1_forceAt] at h
  refine go_iconst (pc := 0) (v := (0 : Int32)) C dX1_forceAt_0 (by decide) ?_
  refine go_istore_n (pc := 1) C hN dX1_forceAt_1 rfl (by decide) rfl ?_
  refine go_sub [1, 2, 0] rfl ?_
  exact w1_forceAt_2 hN C hE FU (0 : Int32) h
theorem w1_breaks_4 {Γ : Gam} {a : Nat → Nat} {s0 : Bl} {v1 : Int32} {s9 : Bl} (hN : Γ.nL = 4) (C : Cx Γ cX1_breaks RX1 (2, 0, 0) 45) (hE : Rets Γ cX1_breaks none 0 0 (fun v w => v = none ∧ w = (bW Γ.d 1 FK1 a s9))) : ∀ (n : Nat) (s : Int32 × Int32), loop (g1_breaks_4 s0 v1) n s = some s9 → (fun s : Int32 × Int32 => Go Γ 0 0 (bW Γ.d 1 FK1 a s0) 4 [(0, .ref (a 0)), (1, .int v1), (2, .int s.1), (3, .int s.2)] []) s := by
  refine loop_walk (P := fun s : Int32 × Int32 => Go Γ 0 0 (bW Γ.d 1 FK1 a s0) 4 [(0, .ref (a 0)), (1, .int v1), (2, .int s.1), (3, .int s.2)] []) ?_
  intro K4 hK4 s h
  obtain ⟨v2, v3⟩ := s
  dsimp only [g1_breaks_4] at h
  show Go Γ 0 0 (bW Γ.d 1 FK1 a s0) 4 [(0, .ref (a 0)), (1, .int v1), (2, .int v2), (3, .int v3)] []
  refine go_iload_n (pc := 4) C dX1_breaks_4 rfl 3 rfl ?_
  refine go_aload_n (pc := 5) C dX1_breaks_5 rfl 0 rfl ?_
  refine x1gi_5 (pc := 6) C dX1_breaks_6 ?_
  refine go_icmp_ge (pc := 9) (tgt := 38) C dX1_breaks_9 (by decide) h (fun h => ?_) (fun h => ?_)
  · refine go_aload_n (pc := 38) C dX1_breaks_38 rfl 0 rfl ?_
    refine go_iload_n (pc := 39) C dX1_breaks_39 rfl 2 rfl ?_
    obtain ⟨r1, e1, h⟩ := bnd_some h
    refine go_callSi (pc := 40) C [.int v2] (mJ8_bitCount e1) q900 q901 q162 q902 j8pd_bitCount (by decide) (by decide) rfl (Nat.le_of_ble_eq_true rfl) ⟨Nat.zero_le _, Nat.zero_le _⟩ dX1_breaks_40 rfl ?_
    refine x1pi_27 (pc := 43) C dX1_breaks_43 ?_
    refine go_aload_n (pc := 46) C dX1_breaks_46 rfl 0 rfl ?_
    refine go_iload_n (pc := 47) C dX1_breaks_47 rfl 2 rfl ?_
    obtain ⟨r2, s2, e2, h⟩ := bnd2_some h
    refine go_callVi (pc := 48) C [.int v2] (m1_loses e2) q993 q994 q995 q139 q996 x1pd_loses (by decide) (by decide) bW_O x1c rfl (Nat.le_of_ble_eq_true rfl) ⟨Nat.zero_le _, Nat.zero_le _⟩ dX1_breaks_48 rfl ?_
    refine go_pop (pc := 51) C dX1_breaks_51 rfl ?_
    exact (hE 0 0 _ _ _ (Nat.zero_le _) (Nat.zero_le _)).2.2.2.1 rfl dX1_breaks_52 ⟨rfl, congrArg (fun z => bW Γ.d 1 FK1 a z) (some1 h)⟩
  · refine go_iload_n (pc := 12) C dX1_breaks_12 rfl 2 rfl ?_
    refine go_aload_n (pc := 13) C dX1_breaks_13 rfl 0 rfl ?_
    refine x1gr_20 (pc := 14) C dX1_breaks_14 ?_
    refine go_iload_n (pc := 17) C dX1_breaks_17 rfl 3 rfl ?_
    refine go_iald (pc := 18) C x1aA_20 h dX1_breaks_18 (fun h => ?_)
    refine go_iload_n (pc := 19) C dX1_breaks_19 rfl 1 rfl ?_
    refine go_icmp_ge (pc := 20) (tgt := 29) C dX1_breaks_20 (by decide) h (fun h => ?_) (fun h => ?_)
    · refine go_iconst (pc := 29) (v := (0 : Int32)) C dX1_breaks_29 (by decide) ?_
      refine go_ior (pc := 30) C dX1_breaks_30 ?_
      refine go_istore_n (pc := 31) C hN dX1_breaks_31 rfl (by decide) rfl ?_
      refine go_iinc (pc := 32) (v := (v3 + (1 : Int32))) C hN dX1_breaks_32 (q := 3) rfl rfl (by decide) rfl ?_
      refine go_goto (pc := 35) (tgt := 4) C dX1_breaks_35 (by decide) ?_
      refine go_sub [2, 3, 1, 0] rfl ?_
      exact hK4 ((v2 ||| (0 : Int32)), (v3 + (1 : Int32))) h
    · refine go_iconst (pc := 23) (v := (1 : Int32)) C dX1_breaks_23 (by decide) ?_
      refine go_iload_n (pc := 24) C dX1_breaks_24 rfl 3 rfl ?_
      refine go_ishl (pc := 25) C dX1_breaks_25 ?_
      refine go_goto (pc := 26) (tgt := 30) C dX1_breaks_26 (by decide) ?_
      refine go_ior (pc := 30) C dX1_breaks_30 ?_
      refine go_istore_n (pc := 31) C hN dX1_breaks_31 rfl (by decide) rfl ?_
      refine go_iinc (pc := 32) (v := (v3 + (1 : Int32))) C hN dX1_breaks_32 (q := 3) rfl rfl (by decide) rfl ?_
      refine go_goto (pc := 35) (tgt := 4) C dX1_breaks_35 (by decide) ?_
      refine go_sub [2, 3, 1, 0] rfl ?_
      exact hK4 ((v2 ||| ((1 : Int32) <<< (v3 &&& 31))), (v3 + (1 : Int32))) h
theorem m1_breaks {l : Launch} {d : gD} {a : Nat → Nat} {s0 : Bl} {v1 : Int32} {s9 : Bl} (h : f1_breaks s0 v1 = some s9) : Mt l d yX1_breaks cX1_breaks 4 none (2, 0, 0) 45 (bW d 1 FK1 a s0) [.ref (a 0), .int v1] (fun v w => v = none ∧ w = (bW d 1 FK1 a s9)) := by
  refine Mt.of x1pn (Nat.le_of_ble_eq_true rfl) ?_
  intro Γ hl hd hN C hE
  subst hl; subst hd
  show Go Γ 0 0 (bW Γ.d 1 FK1 a s0) 0 [(0, .ref (a 0)), (1, .int v1)] []
  dsimp only [f1_breaks] at h
  refine go_iconst (pc := 0) (v := (0 : Int32)) C dX1_breaks_0 (by decide) ?_
  refine go_istore_n (pc := 1) C hN dX1_breaks_1 rfl (by decide) rfl ?_
  refine go_iconst (pc := 2) (v := (0 : Int32)) C dX1_breaks_2 (by decide) ?_
  refine go_istore_n (pc := 3) C hN dX1_breaks_3 rfl (by decide) rfl ?_
  refine go_sub [2, 3, 1, 0] rfl ?_
  exact w1_breaks_4 hN C hE FU ((0 : Int32), (0 : Int32)) h
theorem w1_lands_68 {Γ : Gam} {a : Nat → Nat} {v1 : Int32} {v2 : Int32} {s9 : Bl} {K7 : Bl × Int32 → Option Bl} (hN : Γ.nL = 4) (C : Cx Γ cX1_lands RX1 (2, 0, 0) 45) (hE : Rets Γ cX1_lands none 0 0 (fun v w => v = none ∧ w = (bW Γ.d 1 FK1 a s9)))
    (hK7 : ∀ s, K7 s = some s9 → (fun s : Bl × Int32 => Go Γ 0 0 (bW Γ.d 1 FK1 a s.1) 7 [(0, .ref (a 0)), (1, .int s.2)] []) s) : ∀ (n : Nat) (s : Bl × Int32), loop (g1_lands_68 v1 v2 K7) n s = some s9 → (fun s : Bl × Int32 => Go Γ 0 0 (bW Γ.d 1 FK1 a s.1) 68 [(0, .ref (a 0)), (1, .int v1), (2, .int v2), (3, .int s.2)] []) s := by
  refine loop_walk (P := fun s : Bl × Int32 => Go Γ 0 0 (bW Γ.d 1 FK1 a s.1) 68 [(0, .ref (a 0)), (1, .int v1), (2, .int v2), (3, .int s.2)] []) ?_
  intro K68 hK68 s h
  obtain ⟨s0, v3⟩ := s
  dsimp only [g1_lands_68] at h
  show Go Γ 0 0 (bW Γ.d 1 FK1 a s0) 68 [(0, .ref (a 0)), (1, .int v1), (2, .int v2), (3, .int v3)] []
  refine go_iload_n (pc := 68) C dX1_lands_68 rfl 3 rfl ?_
  refine go_aload_n (pc := 69) C dX1_lands_69 rfl 0 rfl ?_
  refine x1gi_2 (pc := 70) C dX1_lands_70 ?_
  refine go_icmp_ge (pc := 73) (tgt := 97) C dX1_lands_73 (by decide) h (fun h => ?_) (fun h => ?_)
  · refine go_aload_n (pc := 97) C dX1_lands_97 rfl 0 rfl ?_
    refine go_dup (pc := 98) C dX1_lands_98 rfl ?_
    refine x1gi_4 (pc := 99) C dX1_lands_99 ?_
    refine go_aload_n (pc := 102) C dX1_lands_102 rfl 0 rfl ?_
    refine go_aload_n (pc := 103) C dX1_lands_103 rfl 0 rfl ?_
    refine go_iload_n (pc := 104) C dX1_lands_104 rfl 2 rfl ?_
    obtain ⟨r3, e3, h⟩ := bnd_some h
    refine go_callVi (pc := 105) C [.int v2] (m1_ropesAt e3) q1001 q1002 q1003 q139 q1004 x1pd_ropesAt (by decide) (by decide) bW_O x1c rfl (Nat.le_of_ble_eq_true rfl) ⟨Nat.zero_le _, Nat.zero_le _⟩ dX1_lands_105 rfl ?_
    obtain ⟨r4, s4, e4, h⟩ := bnd2_some h
    refine go_callVi (pc := 108) C [.int r3] (m1_loses e4) q993 q994 q995 q139 q996 x1pd_loses (by decide) (by decide) bW_O x1c rfl (Nat.le_of_ble_eq_true rfl) ⟨Nat.zero_le _, Nat.zero_le _⟩ dX1_lands_108 rfl ?_
    refine go_iadd (pc := 111) C dX1_lands_111 ?_
    refine x1pi_4 (pc := 112) C dX1_lands_112 ?_
    refine go_iinc (pc := 115) (v := (v1 + (1 : Int32))) C hN dX1_lands_115 (q := 1) rfl rfl (by decide) rfl ?_
    refine go_goto (pc := 118) (tgt := 7) C dX1_lands_118 (by decide) ?_
    refine go_sub [1, 0] rfl ?_
    exact hK7 ((bI s4 4 ((s0.1 4) + r4)), (v1 + (1 : Int32))) h
  · refine go_iload_n (pc := 76) C dX1_lands_76 rfl 2 rfl ?_
    refine go_iload_n (pc := 77) C dX1_lands_77 rfl 3 rfl ?_
    obtain ⟨r5, e5, h⟩ := bnd_some h
    refine go_callSNi (pc := 78) C [.int v2, .int v3] (m0_has e5) q889 q890 q138 q891 x0pd_has (by decide) (by decide) rfl (Nat.le_of_ble_eq_true rfl) ⟨Nat.zero_le _, Nat.zero_le _⟩ dX1_lands_78 rfl ?_
    refine go_if_eq (pc := 81) (tgt := 91) C dX1_lands_81 (by decide) h (fun h => ?_) (fun h => ?_)
    · refine go_iinc (pc := 91) (v := (v3 + (1 : Int32))) C hN dX1_lands_91 (q := 3) rfl rfl (by decide) rfl ?_
      refine go_goto (pc := 94) (tgt := 68) C dX1_lands_94 (by decide) ?_
      refine go_sub [1, 2, 3, 0] rfl ?_
      exact hK68 (s0, (v3 + (1 : Int32))) h
    · refine go_aload_n (pc := 84) C dX1_lands_84 rfl 0 rfl ?_
      refine x1gr_16 (pc := 85) C dX1_lands_85 ?_
      refine go_iload_n (pc := 88) C dX1_lands_88 rfl 3 rfl ?_
      refine go_iconst (pc := 89) (v := (1 : Int32)) C dX1_lands_89 (by decide) ?_
      refine go_iast (pc := 90) C x1pA_16 h dX1_lands_90 (fun h => ?_)
      refine go_iinc (pc := 91) (v := (v3 + (1 : Int32))) C hN dX1_lands_91 (q := 3) rfl rfl (by decide) rfl ?_
      refine go_goto (pc := 94) (tgt := 68) C dX1_lands_94 (by decide) ?_
      refine go_sub [1, 2, 3, 0] rfl ?_
      exact hK68 ((bA s0 16 (v3).toNatClampNeg (1 : Int32)), (v3 + (1 : Int32))) h
theorem w1_lands_7 {Γ : Gam} {a : Nat → Nat} {s9 : Bl} (hN : Γ.nL = 4) (C : Cx Γ cX1_lands RX1 (2, 0, 0) 45) (hE : Rets Γ cX1_lands none 0 0 (fun v w => v = none ∧ w = (bW Γ.d 1 FK1 a s9))) : ∀ (n : Nat) (s : Bl × Int32), loop (g1_lands_7) n s = some s9 → (fun s : Bl × Int32 => Go Γ 0 0 (bW Γ.d 1 FK1 a s.1) 7 [(0, .ref (a 0)), (1, .int s.2)] []) s := by
  refine loop_walk (P := fun s : Bl × Int32 => Go Γ 0 0 (bW Γ.d 1 FK1 a s.1) 7 [(0, .ref (a 0)), (1, .int s.2)] []) ?_
  intro K7 hK7 s h
  obtain ⟨s0, v1⟩ := s
  dsimp only [g1_lands_7] at h
  show Go Γ 0 0 (bW Γ.d 1 FK1 a s0) 7 [(0, .ref (a 0)), (1, .int v1)] []
  refine go_iload_n (pc := 7) C dX1_lands_7 rfl 1 rfl ?_
  refine go_aload_n (pc := 8) C dX1_lands_8 rfl 0 rfl ?_
  refine x1gi_1 (pc := 9) C dX1_lands_9 ?_
  refine go_icmp_ge (pc := 12) (tgt := 121) C dX1_lands_12 (by decide) h (fun h => ?_) (fun h => ?_)
  · exact (hE 0 0 _ _ _ (Nat.zero_le _) (Nat.zero_le _)).2.2.2.1 rfl dX1_lands_121 ⟨rfl, congrArg (fun z => bW Γ.d 1 FK1 a z) (some1 h)⟩
  · refine go_aload_n (pc := 15) C dX1_lands_15 rfl 0 rfl ?_
    refine x1gr_11 (pc := 16) C dX1_lands_16 ?_
    refine go_iload_n (pc := 19) C dX1_lands_19 rfl 1 rfl ?_
    refine go_iald (pc := 20) C x1aA_11 h dX1_lands_20 (fun h => ?_)
    refine go_if_ne (pc := 21) (tgt := 115) C dX1_lands_21 (by decide) h (fun h => ?_) (fun h => ?_)
    · refine go_iinc (pc := 115) (v := (v1 + (1 : Int32))) C hN dX1_lands_115 (q := 1) rfl rfl (by decide) rfl ?_
      refine go_goto (pc := 118) (tgt := 7) C dX1_lands_118 (by decide) ?_
      refine go_sub [1, 0] rfl ?_
      exact hK7 (s0, (v1 + (1 : Int32))) h
    · refine go_aload_n (pc := 24) C dX1_lands_24 rfl 0 rfl ?_
      refine x1gr_9 (pc := 25) C dX1_lands_25 ?_
      refine go_iload_n (pc := 28) C dX1_lands_28 rfl 1 rfl ?_
      refine go_iald (pc := 29) C x1aA_9 h dX1_lands_29 (fun h => ?_)
      refine go_aload_n (pc := 30) C dX1_lands_30 rfl 0 rfl ?_
      refine x1gi_6 (pc := 31) C dX1_lands_31 ?_
      refine go_icmp_eq (pc := 34) (tgt := 40) C dX1_lands_34 (by decide) h (fun h => ?_) (fun h => ?_)
      · refine go_aload_n (pc := 40) C dX1_lands_40 rfl 0 rfl ?_
        refine go_iload_n (pc := 41) C dX1_lands_41 rfl 1 rfl ?_
        obtain ⟨r1, e1, h⟩ := bnd_some h
        refine go_callVi (pc := 42) C [.int v1] (m1_ownOf e1) q896 q897 q898 q139 q899 x1pd_ownOf (by decide) (by decide) bW_O x1c rfl (Nat.le_of_ble_eq_true rfl) ⟨Nat.zero_le _, Nat.zero_le _⟩ dX1_lands_42 rfl ?_
        refine go_istore_n (pc := 45) C hN dX1_lands_45 rfl (by decide) rfl ?_
        refine go_aload_n (pc := 46) C dX1_lands_46 rfl 1 rfl ?_
        refine x1gr_11 (pc := 47) C dX1_lands_47 ?_
        refine go_iload_n (pc := 50) C dX1_lands_50 rfl 2 rfl ?_
        refine go_iconst (pc := 51) (v := (1 : Int32)) C dX1_lands_51 (by decide) ?_
        refine go_iast (pc := 52) C x1pA_11 h dX1_lands_52 (fun h => ?_)
        refine go_aload_n (pc := 53) C dX1_lands_53 rfl 1 rfl ?_
        refine go_dup (pc := 54) C dX1_lands_54 rfl ?_
        refine x1gi_26 (pc := 55) C dX1_lands_55 ?_
        refine go_iload_n (pc := 58) C dX1_lands_58 rfl 0 rfl ?_
        obtain ⟨r2, e2, h⟩ := bnd_some h
        refine go_callSi (pc := 59) C [.int r1] (mJ8_bitCount e2) q900 q901 q162 q902 j8pd_bitCount (by decide) (by decide) rfl (Nat.le_of_ble_eq_true rfl) ⟨Nat.zero_le _, Nat.zero_le _⟩ dX1_lands_59 rfl ?_
        refine go_iadd (pc := 62) C dX1_lands_62 ?_
        refine x1pi_26 (pc := 63) C dX1_lands_63 ?_
        refine go_iconst (pc := 66) (v := (0 : Int32)) C dX1_lands_66 (by decide) ?_
        refine go_istore_n (pc := 67) C hN dX1_lands_67 rfl (by decide) rfl ?_
        refine go_sub [2, 3, 1, 0] rfl ?_
        exact w1_lands_68 hN C hE hK7 FU ((bI (bA s0 11 (v1).toNatClampNeg (1 : Int32)) 26 (((bA s0 11 (v1).toNatClampNeg (1 : Int32)).1 26) + r2)), (0 : Int32)) h
      · refine go_goto (pc := 37) (tgt := 115) C dX1_lands_37 (by decide) ?_
        refine go_iinc (pc := 115) (v := (v1 + (1 : Int32))) C hN dX1_lands_115 (q := 1) rfl rfl (by decide) rfl ?_
        refine go_goto (pc := 118) (tgt := 7) C dX1_lands_118 (by decide) ?_
        refine go_sub [1, 0] rfl ?_
        exact hK7 (s0, (v1 + (1 : Int32))) h
theorem m1_lands {l : Launch} {d : gD} {a : Nat → Nat} {s0 : Bl} {s9 : Bl} (h : f1_lands s0 = some s9) : Mt l d yX1_lands cX1_lands 4 none (2, 0, 0) 45 (bW d 1 FK1 a s0) [.ref (a 0)] (fun v w => v = none ∧ w = (bW d 1 FK1 a s9)) := by
  refine Mt.of x1pn (Nat.le_of_ble_eq_true rfl) ?_
  intro Γ hl hd hN C hE
  subst hl; subst hd
  show Go Γ 0 0 (bW Γ.d 1 FK1 a s0) 0 [(0, .ref (a 0))] []
  dsimp only [f1_lands] at h
  refine go_aload_n (pc := 0) C dX1_lands_0 rfl 0 rfl ?_
  refine go_iconst (pc := 1) (v := (0 : Int32)) C dX1_lands_1 (by decide) ?_
  refine x1pi_26 (pc := 2) C dX1_lands_2 ?_
  refine go_iconst (pc := 5) (v := (0 : Int32)) C dX1_lands_5 (by decide) ?_
  refine go_istore_n (pc := 6) C hN dX1_lands_6 rfl (by decide) rfl ?_
  refine go_sub [1, 0] rfl ?_
  exact w1_lands_7 hN C hE FU ((bI s0 26 (0 : Int32)), (0 : Int32)) h
theorem w1_sinksAll_92 {Γ : Gam} {a : Nat → Nat} {v1 : Int32} {s9 : Bl} (hN : Γ.nL = 5) (C : Cx Γ cX1_sinksAll RX1 (4, 0, 0) 97) (hE : Rets Γ cX1_sinksAll none 0 0 (fun v w => v = none ∧ w = (bW Γ.d 1 FK1 a s9))) : ∀ (n : Nat) (s : Bl × Int32), loop (g1_sinksAll_92 v1) n s = some s9 → (fun s : Bl × Int32 => Go Γ 0 0 (bW Γ.d 1 FK1 a s.1) 92 [(0, .ref (a 0)), (1, .int v1), (3, .int s.2)] []) s := by
  refine loop_walk (P := fun s : Bl × Int32 => Go Γ 0 0 (bW Γ.d 1 FK1 a s.1) 92 [(0, .ref (a 0)), (1, .int v1), (3, .int s.2)] []) ?_
  intro K92 hK92 s h
  obtain ⟨s0, v3⟩ := s
  dsimp only [g1_sinksAll_92] at h
  show Go Γ 0 0 (bW Γ.d 1 FK1 a s0) 92 [(0, .ref (a 0)), (1, .int v1), (3, .int v3)] []
  refine go_iload_n (pc := 92) C dX1_sinksAll_92 rfl 2 rfl ?_
  refine go_aload_n (pc := 93) C dX1_sinksAll_93 rfl 0 rfl ?_
  refine x1gi_2 (pc := 94) C dX1_sinksAll_94 ?_
  refine go_icmp_ge (pc := 97) (tgt := 134) C dX1_sinksAll_97 (by decide) h (fun h => ?_) (fun h => ?_)
  · refine go_aload_n (pc := 134) C dX1_sinksAll_134 rfl 0 rfl ?_
    refine go_aload_n (pc := 135) C dX1_sinksAll_135 rfl 0 rfl ?_
    refine go_iload_n (pc := 136) C dX1_sinksAll_136 rfl 1 rfl ?_
    obtain ⟨r3, e3, h⟩ := bnd_some h
    refine go_callVi (pc := 137) C [.int v1] (m1_ropesAt e3) q1001 q1002 q1003 q139 q1004 x1pd_ropesAt (by decide) (by decide) bW_O x1c rfl (Nat.le_of_ble_eq_true rfl) ⟨Nat.zero_le _, Nat.zero_le _⟩ dX1_sinksAll_137 rfl ?_
    obtain ⟨r4, s4, e4, h⟩ := bnd2_some h
    refine go_callVi (pc := 140) C [.int r3] (m1_loses e4) q993 q994 q995 q139 q996 x1pd_loses (by decide) (by decide) bW_O x1c rfl (Nat.le_of_ble_eq_true rfl) ⟨Nat.zero_le _, Nat.zero_le _⟩ dX1_sinksAll_140 rfl ?_
    refine go_pop (pc := 143) C dX1_sinksAll_143 rfl ?_
    refine go_aload_n (pc := 144) C dX1_sinksAll_144 rfl 0 rfl ?_
    refine go_iload_n (pc := 145) C dX1_sinksAll_145 rfl 1 rfl ?_
    obtain ⟨r5, e5, h⟩ := bnd_some h
    refine go_callSi (pc := 146) C [.int v1] (mJ8_bitCount e5) q900 q901 q162 q902 j8pd_bitCount (by decide) (by decide) rfl (Nat.le_of_ble_eq_true rfl) ⟨Nat.zero_le _, Nat.zero_le _⟩ dX1_sinksAll_146 rfl ?_
    refine x1pi_25 (pc := 149) C dX1_sinksAll_149 ?_
    exact (hE 0 0 _ _ _ (Nat.zero_le _) (Nat.zero_le _)).2.2.2.1 rfl dX1_sinksAll_152 ⟨rfl, congrArg (fun z => bW Γ.d 1 FK1 a z) (some1 h)⟩
  · refine go_iload_n (pc := 100) C dX1_sinksAll_100 rfl 1 rfl ?_
    refine go_iload_n (pc := 101) C dX1_sinksAll_101 rfl 2 rfl ?_
    obtain ⟨r6, e6, h⟩ := bnd_some h
    refine go_callSNi (pc := 102) C [.int v1, .int v3] (m0_has e6) q889 q890 q138 q891 x0pd_has (by decide) (by decide) rfl (Nat.le_of_ble_eq_true rfl) ⟨Nat.zero_le _, Nat.zero_le _⟩ dX1_sinksAll_102 rfl ?_
    refine go_if_ne (pc := 105) (tgt := 111) C dX1_sinksAll_105 (by decide) h (fun h => ?_) (fun h => ?_)
    · refine go_aload_n (pc := 111) C dX1_sinksAll_111 rfl 0 rfl ?_
      refine x1gr_16 (pc := 112) C dX1_sinksAll_112 ?_
      refine go_iload_n (pc := 115) C dX1_sinksAll_115 rfl 2 rfl ?_
      refine go_iconst (pc := 116) (v := (2 : Int32)) C dX1_sinksAll_116 (by decide) ?_
      refine go_iast (pc := 117) C x1pA_16 h dX1_sinksAll_117 (fun h => ?_)
      refine go_aload_n (pc := 118) C dX1_sinksAll_118 rfl 0 rfl ?_
      refine x1gr_17 (pc := 119) C dX1_sinksAll_119 ?_
      refine go_iload_n (pc := 122) C dX1_sinksAll_122 rfl 2 rfl ?_
      refine go_aload_n (pc := 123) C dX1_sinksAll_123 rfl 0 rfl ?_
      refine x1gi_6 (pc := 124) C dX1_sinksAll_124 ?_
      refine go_iast (pc := 127) C x1pA_17 h dX1_sinksAll_127 (fun h => ?_)
      refine go_iinc (pc := 128) (v := (v3 + (1 : Int32))) C hN dX1_sinksAll_128 (q := 2) rfl rfl (by decide) rfl ?_
      refine go_goto (pc := 131) (tgt := 92) C dX1_sinksAll_131 (by decide) ?_
      refine go_sub [1, 2, 0] rfl ?_
      exact hK92 ((bA (bA s0 16 (v3).toNatClampNeg (2 : Int32)) 17 (v3).toNatClampNeg ((bA s0 16 (v3).toNatClampNeg (2 : Int32)).1 6)), (v3 + (1 : Int32))) h
    · refine go_goto (pc := 108) (tgt := 128) C dX1_sinksAll_108 (by decide) ?_
      refine go_iinc (pc := 128) (v := (v3 + (1 : Int32))) C hN dX1_sinksAll_128 (q := 2) rfl rfl (by decide) rfl ?_
      refine go_goto (pc := 131) (tgt := 92) C dX1_sinksAll_131 (by decide) ?_
      refine go_sub [1, 2, 0] rfl ?_
      exact hK92 (s0, (v3 + (1 : Int32))) h
theorem w1_sinksAll_61 {Γ : Gam} {a : Nat → Nat} {v1 : Int32} {v2 : Int32} {s9 : Bl} (hN : Γ.nL = 5) (C : Cx Γ cX1_sinksAll RX1 (4, 0, 0) 97) (hE : Rets Γ cX1_sinksAll none 0 0 (fun v w => v = none ∧ w = (bW Γ.d 1 FK1 a s9))) : ∀ (n : Nat) (s : Bl × Int32), loop (g1_sinksAll_61 v1 v2) n s = some s9 → (fun s : Bl × Int32 => Go Γ 0 0 (bW Γ.d 1 FK1 a s.1) 61 [(0, .ref (a 0)), (1, .int v1), (2, .int v2), (3, .int s.2)] []) s := by
  refine loop_walk (P := fun s : Bl × Int32 => Go Γ 0 0 (bW Γ.d 1 FK1 a s.1) 61 [(0, .ref (a 0)), (1, .int v1), (2, .int v2), (3, .int s.2)] []) ?_
  intro K61 hK61 s h
  obtain ⟨s0, v3⟩ := s
  dsimp only [g1_sinksAll_61] at h
  show Go Γ 0 0 (bW Γ.d 1 FK1 a s0) 61 [(0, .ref (a 0)), (1, .int v1), (2, .int v2), (3, .int v3)] []
  refine go_iload_n (pc := 61) C dX1_sinksAll_61 rfl 3 rfl ?_
  refine go_aload_n (pc := 62) C dX1_sinksAll_62 rfl 0 rfl ?_
  refine x1gi_1 (pc := 63) C dX1_sinksAll_63 ?_
  refine go_icmp_ge (pc := 66) (tgt := 90) C dX1_sinksAll_66 (by decide) h (fun h => ?_) (fun h => ?_)
  · refine go_iconst (pc := 90) (v := (0 : Int32)) C dX1_sinksAll_90 (by decide) ?_
    refine go_istore_n (pc := 91) C hN dX1_sinksAll_91 rfl (by decide) rfl ?_
    refine go_sub [1, 2, 0] rfl ?_
    exact w1_sinksAll_92 hN C hE FU (s0, (0 : Int32)) h
  · refine go_iload_n (pc := 69) C dX1_sinksAll_69 rfl 2 rfl ?_
    refine go_iload_n (pc := 70) C dX1_sinksAll_70 rfl 3 rfl ?_
    obtain ⟨r7, e7, h⟩ := bnd_some h
    refine go_callSNi (pc := 71) C [.int v2, .int v3] (m0_has e7) q889 q890 q138 q891 x0pd_has (by decide) (by decide) rfl (Nat.le_of_ble_eq_true rfl) ⟨Nat.zero_le _, Nat.zero_le _⟩ dX1_sinksAll_71 rfl ?_
    refine go_if_eq (pc := 74) (tgt := 84) C dX1_sinksAll_74 (by decide) h (fun h => ?_) (fun h => ?_)
    · refine go_iinc (pc := 84) (v := (v3 + (1 : Int32))) C hN dX1_sinksAll_84 (q := 3) rfl rfl (by decide) rfl ?_
      refine go_goto (pc := 87) (tgt := 61) C dX1_sinksAll_87 (by decide) ?_
      refine go_sub [1, 2, 3, 0] rfl ?_
      exact hK61 (s0, (v3 + (1 : Int32))) h
    · refine go_aload_n (pc := 77) C dX1_sinksAll_77 rfl 0 rfl ?_
      refine x1gr_11 (pc := 78) C dX1_sinksAll_78 ?_
      refine go_iload_n (pc := 81) C dX1_sinksAll_81 rfl 3 rfl ?_
      refine go_iconst (pc := 82) (v := (2 : Int32)) C dX1_sinksAll_82 (by decide) ?_
      refine go_iast (pc := 83) C x1pA_11 h dX1_sinksAll_83 (fun h => ?_)
      refine go_iinc (pc := 84) (v := (v3 + (1 : Int32))) C hN dX1_sinksAll_84 (q := 3) rfl rfl (by decide) rfl ?_
      refine go_goto (pc := 87) (tgt := 61) C dX1_sinksAll_87 (by decide) ?_
      refine go_sub [1, 2, 3, 0] rfl ?_
      exact hK61 ((bA s0 11 (v3).toNatClampNeg (2 : Int32)), (v3 + (1 : Int32))) h
theorem w1_sinksAll_13 {Γ : Gam} {a : Nat → Nat} {s0 : Bl} {v1 : Int32} {s9 : Bl} (hN : Γ.nL = 5) (C : Cx Γ cX1_sinksAll RX1 (4, 0, 0) 97) (hE : Rets Γ cX1_sinksAll none 0 0 (fun v w => v = none ∧ w = (bW Γ.d 1 FK1 a s9))) : ∀ (n : Nat) (s : Int32 × Int32), loop (g1_sinksAll_13 s0 v1) n s = some s9 → (fun s : Int32 × Int32 => Go Γ 0 0 (bW Γ.d 1 FK1 a s0) 13 [(0, .ref (a 0)), (1, .int v1), (2, .int s.1), (3, .int s.2)] []) s := by
  refine loop_walk (P := fun s : Int32 × Int32 => Go Γ 0 0 (bW Γ.d 1 FK1 a s0) 13 [(0, .ref (a 0)), (1, .int v1), (2, .int s.1), (3, .int s.2)] []) ?_
  intro K13 hK13 s h
  obtain ⟨v2, v3⟩ := s
  dsimp only [g1_sinksAll_13] at h
  show Go Γ 0 0 (bW Γ.d 1 FK1 a s0) 13 [(0, .ref (a 0)), (1, .int v1), (2, .int v2), (3, .int v3)] []
  refine go_iload_n (pc := 13) C dX1_sinksAll_13 rfl 3 rfl ?_
  refine go_aload_n (pc := 14) C dX1_sinksAll_14 rfl 0 rfl ?_
  refine x1gi_1 (pc := 15) C dX1_sinksAll_15 ?_
  refine go_icmp_ge (pc := 18) (tgt := 59) C dX1_sinksAll_18 (by decide) h (fun h => ?_) (fun h => ?_)
  · refine go_iconst (pc := 59) (v := (0 : Int32)) C dX1_sinksAll_59 (by decide) ?_
    refine go_istore_n (pc := 60) C hN dX1_sinksAll_60 rfl (by decide) rfl ?_
    refine go_sub [1, 2, 3, 0] rfl ?_
    exact w1_sinksAll_61 hN C hE FU (s0, (0 : Int32)) h
  · refine go_aload_n (pc := 21) C dX1_sinksAll_21 rfl 0 rfl ?_
    refine go_iload_n (pc := 22) C dX1_sinksAll_22 rfl 3 rfl ?_
    obtain ⟨r8, e8, h⟩ := bnd_some h
    refine go_callVi (pc := 23) C [.int v3] (m1_rides e8) q958 q893 q894 q139 q895 x1pd_rides (by decide) (by decide) bW_O x1c rfl (Nat.le_of_ble_eq_true rfl) ⟨Nat.zero_le _, Nat.zero_le _⟩ dX1_sinksAll_23 rfl ?_
    refine go_istore (pc := 26) C hN dX1_sinksAll_26 (by decide) rfl ?_
    refine go_iload_n (pc := 28) C dX1_sinksAll_28 rfl 3 rfl ?_
    refine go_iload (pc := 29) C dX1_sinksAll_29 0 rfl ?_
    refine go_iconst (pc := 31) (v := (-1 : Int32)) C dX1_sinksAll_31 (by decide) ?_
    refine go_icmp_eq (pc := 32) (tgt := 50) C dX1_sinksAll_32 (by decide) h (fun h => ?_) (fun h => ?_)
    · refine go_iconst (pc := 50) (v := (0 : Int32)) C dX1_sinksAll_50 (by decide) ?_
      refine go_ior (pc := 51) C dX1_sinksAll_51 ?_
      refine go_istore_n (pc := 52) C hN dX1_sinksAll_52 rfl (by decide) rfl ?_
      refine go_iinc (pc := 53) (v := (v3 + (1 : Int32))) C hN dX1_sinksAll_53 (q := 4) rfl rfl (by decide) rfl ?_
      refine go_goto (pc := 56) (tgt := 13) C dX1_sinksAll_56 (by decide) ?_
      refine go_sub [3, 4, 1, 0] rfl ?_
      exact hK13 ((v2 ||| (0 : Int32)), (v3 + (1 : Int32))) h
    · refine go_iload_n (pc := 35) C dX1_sinksAll_35 rfl 2 rfl ?_
      refine go_iload (pc := 36) C dX1_sinksAll_36 0 rfl ?_
      obtain ⟨r9, e9, h⟩ := bnd_some h
      refine go_callSNi (pc := 38) C [.int v1, .int r8] (m0_has e9) q889 q890 q138 q891 x0pd_has (by decide) (by decide) rfl (Nat.le_of_ble_eq_true rfl) ⟨Nat.zero_le _, Nat.zero_le _⟩ dX1_sinksAll_38 rfl ?_
      refine go_if_eq (pc := 41) (tgt := 50) C dX1_sinksAll_41 (by decide) h (fun h => ?_) (fun h => ?_)
      · refine go_iconst (pc := 50) (v := (0 : Int32)) C dX1_sinksAll_50 (by decide) ?_
        refine go_ior (pc := 51) C dX1_sinksAll_51 ?_
        refine go_istore_n (pc := 52) C hN dX1_sinksAll_52 rfl (by decide) rfl ?_
        refine go_iinc (pc := 53) (v := (v3 + (1 : Int32))) C hN dX1_sinksAll_53 (q := 4) rfl rfl (by decide) rfl ?_
        refine go_goto (pc := 56) (tgt := 13) C dX1_sinksAll_56 (by decide) ?_
        refine go_sub [3, 4, 1, 0] rfl ?_
        exact hK13 ((v2 ||| (0 : Int32)), (v3 + (1 : Int32))) h
      · refine go_iconst (pc := 44) (v := (1 : Int32)) C dX1_sinksAll_44 (by decide) ?_
        refine go_iload_n (pc := 45) C dX1_sinksAll_45 rfl 4 rfl ?_
        refine go_ishl (pc := 46) C dX1_sinksAll_46 ?_
        refine go_goto (pc := 47) (tgt := 51) C dX1_sinksAll_47 (by decide) ?_
        refine go_ior (pc := 51) C dX1_sinksAll_51 ?_
        refine go_istore_n (pc := 52) C hN dX1_sinksAll_52 rfl (by decide) rfl ?_
        refine go_iinc (pc := 53) (v := (v3 + (1 : Int32))) C hN dX1_sinksAll_53 (q := 4) rfl rfl (by decide) rfl ?_
        refine go_goto (pc := 56) (tgt := 13) C dX1_sinksAll_56 (by decide) ?_
        refine go_sub [3, 4, 1, 0] rfl ?_
        exact hK13 ((v2 ||| ((1 : Int32) <<< (v3 &&& 31))), (v3 + (1 : Int32))) h
theorem m1_sinksAll {l : Launch} {d : gD} {a : Nat → Nat} {s0 : Bl} {s9 : Bl} (h : f1_sinksAll s0 = some s9) : Mt l d yX1_sinksAll cX1_sinksAll 5 none (4, 0, 0) 97 (bW d 1 FK1 a s0) [.ref (a 0)] (fun v w => v = none ∧ w = (bW d 1 FK1 a s9)) := by
  refine Mt.of x1pn (Nat.le_of_ble_eq_true rfl) ?_
  intro Γ hl hd hN C hE
  subst hl; subst hd
  show Go Γ 0 0 (bW Γ.d 1 FK1 a s0) 0 [(0, .ref (a 0))] []
  dsimp only [f1_sinksAll] at h
  refine go_aload_n (pc := 0) C dX1_sinksAll_0 rfl 0 rfl ?_
  refine go_aload_n (pc := 1) C dX1_sinksAll_1 rfl 0 rfl ?_
  obtain ⟨r1, e1, h⟩ := bnd_some h
  refine go_callVi (pc := 2) C [] (m1_allRopes e1) q926 q878 q879 q139 q880 x1pd_allRopes (by decide) (by decide) bW_O x1c rfl (Nat.le_of_ble_eq_true rfl) ⟨Nat.zero_le _, Nat.zero_le _⟩ dX1_sinksAll_2 rfl ?_
  obtain ⟨r2, s2, e2, h⟩ := bnd2_some h
  refine go_callVi (pc := 5) C [.int r1] (m1_sinkingBy e2) q1009 q1010 q1011 q139 q1012 x1pd_sinkingBy (by decide) (by decide) bW_O x1c rfl (Nat.le_of_ble_eq_true rfl) ⟨Nat.zero_le _, Nat.zero_le _⟩ dX1_sinksAll_5 rfl ?_
  refine go_istore_n (pc := 8) C hN dX1_sinksAll_8 rfl (by decide) rfl ?_
  refine go_iconst (pc := 9) (v := (0 : Int32)) C dX1_sinksAll_9 (by decide) ?_
  refine go_istore_n (pc := 10) C hN dX1_sinksAll_10 rfl (by decide) rfl ?_
  refine go_iconst (pc := 11) (v := (0 : Int32)) C dX1_sinksAll_11 (by decide) ?_
  refine go_istore_n (pc := 12) C hN dX1_sinksAll_12 rfl (by decide) rfl ?_
  refine go_sub [3, 2, 1, 0] rfl ?_
  exact w1_sinksAll_13 hN C hE FU ((0 : Int32), (0 : Int32)) h
theorem w1_goes_12 {Γ : Gam} {a : Nat → Nat} {v1 : Int32} {r9 : Int32} {s9 : Bl} (hN : Γ.nL = 3) (C : Cx Γ cX1_goes RX1 (5, 0, 0) 121) (hE : Rets Γ cX1_goes (some .int) 0 0 (fun v w => v = some (.int r9) ∧ w = (bW Γ.d 1 FK1 a s9))) : ∀ (n : Nat) (s : Bl × Int32), loop (g1_goes_12 v1) n s = some (r9, s9) → (fun s : Bl × Int32 => Go Γ 0 0 (bW Γ.d 1 FK1 a s.1) 12 [(0, .ref (a 0)), (1, .int v1), (2, .int s.2)] []) s := by
  refine loop_walk (P := fun s : Bl × Int32 => Go Γ 0 0 (bW Γ.d 1 FK1 a s.1) 12 [(0, .ref (a 0)), (1, .int v1), (2, .int s.2)] []) ?_
  intro K12 hK12 s h
  obtain ⟨s0, v2⟩ := s
  dsimp only [g1_goes_12] at h
  show Go Γ 0 0 (bW Γ.d 1 FK1 a s0) 12 [(0, .ref (a 0)), (1, .int v1), (2, .int v2)] []
  refine go_iload_n (pc := 12) C dX1_goes_12 rfl 2 rfl ?_
  refine go_aload_n (pc := 13) C dX1_goes_13 rfl 0 rfl ?_
  refine x1gi_2 (pc := 14) C dX1_goes_14 ?_
  refine go_icmp_ge (pc := 17) (tgt := 58) C dX1_goes_17 (by decide) h (fun h => ?_) (fun h => ?_)
  · refine go_aload_n (pc := 58) C dX1_goes_58 rfl 0 rfl ?_
    refine go_iload_n (pc := 59) C dX1_goes_59 rfl 1 rfl ?_
    obtain ⟨s1, e1, h⟩ := bnd_some h
    refine go_callVv (pc := 60) C [.int v1] (m1_breaks e1) q989 q991 qs34 q139 q992 x1pd_breaks (by decide) (by decide) bW_O x1c rfl (Nat.le_of_ble_eq_true rfl) ⟨Nat.zero_le _, Nat.zero_le _⟩ dX1_goes_60 rfl ?_
    refine go_aload_n (pc := 63) C dX1_goes_63 rfl 0 rfl ?_
    obtain ⟨s2, e2, h⟩ := bnd_some h
    refine go_callVv (pc := 64) C [] (m1_lands e2) q997 q999 qs35 q139 q1000 x1pd_lands (by decide) (by decide) bW_O x1c rfl (Nat.le_of_ble_eq_true rfl) ⟨Nat.zero_le _, Nat.zero_le _⟩ dX1_goes_64 rfl ?_
    refine go_aload_n (pc := 67) C dX1_goes_67 rfl 0 rfl ?_
    obtain ⟨s3, e3, h⟩ := bnd_some h
    refine go_callVv (pc := 68) C [] (m1_sinksAll e3) q1005 q1007 qs36 q139 q1008 x1pd_sinksAll (by decide) (by decide) bW_O x1c rfl (Nat.le_of_ble_eq_true rfl) ⟨Nat.zero_le _, Nat.zero_le _⟩ dX1_goes_68 rfl ?_
    refine go_aload_n (pc := 71) C dX1_goes_71 rfl 0 rfl ?_
    refine x1gi_25 (pc := 72) C dX1_goes_72 ?_
    exact (hE 0 0 _ _ _ (Nat.zero_le _) (Nat.zero_le _)).1 _ rfl dX1_goes_75 ⟨congrArg (fun z => some (Value.int z)) (some2 h).1, congrArg (fun z => bW Γ.d 1 FK1 a z) (some2 h).2⟩
  · refine go_aload_n (pc := 20) C dX1_goes_20 rfl 0 rfl ?_
    refine x1gr_16 (pc := 21) C dX1_goes_21 ?_
    refine go_iload_n (pc := 24) C dX1_goes_24 rfl 2 rfl ?_
    refine go_iald (pc := 25) C x1aA_16 h dX1_goes_25 (fun h => ?_)
    refine go_if_ne (pc := 26) (tgt := 52) C dX1_goes_26 (by decide) h (fun h => ?_) (fun h => ?_)
    · refine go_iinc (pc := 52) (v := (v2 + (1 : Int32))) C hN dX1_goes_52 (q := 2) rfl rfl (by decide) rfl ?_
      refine go_goto (pc := 55) (tgt := 12) C dX1_goes_55 (by decide) ?_
      refine go_sub [1, 2, 0] rfl ?_
      exact hK12 (s0, (v2 + (1 : Int32))) h
    · refine go_aload_n (pc := 29) C dX1_goes_29 rfl 0 rfl ?_
      refine x1gr_14 (pc := 30) C dX1_goes_30 ?_
      refine go_iload_n (pc := 33) C dX1_goes_33 rfl 2 rfl ?_
      refine go_iconst (pc := 34) (v := (0 : Int32)) C dX1_goes_34 (by decide) ?_
      refine go_aload_n (pc := 35) C dX1_goes_35 rfl 0 rfl ?_
      refine x1gr_14 (pc := 36) C dX1_goes_36 ?_
      refine go_iload_n (pc := 39) C dX1_goes_39 rfl 2 rfl ?_
      refine go_iald (pc := 40) C x1aA_14 h dX1_goes_40 (fun h => ?_)
      refine go_aload_n (pc := 41) C dX1_goes_41 rfl 0 rfl ?_
      refine x1gr_15 (pc := 42) C dX1_goes_42 ?_
      refine go_iload_n (pc := 45) C dX1_goes_45 rfl 2 rfl ?_
      refine go_iald (pc := 46) C x1aA_15 h dX1_goes_46 (fun h => ?_)
      refine go_isub (pc := 47) C dX1_goes_47 ?_
      refine go_mmax (pc := 48) C q668 (by decide) (Nat.le_of_ble_eq_true rfl) ⟨Nat.zero_le _, Nat.zero_le _⟩ dX1_goes_48 ?_
      refine go_iast (pc := 51) C x1pA_14 h dX1_goes_51 (fun h => ?_)
      refine go_nm (pc := 52) (fun z9 => (bW Γ.d 1 FK1 a z9)) (fun s4 es4 => ?_)
      have h := ltv_eq es4 h
      refine go_iinc (pc := 52) (v := (v2 + (1 : Int32))) C hN dX1_goes_52 (q := 2) rfl rfl (by decide) rfl ?_
      refine go_goto (pc := 55) (tgt := 12) C dX1_goes_55 (by decide) ?_
      refine go_sub [1, 2, 0] rfl ?_
      exact hK12 (s4, (v2 + (1 : Int32))) h
theorem m1_goes {l : Launch} {d : gD} {a : Nat → Nat} {s0 : Bl} {v1 : Int32} {r9 : Int32} {s9 : Bl} (h : f1_goes s0 v1 = some (r9, s9)) : Mt l d yX1_goes cX1_goes 3 (some .int) (5, 0, 0) 121 (bW d 1 FK1 a s0) [.ref (a 0), .int v1] (fun v w => v = some (.int r9) ∧ w = (bW d 1 FK1 a s9)) := by
  refine Mt.of x1pn (Nat.le_of_ble_eq_true rfl) ?_
  intro Γ hl hd hN C hE
  subst hl; subst hd
  show Go Γ 0 0 (bW Γ.d 1 FK1 a s0) 0 [(0, .ref (a 0)), (1, .int v1)] []
  dsimp only [f1_goes] at h
  refine go_aload_n (pc := 0) C dX1_goes_0 rfl 0 rfl ?_
  refine go_dup (pc := 1) C dX1_goes_1 rfl ?_
  refine x1gi_6 (pc := 2) C dX1_goes_2 ?_
  refine go_iconst (pc := 5) (v := (1 : Int32)) C dX1_goes_5 (by decide) ?_
  refine go_iadd (pc := 6) C dX1_goes_6 ?_
  refine x1pi_6 (pc := 7) C dX1_goes_7 ?_
  refine go_iconst (pc := 10) (v := (0 : Int32)) C dX1_goes_10 (by decide) ?_
  refine go_istore_n (pc := 11) C hN dX1_goes_11 rfl (by decide) rfl ?_
  refine go_sub [1, 2, 0] rfl ?_
  exact w1_goes_12 hN C hE FU ((bI s0 6 ((s0.1 6) + (1 : Int32))), (0 : Int32)) h
theorem m1_goesOn {l : Launch} {d : gD} {a : Nat → Nat} {s0 : Bl} {r9 : Int32} {s9 : Bl} (h : f1_goesOn s0 = some (r9, s9)) : Mt l d yX1_goesOn cX1_goesOn 1 (some .int) (6, 0, 0) 143 (bW d 1 FK1 a s0) [.ref (a 0)] (fun v w => v = some (.int r9) ∧ w = (bW d 1 FK1 a s9)) := by
  refine Mt.of x1pn (Nat.le_of_ble_eq_true rfl) ?_
  intro Γ hl hd hN C hE
  subst hl; subst hd
  show Go Γ 0 0 (bW Γ.d 1 FK1 a s0) 0 [(0, .ref (a 0))] []
  dsimp only [f1_goesOn] at h
  refine go_aload_n (pc := 0) C dX1_goesOn_0 rfl 0 rfl ?_
  refine go_aload_n (pc := 1) C dX1_goesOn_1 rfl 0 rfl ?_
  refine go_aload_n (pc := 2) C dX1_goesOn_2 rfl 0 rfl ?_
  refine x1gi_6 (pc := 3) C dX1_goesOn_3 ?_
  refine go_iconst (pc := 6) (v := (1 : Int32)) C dX1_goesOn_6 (by decide) ?_
  refine go_iadd (pc := 7) C dX1_goesOn_7 ?_
  obtain ⟨r1, e1, h⟩ := bnd_some h
  refine go_callVi (pc := 8) C [.int ((s0.1 6) + (1 : Int32))] (m1_forceAt e1) q984 q680 q681 q139 q682 x1pd_forceAt (by decide) (by decide) bW_O x1c rfl (Nat.le_of_ble_eq_true rfl) ⟨Nat.zero_le _, Nat.zero_le _⟩ dX1_goesOn_8 rfl ?_
  obtain ⟨r2, s2, e2, h⟩ := bnd2_some h
  refine go_callVi (pc := 11) C [.int r1] (m1_goes e2) q985 q986 q987 q139 q988 x1pd_goes (by decide) (by decide) bW_O x1c rfl (Nat.le_of_ble_eq_true rfl) ⟨Nat.zero_le _, Nat.zero_le _⟩ dX1_goesOn_11 rfl ?_
  exact (hE 0 0 _ _ _ (Nat.zero_le _) (Nat.zero_le _)).1 _ rfl dX1_goesOn_14 ⟨congrArg (fun z => some (Value.int z)) (some2 h).1, congrArg (fun z => bW Γ.d 1 FK1 a z) (some2 h).2⟩
theorem m1_standsAs {l : Launch} {d : gD} {a b : Nat → Nat} {s0 t0 : Bl} {s9 : Bl} (h : f1_standsAs s0 t0 = some s9) : Mt l d yX1_standsAs cX1_standsAs 2 (some (.object "PartyRaft$Flow")) (1, 0, 0) 26 (bW d 1 FK1 a s0 ++ bW d 1 FK1 b t0) [.ref (a 0), .ref (b 0)] (fun v w => v = some (.ref (a 0)) ∧ w = (bW d 1 FK1 a s9 ++ bW d 1 FK1 b t0)) := by
  refine Mt.of x1pn (Nat.le_of_ble_eq_true rfl) ?_
  intro Γ hl hd hN C hE
  subst hl; subst hd
  show Go Γ 0 0 (bW Γ.d 1 FK1 a s0 ++ bW Γ.d 1 FK1 b t0) 0 [(0, .ref (a 0)), (1, .ref (b 0))] []
  dsimp only [f1_standsAs] at h
  refine go_aload_n (pc := 0) C dX1_standsAs_0 rfl 0 rfl ?_
  refine go_aload_n (pc := 1) C dX1_standsAs_1 rfl 1 rfl ?_
  refine z1gi_6 (pc := 2) C dX1_standsAs_2 ?_
  refine y1pi_6 (pc := 5) C dX1_standsAs_5 ?_
  refine go_aload_n (pc := 8) C dX1_standsAs_8 rfl 0 rfl ?_
  refine go_aload_n (pc := 9) C dX1_standsAs_9 rfl 1 rfl ?_
  refine z1gi_4 (pc := 10) C dX1_standsAs_10 ?_
  refine y1pi_4 (pc := 13) C dX1_standsAs_13 ?_
  refine go_aload_n (pc := 16) C dX1_standsAs_16 rfl 0 rfl ?_
  refine go_aload_n (pc := 17) C dX1_standsAs_17 rfl 1 rfl ?_
  refine z1gi_5 (pc := 18) C dX1_standsAs_18 ?_
  refine y1pi_5 (pc := 21) C dX1_standsAs_21 ?_
  refine go_aload_n (pc := 24) C dX1_standsAs_24 rfl 1 rfl ?_
  refine z1gr_11 (pc := 25) C dX1_standsAs_25 ?_
  refine go_iconst (pc := 28) (v := (0 : Int32)) C dX1_standsAs_28 (by decide) ?_
  refine go_aload_n (pc := 29) C dX1_standsAs_29 rfl 0 rfl ?_
  refine y1gr_11 (pc := 30) C dX1_standsAs_30 ?_
  refine go_iconst (pc := 33) (v := (0 : Int32)) C dX1_standsAs_33 (by decide) ?_
  refine go_bipush (pc := 34) (v := (6 : Int32)) C dX1_standsAs_34 (by decide) ?_
  refine go_copy (pc := 36) (sp' := 0) (dp' := 0) (m' := 6) C z1aA_11 y1pS_11 (by decide) (by decide) (by decide) (by decide) q555 (by decide) (Nat.le_of_ble_eq_true rfl) dX1_standsAs_36 ?_
  refine go_aload_n (pc := 39) C dX1_standsAs_39 rfl 1 rfl ?_
  refine z1gr_12 (pc := 40) C dX1_standsAs_40 ?_
  refine go_iconst (pc := 43) (v := (0 : Int32)) C dX1_standsAs_43 (by decide) ?_
  refine go_aload_n (pc := 44) C dX1_standsAs_44 rfl 0 rfl ?_
  refine y1gr_12 (pc := 45) C dX1_standsAs_45 ?_
  refine go_iconst (pc := 48) (v := (0 : Int32)) C dX1_standsAs_48 (by decide) ?_
  refine go_bipush (pc := 49) (v := (8 : Int32)) C dX1_standsAs_49 (by decide) ?_
  refine go_copy (pc := 51) (sp' := 0) (dp' := 0) (m' := 8) C z1aA_12 y1pS_12 (by decide) (by decide) (by decide) (by decide) q555 (by decide) (Nat.le_of_ble_eq_true rfl) dX1_standsAs_51 ?_
  refine go_nm (pc := 54) (fun z9 => (bW Γ.d 1 FK1 a z9 ++ bW Γ.d 1 FK1 b t0)) (fun s1 es1 => ?_)
  have h := ltv_eq es1 h
  refine go_aload_n (pc := 54) C dX1_standsAs_54 rfl 1 rfl ?_
  refine z1gr_14 (pc := 55) C dX1_standsAs_55 ?_
  refine go_iconst (pc := 58) (v := (0 : Int32)) C dX1_standsAs_58 (by decide) ?_
  refine go_aload_n (pc := 59) C dX1_standsAs_59 rfl 0 rfl ?_
  refine y1gr_14 (pc := 60) C dX1_standsAs_60 ?_
  refine go_iconst (pc := 63) (v := (0 : Int32)) C dX1_standsAs_63 (by decide) ?_
  refine go_bipush (pc := 64) (v := (8 : Int32)) C dX1_standsAs_64 (by decide) ?_
  refine go_copy (pc := 66) (sp' := 0) (dp' := 0) (m' := 8) C z1aA_14 y1pS_14 (by decide) (by decide) (by decide) (by decide) q555 (by decide) (Nat.le_of_ble_eq_true rfl) dX1_standsAs_66 ?_
  refine go_aload_n (pc := 69) C dX1_standsAs_69 rfl 1 rfl ?_
  refine z1gr_16 (pc := 70) C dX1_standsAs_70 ?_
  refine go_iconst (pc := 73) (v := (0 : Int32)) C dX1_standsAs_73 (by decide) ?_
  refine go_aload_n (pc := 74) C dX1_standsAs_74 rfl 0 rfl ?_
  refine y1gr_16 (pc := 75) C dX1_standsAs_75 ?_
  refine go_iconst (pc := 78) (v := (0 : Int32)) C dX1_standsAs_78 (by decide) ?_
  refine go_bipush (pc := 79) (v := (8 : Int32)) C dX1_standsAs_79 (by decide) ?_
  refine go_copy (pc := 81) (sp' := 0) (dp' := 0) (m' := 8) C z1aA_16 y1pS_16 (by decide) (by decide) (by decide) (by decide) q555 (by decide) (Nat.le_of_ble_eq_true rfl) dX1_standsAs_81 ?_
  refine go_aload_n (pc := 84) C dX1_standsAs_84 rfl 1 rfl ?_
  refine z1gr_17 (pc := 85) C dX1_standsAs_85 ?_
  refine go_iconst (pc := 88) (v := (0 : Int32)) C dX1_standsAs_88 (by decide) ?_
  refine go_aload_n (pc := 89) C dX1_standsAs_89 rfl 0 rfl ?_
  refine y1gr_17 (pc := 90) C dX1_standsAs_90 ?_
  refine go_iconst (pc := 93) (v := (0 : Int32)) C dX1_standsAs_93 (by decide) ?_
  refine go_bipush (pc := 94) (v := (8 : Int32)) C dX1_standsAs_94 (by decide) ?_
  refine go_copy (pc := 96) (sp' := 0) (dp' := 0) (m' := 8) C z1aA_17 y1pS_17 (by decide) (by decide) (by decide) (by decide) q555 (by decide) (Nat.le_of_ble_eq_true rfl) dX1_standsAs_96 ?_
  refine go_nm (pc := 99) (fun z9 => (bW Γ.d 1 FK1 a z9 ++ bW Γ.d 1 FK1 b t0)) (fun s2 es2 => ?_)
  have h := ltv_eq es2 h
  refine go_aload_n (pc := 99) C dX1_standsAs_99 rfl 1 rfl ?_
  refine z1gr_18 (pc := 100) C dX1_standsAs_100 ?_
  refine go_iconst (pc := 103) (v := (0 : Int32)) C dX1_standsAs_103 (by decide) ?_
  refine go_aload_n (pc := 104) C dX1_standsAs_104 rfl 0 rfl ?_
  refine y1gr_18 (pc := 105) C dX1_standsAs_105 ?_
  refine go_iconst (pc := 108) (v := (0 : Int32)) C dX1_standsAs_108 (by decide) ?_
  refine go_bipush (pc := 109) (v := (12 : Int32)) C dX1_standsAs_109 (by decide) ?_
  refine go_copy (pc := 111) (sp' := 0) (dp' := 0) (m' := 12) C z1aA_18 y1pS_18 (by decide) (by decide) (by decide) (by decide) q555 (by decide) (Nat.le_of_ble_eq_true rfl) dX1_standsAs_111 ?_
  refine go_aload_n (pc := 114) C dX1_standsAs_114 rfl 1 rfl ?_
  refine z1gr_19 (pc := 115) C dX1_standsAs_115 ?_
  refine go_iconst (pc := 118) (v := (0 : Int32)) C dX1_standsAs_118 (by decide) ?_
  refine go_aload_n (pc := 119) C dX1_standsAs_119 rfl 0 rfl ?_
  refine y1gr_19 (pc := 120) C dX1_standsAs_120 ?_
  refine go_iconst (pc := 123) (v := (0 : Int32)) C dX1_standsAs_123 (by decide) ?_
  refine go_bipush (pc := 124) (v := (12 : Int32)) C dX1_standsAs_124 (by decide) ?_
  refine go_copy (pc := 126) (sp' := 0) (dp' := 0) (m' := 12) C z1aA_19 y1pS_19 (by decide) (by decide) (by decide) (by decide) q555 (by decide) (Nat.le_of_ble_eq_true rfl) dX1_standsAs_126 ?_
  refine go_aload_n (pc := 129) C dX1_standsAs_129 rfl 1 rfl ?_
  refine z1gr_20 (pc := 130) C dX1_standsAs_130 ?_
  refine go_iconst (pc := 133) (v := (0 : Int32)) C dX1_standsAs_133 (by decide) ?_
  refine go_aload_n (pc := 134) C dX1_standsAs_134 rfl 0 rfl ?_
  refine y1gr_20 (pc := 135) C dX1_standsAs_135 ?_
  refine go_iconst (pc := 138) (v := (0 : Int32)) C dX1_standsAs_138 (by decide) ?_
  refine go_bipush (pc := 139) (v := (12 : Int32)) C dX1_standsAs_139 (by decide) ?_
  refine go_copy (pc := 141) (sp' := 0) (dp' := 0) (m' := 12) C z1aA_20 y1pS_20 (by decide) (by decide) (by decide) (by decide) q555 (by decide) (Nat.le_of_ble_eq_true rfl) dX1_standsAs_141 ?_
  refine go_nm (pc := 144) (fun z9 => (bW Γ.d 1 FK1 a z9 ++ bW Γ.d 1 FK1 b t0)) (fun s3 es3 => ?_)
  have h := ltv_eq es3 h
  refine go_aload_n (pc := 144) C dX1_standsAs_144 rfl 0 rfl ?_
  exact (hE 0 0 _ _ _ (Nat.zero_le _) (Nat.zero_le _)).2.2.2.2.1 _ _ rfl dX1_standsAs_145 ⟨rfl, congrArg (fun z => bW Γ.d 1 FK1 a z ++ bW Γ.d 1 FK1 b t0) (some1 h)⟩
theorem m1_copies {l : Launch} {d : gD} {a b : Nat → Nat} {s0 t0 : Bl} {s9 : Bl} (h : f1_copies s0 t0 = some s9) : Mt l d yX1_copies cX1_copies 2 (some (.object "PartyRaft$Flow")) (2, 0, 0) 47 (bW d 1 FK1 a s0 ++ bW d 1 FK1 b t0) [.ref (a 0), .ref (b 0)] (fun v w => v = some (.ref (a 0)) ∧ w = (bW d 1 FK1 a s9 ++ bW d 1 FK1 b t0)) := by
  refine Mt.of x1pn (Nat.le_of_ble_eq_true rfl) ?_
  intro Γ hl hd hN C hE
  subst hl; subst hd
  show Go Γ 0 0 (bW Γ.d 1 FK1 a s0 ++ bW Γ.d 1 FK1 b t0) 0 [(0, .ref (a 0)), (1, .ref (b 0))] []
  dsimp only [f1_copies] at h
  refine go_aload_n (pc := 0) C dX1_copies_0 rfl 0 rfl ?_
  refine go_aload_n (pc := 1) C dX1_copies_1 rfl 1 rfl ?_
  refine z1gi_0 (pc := 2) C dX1_copies_2 ?_
  refine y1pi_0 (pc := 5) C dX1_copies_5 ?_
  refine go_aload_n (pc := 8) C dX1_copies_8 rfl 0 rfl ?_
  refine go_aload_n (pc := 9) C dX1_copies_9 rfl 1 rfl ?_
  refine z1gi_1 (pc := 10) C dX1_copies_10 ?_
  refine y1pi_1 (pc := 13) C dX1_copies_13 ?_
  refine go_aload_n (pc := 16) C dX1_copies_16 rfl 0 rfl ?_
  refine go_aload_n (pc := 17) C dX1_copies_17 rfl 1 rfl ?_
  refine z1gi_2 (pc := 18) C dX1_copies_18 ?_
  refine y1pi_2 (pc := 21) C dX1_copies_21 ?_
  refine go_aload_n (pc := 24) C dX1_copies_24 rfl 0 rfl ?_
  refine go_aload_n (pc := 25) C dX1_copies_25 rfl 1 rfl ?_
  refine z1gi_3 (pc := 26) C dX1_copies_26 ?_
  refine y1pi_3 (pc := 29) C dX1_copies_29 ?_
  refine go_aload_n (pc := 32) C dX1_copies_32 rfl 0 rfl ?_
  refine go_aload_n (pc := 33) C dX1_copies_33 rfl 1 rfl ?_
  refine z1gi_7 (pc := 34) C dX1_copies_34 ?_
  refine y1pi_7 (pc := 37) C dX1_copies_37 ?_
  refine go_aload_n (pc := 40) C dX1_copies_40 rfl 0 rfl ?_
  refine go_aload_n (pc := 41) C dX1_copies_41 rfl 1 rfl ?_
  refine z1gi_8 (pc := 42) C dX1_copies_42 ?_
  refine y1pi_8 (pc := 45) C dX1_copies_45 ?_
  refine go_aload_n (pc := 48) C dX1_copies_48 rfl 1 rfl ?_
  refine z1gr_9 (pc := 49) C dX1_copies_49 ?_
  refine go_iconst (pc := 52) (v := (0 : Int32)) C dX1_copies_52 (by decide) ?_
  refine go_aload_n (pc := 53) C dX1_copies_53 rfl 0 rfl ?_
  refine y1gr_9 (pc := 54) C dX1_copies_54 ?_
  refine go_iconst (pc := 57) (v := (0 : Int32)) C dX1_copies_57 (by decide) ?_
  refine go_bipush (pc := 58) (v := (6 : Int32)) C dX1_copies_58 (by decide) ?_
  refine go_copy (pc := 60) (sp' := 0) (dp' := 0) (m' := 6) C z1aA_9 y1pS_9 (by decide) (by decide) (by decide) (by decide) q555 (by decide) (Nat.le_of_ble_eq_true rfl) dX1_copies_60 ?_
  refine go_nm (pc := 63) (fun z9 => (bW Γ.d 1 FK1 a z9 ++ bW Γ.d 1 FK1 b t0)) (fun s1 es1 => ?_)
  have h := ltv_eq es1 h
  refine go_aload_n (pc := 63) C dX1_copies_63 rfl 1 rfl ?_
  refine z1gr_10 (pc := 64) C dX1_copies_64 ?_
  refine go_iconst (pc := 67) (v := (0 : Int32)) C dX1_copies_67 (by decide) ?_
  refine go_aload_n (pc := 68) C dX1_copies_68 rfl 0 rfl ?_
  refine y1gr_10 (pc := 69) C dX1_copies_69 ?_
  refine go_iconst (pc := 72) (v := (0 : Int32)) C dX1_copies_72 (by decide) ?_
  refine go_bipush (pc := 73) (v := (6 : Int32)) C dX1_copies_73 (by decide) ?_
  refine go_copy (pc := 75) (sp' := 0) (dp' := 0) (m' := 6) C z1aA_10 y1pS_10 (by decide) (by decide) (by decide) (by decide) q555 (by decide) (Nat.le_of_ble_eq_true rfl) dX1_copies_75 ?_
  refine go_aload_n (pc := 78) C dX1_copies_78 rfl 1 rfl ?_
  refine z1gr_13 (pc := 79) C dX1_copies_79 ?_
  refine go_iconst (pc := 82) (v := (0 : Int32)) C dX1_copies_82 (by decide) ?_
  refine go_aload_n (pc := 83) C dX1_copies_83 rfl 0 rfl ?_
  refine y1gr_13 (pc := 84) C dX1_copies_84 ?_
  refine go_iconst (pc := 87) (v := (0 : Int32)) C dX1_copies_87 (by decide) ?_
  refine go_bipush (pc := 88) (v := (8 : Int32)) C dX1_copies_88 (by decide) ?_
  refine go_copy (pc := 90) (sp' := 0) (dp' := 0) (m' := 8) C z1aA_13 y1pS_13 (by decide) (by decide) (by decide) (by decide) q555 (by decide) (Nat.le_of_ble_eq_true rfl) dX1_copies_90 ?_
  refine go_aload_n (pc := 93) C dX1_copies_93 rfl 1 rfl ?_
  refine z1gr_15 (pc := 94) C dX1_copies_94 ?_
  refine go_iconst (pc := 97) (v := (0 : Int32)) C dX1_copies_97 (by decide) ?_
  refine go_aload_n (pc := 98) C dX1_copies_98 rfl 0 rfl ?_
  refine y1gr_15 (pc := 99) C dX1_copies_99 ?_
  refine go_iconst (pc := 102) (v := (0 : Int32)) C dX1_copies_102 (by decide) ?_
  refine go_bipush (pc := 103) (v := (8 : Int32)) C dX1_copies_103 (by decide) ?_
  refine go_copy (pc := 105) (sp' := 0) (dp' := 0) (m' := 8) C z1aA_15 y1pS_15 (by decide) (by decide) (by decide) (by decide) q555 (by decide) (Nat.le_of_ble_eq_true rfl) dX1_copies_105 ?_
  refine go_nm (pc := 108) (fun z9 => (bW Γ.d 1 FK1 a z9 ++ bW Γ.d 1 FK1 b t0)) (fun s2 es2 => ?_)
  have h := ltv_eq es2 h
  refine go_aload_n (pc := 108) C dX1_copies_108 rfl 1 rfl ?_
  refine z1gr_21 (pc := 109) C dX1_copies_109 ?_
  refine go_iconst (pc := 112) (v := (0 : Int32)) C dX1_copies_112 (by decide) ?_
  refine go_aload_n (pc := 113) C dX1_copies_113 rfl 0 rfl ?_
  refine y1gr_21 (pc := 114) C dX1_copies_114 ?_
  refine go_iconst (pc := 117) (v := (0 : Int32)) C dX1_copies_117 (by decide) ?_
  refine go_bipush (pc := 118) (v := (6 : Int32)) C dX1_copies_118 (by decide) ?_
  refine go_copy (pc := 120) (sp' := 0) (dp' := 0) (m' := 6) C z1aA_21 y1pS_21 (by decide) (by decide) (by decide) (by decide) q555 (by decide) (Nat.le_of_ble_eq_true rfl) dX1_copies_120 ?_
  refine go_aload_n (pc := 123) C dX1_copies_123 rfl 1 rfl ?_
  refine z1gr_22 (pc := 124) C dX1_copies_124 ?_
  refine go_iconst (pc := 127) (v := (0 : Int32)) C dX1_copies_127 (by decide) ?_
  refine go_aload_n (pc := 128) C dX1_copies_128 rfl 0 rfl ?_
  refine y1gr_22 (pc := 129) C dX1_copies_129 ?_
  refine go_iconst (pc := 132) (v := (0 : Int32)) C dX1_copies_132 (by decide) ?_
  refine go_bipush (pc := 133) (v := (6 : Int32)) C dX1_copies_133 (by decide) ?_
  refine go_copy (pc := 135) (sp' := 0) (dp' := 0) (m' := 6) C z1aA_22 y1pS_22 (by decide) (by decide) (by decide) (by decide) q555 (by decide) (Nat.le_of_ble_eq_true rfl) dX1_copies_135 ?_
  refine go_aload_n (pc := 138) C dX1_copies_138 rfl 1 rfl ?_
  refine z1gr_23 (pc := 139) C dX1_copies_139 ?_
  refine go_iconst (pc := 142) (v := (0 : Int32)) C dX1_copies_142 (by decide) ?_
  refine go_aload_n (pc := 143) C dX1_copies_143 rfl 0 rfl ?_
  refine y1gr_23 (pc := 144) C dX1_copies_144 ?_
  refine go_iconst (pc := 147) (v := (0 : Int32)) C dX1_copies_147 (by decide) ?_
  refine go_bipush (pc := 148) (v := (18 : Int32)) C dX1_copies_148 (by decide) ?_
  refine go_copy (pc := 150) (sp' := 0) (dp' := 0) (m' := 18) C z1aA_23 y1pS_23 (by decide) (by decide) (by decide) (by decide) q555 (by decide) (Nat.le_of_ble_eq_true rfl) dX1_copies_150 ?_
  refine go_nm (pc := 153) (fun z9 => (bW Γ.d 1 FK1 a z9 ++ bW Γ.d 1 FK1 b t0)) (fun s3 es3 => ?_)
  have h := ltv_eq es3 h
  refine go_aload_n (pc := 153) C dX1_copies_153 rfl 1 rfl ?_
  refine z1gr_24 (pc := 154) C dX1_copies_154 ?_
  refine go_iconst (pc := 157) (v := (0 : Int32)) C dX1_copies_157 (by decide) ?_
  refine go_aload_n (pc := 158) C dX1_copies_158 rfl 0 rfl ?_
  refine y1gr_24 (pc := 159) C dX1_copies_159 ?_
  refine go_iconst (pc := 162) (v := (0 : Int32)) C dX1_copies_162 (by decide) ?_
  refine go_sipush (pc := 163) (v := (1540 : Int32)) C dX1_copies_163 (by decide) ?_
  refine go_copy (pc := 166) (sp' := 0) (dp' := 0) (m' := 1540) C z1aA_24 y1pS_24 (by decide) (by decide) (by decide) (by decide) q555 (by decide) (Nat.le_of_ble_eq_true rfl) dX1_copies_166 ?_
  refine go_aload_n (pc := 169) C dX1_copies_169 rfl 0 rfl ?_
  refine go_aload_n (pc := 170) C dX1_copies_170 rfl 1 rfl ?_
  obtain ⟨s4, e4, h⟩ := bnd_some h
  refine go_callVa (pc := 171) C [.ref (b 0)] (m1_standsAs e4) q558 q559 q560 q139 q561 x1pd_standsAs (by decide) (by decide) (bW_O.appL) x1c rfl (Nat.le_of_ble_eq_true rfl) ⟨Nat.zero_le _, Nat.zero_le _⟩ dX1_copies_171 rfl ?_
  exact (hE 0 0 _ _ _ (Nat.zero_le _) (Nat.zero_le _)).2.2.2.2.1 _ _ rfl dX1_copies_174 ⟨rfl, congrArg (fun z => bW Γ.d 1 FK1 a z ++ bW Γ.d 1 FK1 b t0) (some1 h)⟩

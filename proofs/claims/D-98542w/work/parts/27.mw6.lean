/-! walks of the Model, printed by gen/model.py -/
set_option maxRecDepth 100000
set_option maxHeartbeats 4000000
theorem w3_answer_53 {Γ : Gam} {a : Nat → Nat} {v1 : Int32} {v3 : Int32} {s0 : Bl} {v4 : Int32} {v5 : Int32} {v6 : Int32} {v7 : Int32} {r9 : Int64} {s9 : Bl} {K6 : Bl × Int32 × Int32 → Option (Int64 × Bl)} (hN : Γ.nL = 8) (C : Cx Γ cX3_answer RX3 (2, 0, 0) 44) (hE : Rets Γ cX3_answer (some .long) 0 0 (fun v w => v = some (.long r9) ∧ w = (bW Γ.d 3 FK3 a s9)))
    (hK6 : ∀ s, K6 s = some (r9, s9) → (fun s : Bl × Int32 × Int32 => Go Γ 0 0 (bW Γ.d 3 FK3 a s.1) 6 [(0, .ref (a 0)), (1, .int v1), (3, .int v3), (4, .int s.2.1), (5, .int s.2.2)] []) s) (h : g3_answer_53 K6 s0 v1 v3 v4 v5 v6 v7 = some (r9, s9)) : Go Γ 0 0 (bW Γ.d 3 FK3 a s0) 53 [(0, .ref (a 0)), (1, .int v1), (3, .int v3), (4, .int v4), (5, .int v5), (6, .int v6), (7, .int v7)] [] := by
  dsimp only [g3_answer_53] at h
  refine go_aload_n (pc := 53) C dX3_answer_53 rfl 0 rfl ?_
  refine x3gr_50 (pc := 54) C dX3_answer_54 ?_
  refine go_iload (pc := 57) C dX3_answer_57 3 rfl ?_
  refine go_iload (pc := 59) C dX3_answer_59 5 rfl ?_
  refine go_if_ne (pc := 61) (tgt := 70) C dX3_answer_61 (by decide) h (fun h => ?_) (fun h => ?_)
  · refine go_aload_n (pc := 70) C dX3_answer_70 rfl 0 rfl ?_
    refine x3gr_49 (pc := 71) C dX3_answer_71 ?_
    refine go_iload (pc := 74) C dX3_answer_74 6 rfl ?_
    refine go_lald (pc := 76) C x3aA_49 h dX3_answer_76 (fun h => ?_)
    refine go_last (pc := 77) C x3pA_50 h dX3_answer_77 (fun h => ?_)
    refine go_iinc (pc := 78) (v := (v4 + (1 : Int32))) C hN dX3_answer_78 (q := 3) rfl rfl (by decide) rfl ?_
    refine go_goto (pc := 81) (tgt := 147) C dX3_answer_81 (by decide) ?_
    refine go_iinc (pc := 147) (v := (v5 + (1 : Int32))) C hN dX3_answer_147 (q := 4) rfl rfl (by decide) rfl ?_
    refine go_goto (pc := 150) (tgt := 6) C dX3_answer_150 (by decide) ?_
    refine go_sub [2, 3, 4, 1, 0] rfl ?_
    exact hK6 ((bL s0 50 (v4).toNatClampNeg (s0.2.2 49 (v7).toNatClampNeg)), (v4 + (1 : Int32)), (v5 + (1 : Int32))) h
  · refine go_iload (pc := 64) C dX3_answer_64 6 rfl ?_
    refine go_i2l (pc := 66) C dX3_answer_66 ?_
    refine go_goto (pc := 67) (tgt := 77) C dX3_answer_67 (by decide) ?_
    refine go_last (pc := 77) C x3pA_50 h dX3_answer_77 (fun h => ?_)
    refine go_iinc (pc := 78) (v := (v4 + (1 : Int32))) C hN dX3_answer_78 (q := 3) rfl rfl (by decide) rfl ?_
    refine go_goto (pc := 81) (tgt := 147) C dX3_answer_81 (by decide) ?_
    refine go_iinc (pc := 147) (v := (v5 + (1 : Int32))) C hN dX3_answer_147 (q := 4) rfl rfl (by decide) rfl ?_
    refine go_goto (pc := 150) (tgt := 6) C dX3_answer_150 (by decide) ?_
    refine go_sub [2, 3, 4, 1, 0] rfl ?_
    exact hK6 ((bL s0 50 (v4).toNatClampNeg (v7).toInt64), (v4 + (1 : Int32)), (v5 + (1 : Int32))) h
theorem w3_answer_6 {Γ : Gam} {a : Nat → Nat} {v1 : Int32} {v3 : Int32} {r9 : Int64} {s9 : Bl} (hN : Γ.nL = 8) (C : Cx Γ cX3_answer RX3 (2, 0, 0) 44) (hE : Rets Γ cX3_answer (some .long) 0 0 (fun v w => v = some (.long r9) ∧ w = (bW Γ.d 3 FK3 a s9))) : ∀ (n : Nat) (s : Bl × Int32 × Int32), loop (g3_answer_6 v1 v3) n s = some (r9, s9) → (fun s : Bl × Int32 × Int32 => Go Γ 0 0 (bW Γ.d 3 FK3 a s.1) 6 [(0, .ref (a 0)), (1, .int v1), (3, .int v3), (4, .int s.2.1), (5, .int s.2.2)] []) s := by
  refine loop_walk (P := fun s : Bl × Int32 × Int32 => Go Γ 0 0 (bW Γ.d 3 FK3 a s.1) 6 [(0, .ref (a 0)), (1, .int v1), (3, .int v3), (4, .int s.2.1), (5, .int s.2.2)] []) ?_
  intro K6 hK6 s h
  obtain ⟨s0, v4, v5⟩ := s
  dsimp only [g3_answer_6] at h
  show Go Γ 0 0 (bW Γ.d 3 FK3 a s0) 6 [(0, .ref (a 0)), (1, .int v1), (3, .int v3), (4, .int v4), (5, .int v5)] []
  refine go_iload (pc := 6) C dX3_answer_6 4 rfl ?_
  refine go_iload_n (pc := 8) C dX3_answer_8 rfl 2 rfl ?_
  refine go_icmp_ge (pc := 9) (tgt := 153) C dX3_answer_9 (by decide) h (fun h => ?_) (fun h => ?_)
  · refine go_aload_n (pc := 153) C dX3_answer_153 rfl 0 rfl ?_
    refine x3gr_50 (pc := 154) C dX3_answer_154 ?_
    refine go_iconst (pc := 157) (v := (0 : Int32)) C dX3_answer_157 (by decide) ?_
    refine go_laldK (pc := 158) (j := 0) C x3aA_50 (by decide) (by decide) dX3_answer_158 ?_
    exact (hE 0 0 _ _ _ (Nat.zero_le _) (Nat.zero_le _)).2.2.1 _ rfl dX3_answer_159 ⟨congrArg (fun z => some (Value.long z)) (some2 h).1, congrArg (fun z => bW Γ.d 3 FK3 a z) (some2 h).2⟩
  · refine go_aload_n (pc := 12) C dX3_answer_12 rfl 0 rfl ?_
    refine x3gr_42 (pc := 13) C dX3_answer_13 ?_
    refine go_sipush (pc := 16) (v := (300 : Int32)) C dX3_answer_16 (by decide) ?_
    refine go_iload_n (pc := 19) C dX3_answer_19 rfl 1 rfl ?_
    refine go_imul (pc := 20) C dX3_answer_20 ?_
    refine go_iload (pc := 21) C dX3_answer_21 4 rfl ?_
    refine go_iadd (pc := 23) C dX3_answer_23 ?_
    refine go_iald (pc := 24) C x3aA_42 h dX3_answer_24 (fun h => ?_)
    refine go_istore (pc := 25) C hN dX3_answer_25 (by decide) rfl ?_
    refine go_aload_n (pc := 27) C dX3_answer_27 rfl 1 rfl ?_
    refine x3gr_43 (pc := 28) C dX3_answer_28 ?_
    refine go_sipush (pc := 31) (v := (300 : Int32)) C dX3_answer_31 (by decide) ?_
    refine go_iload_n (pc := 34) C dX3_answer_34 rfl 2 rfl ?_
    refine go_imul (pc := 35) C dX3_answer_35 ?_
    refine go_iload (pc := 36) C dX3_answer_36 5 rfl ?_
    refine go_iadd (pc := 38) C dX3_answer_38 ?_
    refine go_iald (pc := 39) C x3aA_43 h dX3_answer_39 (fun h => ?_)
    refine go_istore (pc := 40) C hN dX3_answer_40 (by decide) rfl ?_
    refine go_iload (pc := 42) C dX3_answer_42 1 rfl ?_
    refine go_if_eq (pc := 44) (tgt := 53) C dX3_answer_44 (by decide) h (fun h => ?_) (fun h => ?_)
    · refine go_sub [2, 3, 4, 5, 6, 1, 0] rfl ?_
      exact w3_answer_53 hN C hE hK6 h
    · refine go_iload (pc := 47) C dX3_answer_47 1 rfl ?_
      refine go_iconst (pc := 49) (v := (1 : Int32)) C dX3_answer_49 (by decide) ?_
      refine go_icmp_ne (pc := 50) (tgt := 84) C dX3_answer_50 (by decide) h (fun h => ?_) (fun h => ?_)
      · refine go_iload (pc := 84) C dX3_answer_84 1 rfl ?_
        refine go_bipush (pc := 86) (v := (9 : Int32)) C dX3_answer_86 (by decide) ?_
        refine go_icmp_ne (pc := 88) (tgt := 114) C dX3_answer_88 (by decide) h (fun h => ?_) (fun h => ?_)
        · refine go_iinc (pc := 114) (v := (v4 + (-1 : Int32))) C hN dX3_answer_114 (q := 5) rfl rfl (by decide) rfl ?_
          refine go_aload_n (pc := 117) C dX3_answer_117 rfl 3 rfl ?_
          refine x3gr_50 (pc := 118) C dX3_answer_118 ?_
          refine go_iload (pc := 121) C dX3_answer_121 0 rfl ?_
          refine go_iconst (pc := 123) (v := (1 : Int32)) C dX3_answer_123 (by decide) ?_
          refine go_isub (pc := 124) C dX3_answer_124 ?_
          refine go_iload (pc := 125) C dX3_answer_125 2 rfl ?_
          refine go_aload_n (pc := 127) C dX3_answer_127 rfl 3 rfl ?_
          refine x3gr_50 (pc := 128) C dX3_answer_128 ?_
          refine go_iload (pc := 131) C dX3_answer_131 0 rfl ?_
          refine go_iconst (pc := 133) (v := (1 : Int32)) C dX3_answer_133 (by decide) ?_
          refine go_isub (pc := 134) C dX3_answer_134 ?_
          refine go_lald (pc := 135) C x3aA_50 h dX3_answer_135 (fun h => ?_)
          refine go_aload_n (pc := 136) C dX3_answer_136 rfl 3 rfl ?_
          refine x3gr_50 (pc := 137) C dX3_answer_137 ?_
          refine go_iload (pc := 140) C dX3_answer_140 0 rfl ?_
          refine go_lald (pc := 142) C x3aA_50 h dX3_answer_142 (fun h => ?_)
          obtain ⟨r1, e1, h⟩ := bnd_some h
          refine go_callSl (pc := 143) C [.int (s0.2.1 42 ((((300 : Int32) * v1) + v5)).toNatClampNeg), .long (s0.2.2 50 (((v4 + (-1 : Int32)) - (1 : Int32))).toNatClampNeg), .long (s0.2.2 50 ((v4 + (-1 : Int32))).toNatClampNeg)] (m3_both e1) q1856 q1857 q144 q1858 x3pd_both (by decide) (by decide) rfl (Nat.le_of_ble_eq_true rfl) ⟨Nat.zero_le _, Nat.zero_le _⟩ dX3_answer_143 rfl ?_
          refine go_last (pc := 146) C x3pA_50 h dX3_answer_146 (fun h => ?_)
          refine go_iinc (pc := 147) (v := (v5 + (1 : Int32))) C hN dX3_answer_147 (q := 6) rfl rfl (by decide) rfl ?_
          refine go_goto (pc := 150) (tgt := 6) C dX3_answer_150 (by decide) ?_
          refine go_sub [4, 5, 6, 1, 0] rfl ?_
          exact hK6 ((bL s0 50 (((v4 + (-1 : Int32)) - (1 : Int32))).toNatClampNeg r1), (v4 + (-1 : Int32)), (v5 + (1 : Int32))) h
        · refine go_aload_n (pc := 91) C dX3_answer_91 rfl 2 rfl ?_
          refine x3gr_50 (pc := 92) C dX3_answer_92 ?_
          refine go_iload (pc := 95) C dX3_answer_95 5 rfl ?_
          refine go_iconst (pc := 97) (v := (1 : Int32)) C dX3_answer_97 (by decide) ?_
          refine go_isub (pc := 98) C dX3_answer_98 ?_
          refine go_lconst (pc := 99) (v := (1 : Int64)) C dX3_answer_99 (by decide) ?_
          refine go_aload_n (pc := 100) C dX3_answer_100 rfl 2 rfl ?_
          refine x3gr_50 (pc := 101) C dX3_answer_101 ?_
          refine go_iload (pc := 104) C dX3_answer_104 5 rfl ?_
          refine go_iconst (pc := 106) (v := (1 : Int32)) C dX3_answer_106 (by decide) ?_
          refine go_isub (pc := 107) C dX3_answer_107 ?_
          refine go_lald (pc := 108) C x3aA_50 h dX3_answer_108 (fun h => ?_)
          refine go_lsub (pc := 109) C dX3_answer_109 ?_
          refine go_last (pc := 110) C x3pA_50 h dX3_answer_110 (fun h => ?_)
          refine go_goto (pc := 111) (tgt := 147) C dX3_answer_111 (by decide) ?_
          refine go_iinc (pc := 147) (v := (v5 + (1 : Int32))) C hN dX3_answer_147 (q := 6) rfl rfl (by decide) rfl ?_
          refine go_goto (pc := 150) (tgt := 6) C dX3_answer_150 (by decide) ?_
          refine go_sub [3, 4, 5, 6, 0] rfl ?_
          exact hK6 ((bL s0 50 ((v4 - (1 : Int32))).toNatClampNeg ((1 : Int64) - (s0.2.2 50 ((v4 - (1 : Int32))).toNatClampNeg))), v4, (v5 + (1 : Int32))) h
      · refine go_sub [2, 3, 4, 5, 6, 1, 0] rfl ?_
        exact w3_answer_53 hN C hE hK6 h
theorem m3_answer {l : Launch} {d : gD} {a : Nat → Nat} {s0 : Bl} {v1 : Int32} {v2 : Int32} {v3 : Int32} {r9 : Int64} {s9 : Bl} (h : f3_answer s0 v1 v2 v3 = some (r9, s9)) : Mt l d yX3_answer cX3_answer 8 (some .long) (2, 0, 0) 44 (bW d 3 FK3 a s0) [.ref (a 0), .int v1, .int v2, .int v3] (fun v w => v = some (.long r9) ∧ w = (bW d 3 FK3 a s9)) := by
  refine Mt.of x3pn (Nat.le_of_ble_eq_true rfl) ?_
  intro Γ hl hd hN C hE
  subst hl; subst hd
  show Go Γ 0 0 (bW Γ.d 3 FK3 a s0) 0 [(0, .ref (a 0)), (1, .int v1), (2, .int v2), (3, .int v3)] []
  dsimp only [f3_answer] at h
  refine go_iconst (pc := 0) (v := (0 : Int32)) C dX3_answer_0 (by decide) ?_
  refine go_istore (pc := 1) C hN dX3_answer_1 (by decide) rfl ?_
  refine go_iload_n (pc := 3) C dX3_answer_3 rfl 3 rfl ?_
  refine go_istore (pc := 4) C hN dX3_answer_4 (by decide) rfl ?_
  refine go_sub [2, 3, 5, 1, 0] rfl ?_
  exact w3_answer_6 hN C hE FU (s0, (0 : Int32), v2) h
theorem w3_wanted_5 {Γ : Gam} {a : Nat → Nat} {v1 : Int32} {r9 : Int64} {s9 : Bl} (hN : Γ.nL = 3) (C : Cx Γ cX3_wanted RX3 (3, 0, 0) 71) (hE : Rets Γ cX3_wanted (some .long) 0 0 (fun v w => v = some (.long r9) ∧ w = (bW Γ.d 3 FK3 a s9))) : ∀ (n : Nat) (s : Bl × Int32), loop (g3_wanted_5 v1) n s = some (r9, s9) → (fun s : Bl × Int32 => Go Γ 0 0 (bW Γ.d 3 FK3 a s.1) 5 [(0, .ref (a 0)), (1, .int v1), (2, .int s.2)] []) s := by
  refine loop_walk (P := fun s : Bl × Int32 => Go Γ 0 0 (bW Γ.d 3 FK3 a s.1) 5 [(0, .ref (a 0)), (1, .int v1), (2, .int s.2)] []) ?_
  intro K5 hK5 s h
  obtain ⟨s0, v2⟩ := s
  dsimp only [g3_wanted_5] at h
  show Go Γ 0 0 (bW Γ.d 3 FK3 a s0) 5 [(0, .ref (a 0)), (1, .int v1), (2, .int v2)] []
  refine go_iload_n (pc := 5) C dX3_wanted_5 rfl 2 rfl ?_
  refine go_bipush (pc := 6) (v := (12 : Int32)) C dX3_wanted_6 (by decide) ?_
  refine go_iload_n (pc := 8) C dX3_wanted_8 rfl 1 rfl ?_
  refine go_imul (pc := 9) C dX3_wanted_9 ?_
  refine go_aload_n (pc := 10) C dX3_wanted_10 rfl 0 rfl ?_
  refine x3gr_44 (pc := 11) C dX3_wanted_11 ?_
  refine go_iload_n (pc := 14) C dX3_wanted_14 rfl 1 rfl ?_
  refine go_iald (pc := 15) C x3aA_44 h dX3_wanted_15 (fun h => ?_)
  refine go_iadd (pc := 16) C dX3_wanted_16 ?_
  refine go_icmp_ge (pc := 17) (tgt := 81) C dX3_wanted_17 (by decide) h (fun h => ?_) (fun h => ?_)
  · refine go_lconst (pc := 81) (v := (0 : Int64)) C dX3_wanted_81 (by decide) ?_
    exact (hE 0 0 _ _ _ (Nat.zero_le _) (Nat.zero_le _)).2.2.1 _ rfl dX3_wanted_82 ⟨congrArg (fun z => some (Value.long z)) (some2 h).1, congrArg (fun z => bW Γ.d 3 FK3 a z) (some2 h).2⟩
  · refine go_aload_n (pc := 20) C dX3_wanted_20 rfl 0 rfl ?_
    refine x3gr_46 (pc := 21) C dX3_wanted_21 ?_
    refine go_iload_n (pc := 24) C dX3_wanted_24 rfl 2 rfl ?_
    refine go_iald (pc := 25) C x3aA_46 h dX3_wanted_25 (fun h => ?_)
    refine go_aload_n (pc := 26) C dX3_wanted_26 rfl 0 rfl ?_
    refine x3gr_47 (pc := 27) C dX3_wanted_27 ?_
    refine go_iload_n (pc := 30) C dX3_wanted_30 rfl 2 rfl ?_
    refine go_iald (pc := 31) C x3aA_47 h dX3_wanted_31 (fun h => ?_)
    refine go_icmp_eq (pc := 32) (tgt := 57) C dX3_wanted_32 (by decide) h (fun h => ?_) (fun h => ?_)
    · refine go_aload_n (pc := 57) C dX3_wanted_57 rfl 0 rfl ?_
      refine go_iload_n (pc := 58) C dX3_wanted_58 rfl 1 rfl ?_
      refine go_aload_n (pc := 59) C dX3_wanted_59 rfl 0 rfl ?_
      refine x3gr_45 (pc := 60) C dX3_wanted_60 ?_
      refine go_iload_n (pc := 63) C dX3_wanted_63 rfl 2 rfl ?_
      refine go_iald (pc := 64) C x3aA_45 h dX3_wanted_64 (fun h => ?_)
      refine go_aload_n (pc := 65) C dX3_wanted_65 rfl 0 rfl ?_
      refine x3gr_46 (pc := 66) C dX3_wanted_66 ?_
      refine go_iload_n (pc := 69) C dX3_wanted_69 rfl 2 rfl ?_
      refine go_iald (pc := 70) C x3aA_46 h dX3_wanted_70 (fun h => ?_)
      obtain ⟨r1, s1, e1, h⟩ := bnd2_some h
      refine go_callVl (pc := 71) C [.int v1, .int (s0.2.1 45 (v2).toNatClampNeg), .int (s0.2.1 46 (v2).toNatClampNeg)] (m3_answer e1) q1852 q1854 qs117 q144 q1855 x3pd_answer (by decide) (by decide) bW_O x3c rfl (Nat.le_of_ble_eq_true rfl) ⟨Nat.zero_le _, Nat.zero_le _⟩ dX3_wanted_71 rfl ?_
      exact (hE 0 0 _ _ _ (Nat.zero_le _) (Nat.zero_le _)).2.2.1 _ rfl dX3_wanted_74 ⟨congrArg (fun z => some (Value.long z)) (some2 h).1, congrArg (fun z => bW Γ.d 3 FK3 a z) (some2 h).2⟩
    · refine go_aload_n (pc := 35) C dX3_wanted_35 rfl 0 rfl ?_
      refine go_iload_n (pc := 36) C dX3_wanted_36 rfl 1 rfl ?_
      refine go_aload_n (pc := 37) C dX3_wanted_37 rfl 0 rfl ?_
      refine x3gr_46 (pc := 38) C dX3_wanted_38 ?_
      refine go_iload_n (pc := 41) C dX3_wanted_41 rfl 2 rfl ?_
      refine go_iald (pc := 42) C x3aA_46 h dX3_wanted_42 (fun h => ?_)
      refine go_aload_n (pc := 43) C dX3_wanted_43 rfl 0 rfl ?_
      refine x3gr_47 (pc := 44) C dX3_wanted_44 ?_
      refine go_iload_n (pc := 47) C dX3_wanted_47 rfl 2 rfl ?_
      refine go_iald (pc := 48) C x3aA_47 h dX3_wanted_48 (fun h => ?_)
      obtain ⟨r2, s2, e2, h⟩ := bnd2_some h
      refine go_callVl (pc := 49) C [.int v1, .int (s0.2.1 46 (v2).toNatClampNeg), .int (s0.2.1 47 (v2).toNatClampNeg)] (m3_answer e2) q1852 q1854 qs117 q144 q1855 x3pd_answer (by decide) (by decide) bW_O x3c rfl (Nat.le_of_ble_eq_true rfl) ⟨Nat.zero_le _, Nat.zero_le _⟩ dX3_wanted_49 rfl ?_
      refine go_lconst (pc := 52) (v := (1 : Int64)) C dX3_wanted_52 (by decide) ?_
      refine go_lcmp (pc := 53) C dX3_wanted_53 ?_
      refine go_if_ne (pc := 54) (tgt := 75) C dX3_wanted_54 (by decide) h (fun h => ?_) (fun h => ?_)
      · refine go_iinc (pc := 75) (v := (v2 + (1 : Int32))) C hN dX3_wanted_75 (q := 2) rfl rfl (by decide) rfl ?_
        refine go_goto (pc := 78) (tgt := 5) C dX3_wanted_78 (by decide) ?_
        refine go_sub [1, 2, 0] rfl ?_
        exact hK5 (s2, (v2 + (1 : Int32))) h
      · refine go_aload_n (pc := 57) C dX3_wanted_57 rfl 0 rfl ?_
        refine go_iload_n (pc := 58) C dX3_wanted_58 rfl 1 rfl ?_
        refine go_aload_n (pc := 59) C dX3_wanted_59 rfl 0 rfl ?_
        refine x3gr_45 (pc := 60) C dX3_wanted_60 ?_
        refine go_iload_n (pc := 63) C dX3_wanted_63 rfl 2 rfl ?_
        refine go_iald (pc := 64) C x3aA_45 h dX3_wanted_64 (fun h => ?_)
        refine go_aload_n (pc := 65) C dX3_wanted_65 rfl 0 rfl ?_
        refine x3gr_46 (pc := 66) C dX3_wanted_66 ?_
        refine go_iload_n (pc := 69) C dX3_wanted_69 rfl 2 rfl ?_
        refine go_iald (pc := 70) C x3aA_46 h dX3_wanted_70 (fun h => ?_)
        obtain ⟨r3, s3, e3, h⟩ := bnd2_some h
        refine go_callVl (pc := 71) C [.int v1, .int (s2.2.1 45 (v2).toNatClampNeg), .int (s2.2.1 46 (v2).toNatClampNeg)] (m3_answer e3) q1852 q1854 qs117 q144 q1855 x3pd_answer (by decide) (by decide) bW_O x3c rfl (Nat.le_of_ble_eq_true rfl) ⟨Nat.zero_le _, Nat.zero_le _⟩ dX3_wanted_71 rfl ?_
        exact (hE 0 0 _ _ _ (Nat.zero_le _) (Nat.zero_le _)).2.2.1 _ rfl dX3_wanted_74 ⟨congrArg (fun z => some (Value.long z)) (some2 h).1, congrArg (fun z => bW Γ.d 3 FK3 a z) (some2 h).2⟩
theorem m3_wanted {l : Launch} {d : gD} {a : Nat → Nat} {s0 : Bl} {v1 : Int32} {r9 : Int64} {s9 : Bl} (h : f3_wanted s0 v1 = some (r9, s9)) : Mt l d yX3_wanted cX3_wanted 3 (some .long) (3, 0, 0) 71 (bW d 3 FK3 a s0) [.ref (a 0), .int v1] (fun v w => v = some (.long r9) ∧ w = (bW d 3 FK3 a s9)) := by
  refine Mt.of x3pn (Nat.le_of_ble_eq_true rfl) ?_
  intro Γ hl hd hN C hE
  subst hl; subst hd
  show Go Γ 0 0 (bW Γ.d 3 FK3 a s0) 0 [(0, .ref (a 0)), (1, .int v1)] []
  dsimp only [f3_wanted] at h
  refine go_bipush (pc := 0) (v := (12 : Int32)) C dX3_wanted_0 (by decide) ?_
  refine go_iload_n (pc := 2) C dX3_wanted_2 rfl 1 rfl ?_
  refine go_imul (pc := 3) C dX3_wanted_3 ?_
  refine go_istore_n (pc := 4) C hN dX3_wanted_4 rfl (by decide) rfl ?_
  refine go_sub [1, 2, 0] rfl ?_
  exact w3_wanted_5 hN C hE FU (s0, ((12 : Int32) * v1)) h
theorem w3_tiesBy_28 {Γ : Gam} {a : Nat → Nat} {v1 : Int32} {v2 : Int32} {v7 : Int32} {s9 : Bl} {K11 : Bl × Int32 × Int32 × Int64 × Int32 → Option Bl} (hN : Γ.nL = 11) (C : Cx Γ cX3_tiesBy RX3 (4, 0, 0) 94) (hE : Rets Γ cX3_tiesBy none 0 0 (fun v w => v = none ∧ w = (bW Γ.d 3 FK3 a s9)))
    (hK11 : ∀ s, K11 s = some s9 → (fun s : Bl × Int32 × Int32 × Int64 × Int32 => Go Γ 0 0 (bW Γ.d 3 FK3 a s.1) 11 [(0, .ref (a 0)), (1, .int v1), (2, .int v2), (3, .int s.2.1), (4, .int s.2.2.1), (5, .long s.2.2.2.1), (7, .int s.2.2.2.2)] []) s) : ∀ (n : Nat) (s : Bl × Int32 × Int32 × Int64 × Int32), loop (g3_tiesBy_28 v1 v2 v7 K11) n s = some s9 → (fun s : Bl × Int32 × Int32 × Int64 × Int32 => Go Γ 0 0 (bW Γ.d 3 FK3 a s.1) 28 [(0, .ref (a 0)), (1, .int v1), (2, .int v2), (3, .int s.2.1), (4, .int s.2.2.1), (5, .long s.2.2.2.1), (7, .int v7), (8, .int s.2.2.2.2)] []) s := by
  refine loop_walk (P := fun s : Bl × Int32 × Int32 × Int64 × Int32 => Go Γ 0 0 (bW Γ.d 3 FK3 a s.1) 28 [(0, .ref (a 0)), (1, .int v1), (2, .int v2), (3, .int s.2.1), (4, .int s.2.2.1), (5, .long s.2.2.2.1), (7, .int v7), (8, .int s.2.2.2.2)] []) ?_
  intro K28 hK28 s h
  obtain ⟨s0, v3, v4, v5, v8⟩ := s
  dsimp only [g3_tiesBy_28] at h
  show Go Γ 0 0 (bW Γ.d 3 FK3 a s0) 28 [(0, .ref (a 0)), (1, .int v1), (2, .int v2), (3, .int v3), (4, .int v4), (5, .long v5), (7, .int v7), (8, .int v8)] []
  refine go_iload (pc := 28) C dX3_tiesBy_28 7 rfl ?_
  refine go_aload_n (pc := 30) C dX3_tiesBy_30 rfl 0 rfl ?_
  refine x3gr_1 (pc := 31) C dX3_tiesBy_31 ?_
  refine go_iconst (pc := 34) (v := (3 : Int32)) C dX3_tiesBy_34 (by decide) ?_
  refine go_ialdK (pc := 35) (j := 3) C x3aA_1 (by decide) (by decide) dX3_tiesBy_35 ?_
  refine go_icmp_ge (pc := 36) (tgt := 91) C dX3_tiesBy_36 (by decide) h (fun h => ?_) (fun h => ?_)
  · refine go_iinc (pc := 91) (v := (v7 + (1 : Int32))) C hN dX3_tiesBy_91 (q := 6) rfl rfl (by decide) rfl ?_
    refine go_goto (pc := 94) (tgt := 11) C dX3_tiesBy_94 (by decide) ?_
    refine go_sub [1, 2, 3, 4, 5, 6, 0] rfl ?_
    exact hK11 (s0, v3, v4, v5, (v7 + (1 : Int32))) h
  · refine go_aload_n (pc := 39) C dX3_tiesBy_39 rfl 0 rfl ?_
    refine go_iload (pc := 40) C dX3_tiesBy_40 6 rfl ?_
    refine go_iload (pc := 42) C dX3_tiesBy_42 7 rfl ?_
    refine go_iload_n (pc := 44) C dX3_tiesBy_44 rfl 2 rfl ?_
    obtain ⟨r2, e2, h⟩ := bnd_some h
    refine go_callVi (pc := 45) C [.int v7, .int v8, .int v2] (m3_canBind e2) q1807 q1809 qs110 q144 q1810 x3pd_canBind (by decide) (by decide) bW_O x3c rfl (Nat.le_of_ble_eq_true rfl) ⟨Nat.zero_le _, Nat.zero_le _⟩ dX3_tiesBy_45 rfl ?_
    refine go_if_eq (pc := 48) (tgt := 85) C dX3_tiesBy_48 (by decide) h (fun h => ?_) (fun h => ?_)
    · refine go_iinc (pc := 85) (v := (v8 + (1 : Int32))) C hN dX3_tiesBy_85 (q := 7) rfl rfl (by decide) rfl ?_
      refine go_goto (pc := 88) (tgt := 28) C dX3_tiesBy_88 (by decide) ?_
      refine go_sub [1, 2, 3, 4, 5, 6, 7, 0] rfl ?_
      exact hK28 (s0, v3, v4, v5, (v8 + (1 : Int32))) h
    · refine go_aload_n (pc := 51) C dX3_tiesBy_51 rfl 0 rfl ?_
      refine go_iload (pc := 52) C dX3_tiesBy_52 6 rfl ?_
      refine go_iload (pc := 54) C dX3_tiesBy_54 7 rfl ?_
      obtain ⟨s3, e3, h⟩ := bnd_some h
      refine go_callVv (pc := 56) C [.int v7, .int v8] (m3_asks e3) q1844 q1846 qs115 q144 q1847 x3pd_asks (by decide) (by decide) bW_O x3c rfl (Nat.le_of_ble_eq_true rfl) ⟨Nat.zero_le _, Nat.zero_le _⟩ dX3_tiesBy_56 rfl ?_
      refine go_aload_n (pc := 59) C dX3_tiesBy_59 rfl 0 rfl ?_
      refine go_iload_n (pc := 60) C dX3_tiesBy_60 rfl 1 rfl ?_
      obtain ⟨r4, s4, e4, h⟩ := bnd2_some h
      refine go_callVl (pc := 61) C [.int v1] (m3_wanted e4) q1848 q1850 qs116 q144 q1851 x3pd_wanted (by decide) (by decide) bW_O x3c rfl (Nat.le_of_ble_eq_true rfl) ⟨Nat.zero_le _, Nat.zero_le _⟩ dX3_tiesBy_61 rfl ?_
      refine go_lstore (pc := 64) C hN dX3_tiesBy_64 (by decide) rfl ?_
      refine go_lload (pc := 66) C dX3_tiesBy_66 0 rfl ?_
      refine go_lload (pc := 68) C dX3_tiesBy_68 6 rfl ?_
      refine go_lcmp (pc := 70) C dX3_tiesBy_70 ?_
      refine go_if_le (pc := 71) (tgt := 85) C dX3_tiesBy_71 (by decide) h (fun h => ?_) (fun h => ?_)
      · refine go_iinc (pc := 85) (v := (v8 + (1 : Int32))) C hN dX3_tiesBy_85 (q := 8) rfl rfl (by decide) rfl ?_
        refine go_goto (pc := 88) (tgt := 28) C dX3_tiesBy_88 (by decide) ?_
        refine go_sub [2, 3, 4, 5, 6, 7, 8, 0] rfl ?_
        exact hK28 (s4, v3, v4, v5, (v8 + (1 : Int32))) h
      · refine go_lload (pc := 74) C dX3_tiesBy_74 0 rfl ?_
        refine go_lstore (pc := 76) C hN dX3_tiesBy_76 (by decide) rfl ?_
        refine go_iload (pc := 78) C dX3_tiesBy_78 7 rfl ?_
        refine go_istore_n (pc := 80) C hN dX3_tiesBy_80 rfl (by decide) rfl ?_
        refine go_iload (pc := 81) C dX3_tiesBy_81 8 rfl ?_
        refine go_istore (pc := 83) C hN dX3_tiesBy_83 (by decide) rfl ?_
        refine go_iinc (pc := 85) (v := (v8 + (1 : Int32))) C hN dX3_tiesBy_85 (q := 8) rfl rfl (by decide) rfl ?_
        refine go_goto (pc := 88) (tgt := 28) C dX3_tiesBy_88 (by decide) ?_
        refine go_sub [5, 6, 7, 2, 1, 3, 8, 0] rfl ?_
        exact hK28 (s4, v7, v8, r4, (v8 + (1 : Int32))) h
theorem w3_tiesBy_11 {Γ : Gam} {a : Nat → Nat} {v1 : Int32} {v2 : Int32} {s9 : Bl} (hN : Γ.nL = 11) (C : Cx Γ cX3_tiesBy RX3 (4, 0, 0) 94) (hE : Rets Γ cX3_tiesBy none 0 0 (fun v w => v = none ∧ w = (bW Γ.d 3 FK3 a s9))) : ∀ (n : Nat) (s : Bl × Int32 × Int32 × Int64 × Int32), loop (g3_tiesBy_11 v1 v2) n s = some s9 → (fun s : Bl × Int32 × Int32 × Int64 × Int32 => Go Γ 0 0 (bW Γ.d 3 FK3 a s.1) 11 [(0, .ref (a 0)), (1, .int v1), (2, .int v2), (3, .int s.2.1), (4, .int s.2.2.1), (5, .long s.2.2.2.1), (7, .int s.2.2.2.2)] []) s := by
  refine loop_walk (P := fun s : Bl × Int32 × Int32 × Int64 × Int32 => Go Γ 0 0 (bW Γ.d 3 FK3 a s.1) 11 [(0, .ref (a 0)), (1, .int v1), (2, .int v2), (3, .int s.2.1), (4, .int s.2.2.1), (5, .long s.2.2.2.1), (7, .int s.2.2.2.2)] []) ?_
  intro K11 hK11 s h
  obtain ⟨s0, v3, v4, v5, v7⟩ := s
  dsimp only [g3_tiesBy_11] at h
  show Go Γ 0 0 (bW Γ.d 3 FK3 a s0) 11 [(0, .ref (a 0)), (1, .int v1), (2, .int v2), (3, .int v3), (4, .int v4), (5, .long v5), (7, .int v7)] []
  refine go_iload (pc := 11) C dX3_tiesBy_11 6 rfl ?_
  refine go_aload_n (pc := 13) C dX3_tiesBy_13 rfl 0 rfl ?_
  refine x3gr_1 (pc := 14) C dX3_tiesBy_14 ?_
  refine go_iconst (pc := 17) (v := (3 : Int32)) C dX3_tiesBy_17 (by decide) ?_
  refine go_ialdK (pc := 18) (j := 3) C x3aA_1 (by decide) (by decide) dX3_tiesBy_18 ?_
  refine go_icmp_ge (pc := 19) (tgt := 97) C dX3_tiesBy_19 (by decide) h (fun h => ?_) (fun h => ?_)
  · refine go_iload_n (pc := 97) C dX3_tiesBy_97 rfl 3 rfl ?_
    refine go_iconst (pc := 98) (v := (-1 : Int32)) C dX3_tiesBy_98 (by decide) ?_
    refine go_icmp_eq (pc := 99) (tgt := 111) C dX3_tiesBy_99 (by decide) h (fun h => ?_) (fun h => ?_)
    · exact (hE 0 0 _ _ _ (Nat.zero_le _) (Nat.zero_le _)).2.2.2.1 rfl dX3_tiesBy_111 ⟨rfl, congrArg (fun z => bW Γ.d 3 FK3 a z) (some1 h)⟩
    · refine go_aload_n (pc := 102) C dX3_tiesBy_102 rfl 0 rfl ?_
      refine go_iload_n (pc := 103) C dX3_tiesBy_103 rfl 3 rfl ?_
      refine go_iload (pc := 104) C dX3_tiesBy_104 4 rfl ?_
      refine go_iload_n (pc := 106) C dX3_tiesBy_106 rfl 2 rfl ?_
      obtain ⟨r1, s1, e1, h⟩ := bnd2_some h
      refine go_callVi (pc := 107) C [.int v3, .int v4, .int v2] (m3_binds e1) q1816 q1818 qs112 q144 q1819 x3pd_binds (by decide) (by decide) bW_O x3c rfl (Nat.le_of_ble_eq_true rfl) ⟨Nat.zero_le _, Nat.zero_le _⟩ dX3_tiesBy_107 rfl ?_
      refine go_pop (pc := 110) C dX3_tiesBy_110 rfl ?_
      exact (hE 0 0 _ _ _ (Nat.zero_le _) (Nat.zero_le _)).2.2.2.1 rfl dX3_tiesBy_111 ⟨rfl, congrArg (fun z => bW Γ.d 3 FK3 a z) (some1 h)⟩
  · refine go_iload (pc := 22) C dX3_tiesBy_22 6 rfl ?_
    refine go_iconst (pc := 24) (v := (1 : Int32)) C dX3_tiesBy_24 (by decide) ?_
    refine go_iadd (pc := 25) C dX3_tiesBy_25 ?_
    refine go_istore (pc := 26) C hN dX3_tiesBy_26 (by decide) rfl ?_
    refine go_sub [1, 2, 3, 4, 5, 6, 7, 0] rfl ?_
    exact w3_tiesBy_28 hN C hE hK11 FU (s0, v3, v4, v5, (v7 + (1 : Int32))) h
theorem m3_tiesBy {l : Launch} {d : gD} {a : Nat → Nat} {s0 : Bl} {v1 : Int32} {v2 : Int32} {s9 : Bl} (h : f3_tiesBy s0 v1 v2 = some s9) : Mt l d yX3_tiesBy cX3_tiesBy 11 none (4, 0, 0) 94 (bW d 3 FK3 a s0) [.ref (a 0), .int v1, .int v2] (fun v w => v = none ∧ w = (bW d 3 FK3 a s9)) := by
  refine Mt.of x3pn (Nat.le_of_ble_eq_true rfl) ?_
  intro Γ hl hd hN C hE
  subst hl; subst hd
  show Go Γ 0 0 (bW Γ.d 3 FK3 a s0) 0 [(0, .ref (a 0)), (1, .int v1), (2, .int v2)] []
  dsimp only [f3_tiesBy] at h
  refine go_iconst (pc := 0) (v := (-1 : Int32)) C dX3_tiesBy_0 (by decide) ?_
  refine go_istore_n (pc := 1) C hN dX3_tiesBy_1 rfl (by decide) rfl ?_
  refine go_iconst (pc := 2) (v := (-1 : Int32)) C dX3_tiesBy_2 (by decide) ?_
  refine go_istore (pc := 3) C hN dX3_tiesBy_3 (by decide) rfl ?_
  refine go_lconst (pc := 5) (v := (0 : Int64)) C dX3_tiesBy_5 (by decide) ?_
  refine go_lstore (pc := 6) C hN dX3_tiesBy_6 (by decide) rfl ?_
  refine go_iconst (pc := 8) (v := (0 : Int32)) C dX3_tiesBy_8 (by decide) ?_
  refine go_istore (pc := 9) C hN dX3_tiesBy_9 (by decide) rfl ?_
  refine go_sub [4, 5, 6, 3, 2, 1, 0] rfl ?_
  exact w3_tiesBy_11 hN C hE FU (s0, (-1 : Int32), (-1 : Int32), (0 : Int64), (0 : Int32)) h
theorem w3_run_54 {Γ : Gam} {a : Nat → Nat} {v1 : Int32} {v2 : Int32} {v3 : Int32} {r9 : Int32} {s9 : Bl} (hN : Γ.nL = 6) (C : Cx Γ cX3_run RX3 (8, 0, 0) 195) (hE : Rets Γ cX3_run (some .int) 0 0 (fun v w => v = some (.int r9) ∧ w = (bW Γ.d 3 FK3 a s9))) : ∀ (n : Nat) (s : Bl × Int32 × Int32), loop (g3_run_54 v1 v2 v3) n s = some (r9, s9) → (fun s : Bl × Int32 × Int32 => Go Γ 0 0 (bW Γ.d 3 FK3 a s.1) 54 [(0, .ref (a 0)), (1, .int v1), (2, .int v2), (3, .int v3), (4, .int s.2.1), (5, .int s.2.2)] []) s := by
  refine loop_walk (P := fun s : Bl × Int32 × Int32 => Go Γ 0 0 (bW Γ.d 3 FK3 a s.1) 54 [(0, .ref (a 0)), (1, .int v1), (2, .int v2), (3, .int v3), (4, .int s.2.1), (5, .int s.2.2)] []) ?_
  intro K54 hK54 s h
  obtain ⟨s0, v4, v5⟩ := s
  dsimp only [g3_run_54] at h
  show Go Γ 0 0 (bW Γ.d 3 FK3 a s0) 54 [(0, .ref (a 0)), (1, .int v1), (2, .int v2), (3, .int v3), (4, .int v4), (5, .int v5)] []
  refine go_iload (pc := 54) C dX3_run_54 5 rfl ?_
  refine go_iload_n (pc := 56) C dX3_run_56 rfl 2 rfl ?_
  refine go_icmp_ge (pc := 57) (tgt := 81) C dX3_run_57 (by decide) h (fun h => ?_) (fun h => ?_)
  · refine go_iload (pc := 81) C dX3_run_81 4 rfl ?_
    exact (hE 0 0 _ _ _ (Nat.zero_le _) (Nat.zero_le _)).1 _ rfl dX3_run_83 ⟨congrArg (fun z => some (Value.int z)) (some2 h).1, congrArg (fun z => bW Γ.d 3 FK3 a z) (some2 h).2⟩
  · refine go_aload_n (pc := 60) C dX3_run_60 rfl 0 rfl ?_
    refine go_iload_n (pc := 61) C dX3_run_61 rfl 1 rfl ?_
    refine go_iload_n (pc := 62) C dX3_run_62 rfl 3 rfl ?_
    obtain ⟨s6, e6, h⟩ := bnd_some h
    refine go_callVv (pc := 63) C [.int v1, .int v3] (m3_tiesBy e6) q1840 q1842 qs114 q144 q1843 x3pd_tiesBy (by decide) (by decide) bW_O x3c rfl (Nat.le_of_ble_eq_true rfl) ⟨Nat.zero_le _, Nat.zero_le _⟩ dX3_run_63 rfl ?_
    refine go_iload (pc := 66) C dX3_run_66 4 rfl ?_
    refine go_aload_n (pc := 68) C dX3_run_68 rfl 0 rfl ?_
    obtain ⟨r7, s7, e7, h⟩ := bnd2_some h
    refine go_callVi (pc := 69) C [] (m3_goesMile e7) q1776 q1778 qs104 q144 q1779 x3pd_goesMile (by decide) (by decide) bW_O x3c rfl (Nat.le_of_ble_eq_true rfl) ⟨Nat.zero_le _, Nat.zero_le _⟩ dX3_run_69 rfl ?_
    refine go_iadd (pc := 72) C dX3_run_72 ?_
    refine go_istore (pc := 73) C hN dX3_run_73 (by decide) rfl ?_
    refine go_iinc (pc := 75) (v := (v5 + (1 : Int32))) C hN dX3_run_75 (q := 5) rfl rfl (by decide) rfl ?_
    refine go_goto (pc := 78) (tgt := 54) C dX3_run_78 (by decide) ?_
    refine go_sub [2, 3, 4, 5, 1, 0] rfl ?_
    exact hK54 (s7, (v4 + r7), (v5 + (1 : Int32))) h
theorem m3_run {l : Launch} {d : gD} {a : Nat → Nat} {s0 : Bl} {v1 : Int32} {v2 : Int32} {v3 : Int32} {r9 : Int32} {s9 : Bl} (h : f3_run s0 v1 v2 v3 = some (r9, s9)) : Mt l d yX3_run cX3_run 6 (some .int) (8, 0, 0) 195 (bW d 3 FK3 a s0) [.ref (a 0), .int v1, .int v2, .int v3] (fun v w => v = some (.int r9) ∧ w = (bW d 3 FK3 a s9)) := by
  refine Mt.of x3pn (Nat.le_of_ble_eq_true rfl) ?_
  intro Γ hl hd hN C hE
  subst hl; subst hd
  show Go Γ 0 0 (bW Γ.d 3 FK3 a s0) 0 [(0, .ref (a 0)), (1, .int v1), (2, .int v2), (3, .int v3)] []
  dsimp only [f3_run] at h
  refine go_aload_n (pc := 0) C dX3_run_0 rfl 0 rfl ?_
  obtain ⟨r1, e1, h⟩ := bnd_some h
  refine go_callVi (pc := 1) C [] (m3_isRiver e1) q1716 q1718 qs92 q144 q1719 x3pd_isRiver (by decide) (by decide) bW_O x3c rfl (Nat.le_of_ble_eq_true rfl) ⟨Nat.zero_le _, Nat.zero_le _⟩ dX3_run_1 rfl ?_
  refine go_if_eq (pc := 4) (tgt := 41) C dX3_run_4 (by decide) h (fun h => ?_) (fun h => ?_)
  · refine go_iconst (pc := 41) (v := (-1 : Int32)) C dX3_run_41 (by decide) ?_
    exact (hE 0 0 _ _ _ (Nat.zero_le _) (Nat.zero_le _)).1 _ rfl dX3_run_42 ⟨congrArg (fun z => some (Value.int z)) (some2 h).1, congrArg (fun z => bW Γ.d 3 FK3 a z) (some2 h).2⟩
  · refine go_aload_n (pc := 7) C dX3_run_7 rfl 0 rfl ?_
    refine go_iload_n (pc := 8) C dX3_run_8 rfl 1 rfl ?_
    obtain ⟨r2, e2, h⟩ := bnd_some h
    refine go_callVi (pc := 9) C [.int v1] (m3_isRule e2) q1836 q1838 qs113 q144 q1839 x3pd_isRule (by decide) (by decide) bW_O x3c rfl (Nat.le_of_ble_eq_true rfl) ⟨Nat.zero_le _, Nat.zero_le _⟩ dX3_run_9 rfl ?_
    refine go_if_eq (pc := 12) (tgt := 41) C dX3_run_12 (by decide) h (fun h => ?_) (fun h => ?_)
    · refine go_iconst (pc := 41) (v := (-1 : Int32)) C dX3_run_41 (by decide) ?_
      exact (hE 0 0 _ _ _ (Nat.zero_le _) (Nat.zero_le _)).1 _ rfl dX3_run_42 ⟨congrArg (fun z => some (Value.int z)) (some2 h).1, congrArg (fun z => bW Γ.d 3 FK3 a z) (some2 h).2⟩
    · refine go_iload_n (pc := 15) C dX3_run_15 rfl 2 rfl ?_
      refine go_i2l (pc := 16) C dX3_run_16 ?_
      refine go_lconst (pc := 17) (v := (1 : Int64)) C dX3_run_17 (by decide) ?_
      refine go_aload_n (pc := 18) C dX3_run_18 rfl 0 rfl ?_
      obtain ⟨r3, e3, h⟩ := bnd_some h
      refine go_callVi (pc := 19) C [] (m3_milesLeft e3) q1768 q1770 qs102 q144 q1771 x3pd_milesLeft (by decide) (by decide) bW_O x3c rfl (Nat.le_of_ble_eq_true rfl) ⟨Nat.zero_le _, Nat.zero_le _⟩ dX3_run_19 rfl ?_
      refine go_i2l (pc := 22) C dX3_run_22 ?_
      obtain ⟨r4, e4, h⟩ := bnd_some h
      refine go_callSi (pc := 23) C [.long (v2).toInt64, .long (1 : Int64), .long (r3).toInt64] (m3_in e4) q1564 q1565 q144 q1566 x3pd_in (by decide) (by decide) rfl (Nat.le_of_ble_eq_true rfl) ⟨Nat.zero_le _, Nat.zero_le _⟩ dX3_run_23 rfl ?_
      refine go_if_eq (pc := 26) (tgt := 41) C dX3_run_26 (by decide) h (fun h => ?_) (fun h => ?_)
      · refine go_iconst (pc := 41) (v := (-1 : Int32)) C dX3_run_41 (by decide) ?_
        exact (hE 0 0 _ _ _ (Nat.zero_le _) (Nat.zero_le _)).1 _ rfl dX3_run_42 ⟨congrArg (fun z => some (Value.int z)) (some2 h).1, congrArg (fun z => bW Γ.d 3 FK3 a z) (some2 h).2⟩
      · refine go_iload_n (pc := 29) C dX3_run_29 rfl 3 rfl ?_
        refine go_i2l (pc := 30) C dX3_run_30 ?_
        refine go_lconst (pc := 31) (v := (1 : Int64)) C dX3_run_31 (by decide) ?_
        refine go_ldc2 (pc := 32) C dX3_run_32 q1811 ?_
        obtain ⟨r5, e5, h⟩ := bnd_some h
        refine go_callSi (pc := 35) C [.long (v3).toInt64, .long (1 : Int64), .long (9 : Int64)] (m3_in e5) q1564 q1565 q144 q1566 x3pd_in (by decide) (by decide) rfl (Nat.le_of_ble_eq_true rfl) ⟨Nat.zero_le _, Nat.zero_le _⟩ dX3_run_35 rfl ?_
        refine go_if_ne (pc := 38) (tgt := 43) C dX3_run_38 (by decide) h (fun h => ?_) (fun h => ?_)
        · refine go_aload_n (pc := 43) C dX3_run_43 rfl 0 rfl ?_
          refine go_iconst (pc := 44) (v := (0 : Int32)) C dX3_run_44 (by decide) ?_
          refine x3pi_55 (pc := 45) C dX3_run_45 ?_
          refine go_iconst (pc := 48) (v := (0 : Int32)) C dX3_run_48 (by decide) ?_
          refine go_istore (pc := 49) C hN dX3_run_49 (by decide) rfl ?_
          refine go_iconst (pc := 51) (v := (0 : Int32)) C dX3_run_51 (by decide) ?_
          refine go_istore (pc := 52) C hN dX3_run_52 (by decide) rfl ?_
          refine go_sub [2, 3, 4, 5, 1, 0] rfl ?_
          exact w3_run_54 hN C hE FU ((bI s0 55 (0 : Int32)), (0 : Int32), (0 : Int32)) h
        · refine go_iconst (pc := 41) (v := (-1 : Int32)) C dX3_run_41 (by decide) ?_
          exact (hE 0 0 _ _ _ (Nat.zero_le _) (Nat.zero_le _)).1 _ rfl dX3_run_42 ⟨congrArg (fun z => some (Value.int z)) (some2 h).1, congrArg (fun z => bW Γ.d 3 FK3 a z) (some2 h).2⟩

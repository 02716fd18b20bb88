/-! walks of the Model, printed by gen/model.py -/
set_option maxRecDepth 100000
set_option maxHeartbeats 4000000
theorem w3_findsRows_136 {Γ : Gam} {a : Nat → Nat} {v1 : Int32} {v2 : Int32} {s0 : Bl} {v3 : Int32} {v4 : Int32} {s9 : Bl} {K41 : Bl × Int32 × Int32 → Option Bl} (hN : Γ.nL = 5) (C : Cx Γ cX3_findsRows RX3 (3, 0, 0) 72) (hE : Rets Γ cX3_findsRows none 0 0 (fun v w => v = none ∧ w = (bW Γ.d 3 FK3 a s9)))
    (hK41 : ∀ s, K41 s = some s9 → (fun s : Bl × Int32 × Int32 => Go Γ 0 0 (bW Γ.d 3 FK3 a s.1) 41 [(0, .ref (a 0)), (1, .int v1), (2, .int v2), (3, .int s.2.1), (4, .int s.2.2)] []) s) (h : g3_findsRows_136 K41 s0 v1 v2 v3 v4 = some s9) : Go Γ 0 0 (bW Γ.d 3 FK3 a s0) 136 [(0, .ref (a 0)), (1, .int v1), (2, .int v2), (3, .int v3), (4, .int v4)] [] := by
  dsimp only [g3_findsRows_136] at h
  refine go_aload_n (pc := 136) C dX3_findsRows_136 rfl 0 rfl ?_
  refine x3gr_58 (pc := 137) C dX3_findsRows_137 ?_
  refine go_iload_n (pc := 140) C dX3_findsRows_140 rfl 3 rfl ?_
  refine go_iald (pc := 141) C x3aA_58 h dX3_findsRows_141 (fun h => ?_)
  refine go_bipush (pc := 142) (v := (8 : Int32)) C dX3_findsRows_142 (by decide) ?_
  refine go_icmp_ne (pc := 144) (tgt := 153) C dX3_findsRows_144 (by decide) h (fun h => ?_) (fun h => ?_)
  · refine go_iload_n (pc := 153) C dX3_findsRows_153 rfl 3 rfl ?_
    refine go_iload_n (pc := 154) C dX3_findsRows_154 rfl 2 rfl ?_
    refine go_iconst (pc := 155) (v := (1 : Int32)) C dX3_findsRows_155 (by decide) ?_
    refine go_isub (pc := 156) C dX3_findsRows_156 ?_
    refine go_icmp_ne (pc := 157) (tgt := 168) C dX3_findsRows_157 (by decide) h (fun h => ?_) (fun h => ?_)
    · refine go_iload (pc := 168) C dX3_findsRows_168 4 rfl ?_
      refine go_iconst (pc := 170) (v := (1 : Int32)) C dX3_findsRows_170 (by decide) ?_
      refine go_aload_n (pc := 171) C dX3_findsRows_171 rfl 0 rfl ?_
      refine x3gr_58 (pc := 172) C dX3_findsRows_172 ?_
      refine go_iload_n (pc := 175) C dX3_findsRows_175 rfl 3 rfl ?_
      refine go_iald (pc := 176) C x3aA_58 h dX3_findsRows_176 (fun h => ?_)
      refine go_ishl (pc := 177) C dX3_findsRows_177 ?_
      refine go_ior (pc := 178) C dX3_findsRows_178 ?_
      refine go_istore (pc := 179) C hN dX3_findsRows_179 (by decide) rfl ?_
      refine go_iinc (pc := 181) (v := (v3 + (1 : Int32))) C hN dX3_findsRows_181 (q := 4) rfl rfl (by decide) rfl ?_
      refine go_aload_n (pc := 184) C dX3_findsRows_184 rfl 2 rfl ?_
      refine x3gr_58 (pc := 185) C dX3_findsRows_185 ?_
      refine go_iload_n (pc := 188) C dX3_findsRows_188 rfl 0 rfl ?_
      refine go_iconst (pc := 189) (v := (-1 : Int32)) C dX3_findsRows_189 (by decide) ?_
      refine go_iast (pc := 190) C x3pA_58 h dX3_findsRows_190 (fun h => ?_)
      refine go_goto (pc := 191) (tgt := 41) C dX3_findsRows_191 (by decide) ?_
      refine go_sub [2, 3, 4, 0, 1] rfl ?_
      exact hK41 ((bA s0 58 ((v3 + (1 : Int32))).toNatClampNeg (-1 : Int32)), (v3 + (1 : Int32)), (v4 ||| ((1 : Int32) <<< ((s0.2.1 58 (v3).toNatClampNeg) &&& 31)))) h
    · refine go_aload_n (pc := 160) C dX3_findsRows_160 rfl 0 rfl ?_
      refine go_iload_n (pc := 161) C dX3_findsRows_161 rfl 2 rfl ?_
      obtain ⟨s4, e4, h⟩ := bnd_some h
      refine go_callVv (pc := 162) C [.int v2] (m3_takesRow e4) q1913 q1915 qs126 q144 q1916 x3pd_takesRow (by decide) (by decide) bW_O x3c rfl (Nat.le_of_ble_eq_true rfl) ⟨Nat.zero_le _, Nat.zero_le _⟩ dX3_findsRows_162 rfl ?_
      refine go_goto (pc := 165) (tgt := 41) C dX3_findsRows_165 (by decide) ?_
      exact hK41 (s4, v3, v4) h
  · refine go_iinc (pc := 147) (v := (v3 + (-1 : Int32))) C hN dX3_findsRows_147 (q := 3) rfl rfl (by decide) rfl ?_
    refine go_goto (pc := 150) (tgt := 41) C dX3_findsRows_150 (by decide) ?_
    refine go_sub [1, 2, 3, 0, 4] rfl ?_
    exact hK41 (s0, (v3 + (-1 : Int32)), v4) h
theorem w3_findsRows_85 {Γ : Gam} {a : Nat → Nat} {v1 : Int32} {v2 : Int32} {v3 : Int32} {v4 : Int32} {s9 : Bl} {K41 : Bl × Int32 × Int32 → Option Bl} (hN : Γ.nL = 5) (C : Cx Γ cX3_findsRows RX3 (3, 0, 0) 72) (hE : Rets Γ cX3_findsRows none 0 0 (fun v w => v = none ∧ w = (bW Γ.d 3 FK3 a s9)))
    (hK41 : ∀ s, K41 s = some s9 → (fun s : Bl × Int32 × Int32 => Go Γ 0 0 (bW Γ.d 3 FK3 a s.1) 41 [(0, .ref (a 0)), (1, .int v1), (2, .int v2), (3, .int s.2.1), (4, .int s.2.2)] []) s) : ∀ (n : Nat) (s : Bl), loop (g3_findsRows_85 v1 v2 v3 v4 K41) n s = some s9 → (fun s : Bl => Go Γ 0 0 (bW Γ.d 3 FK3 a s) 85 [(0, .ref (a 0)), (1, .int v1), (2, .int v2), (3, .int v3), (4, .int v4)] []) s := by
  refine loop_walk (P := fun s : Bl => Go Γ 0 0 (bW Γ.d 3 FK3 a s) 85 [(0, .ref (a 0)), (1, .int v1), (2, .int v2), (3, .int v3), (4, .int v4)] []) ?_
  intro K85 hK85 s h
  obtain ⟨s0, rfl⟩ : ∃ z, z = s := ⟨_, rfl⟩
  dsimp only [g3_findsRows_85] at h
  show Go Γ 0 0 (bW Γ.d 3 FK3 a s0) 85 [(0, .ref (a 0)), (1, .int v1), (2, .int v2), (3, .int v3), (4, .int v4)] []
  refine go_aload_n (pc := 85) C dX3_findsRows_85 rfl 0 rfl ?_
  refine x3gr_58 (pc := 86) C dX3_findsRows_86 ?_
  refine go_iload_n (pc := 89) C dX3_findsRows_89 rfl 3 rfl ?_
  refine go_iald (pc := 90) C x3aA_58 h dX3_findsRows_90 (fun h => ?_)
  refine go_bipush (pc := 91) (v := (8 : Int32)) C dX3_findsRows_91 (by decide) ?_
  refine go_icmp_ge (pc := 93) (tgt := 136) C dX3_findsRows_93 (by decide) h (fun h => ?_) (fun h => ?_)
  · exact w3_findsRows_136 hN C hE hK41 h
  · refine go_iload_n (pc := 96) C dX3_findsRows_96 rfl 1 rfl ?_
    refine go_aload_n (pc := 97) C dX3_findsRows_97 rfl 0 rfl ?_
    refine x3gr_58 (pc := 98) C dX3_findsRows_98 ?_
    refine go_iload_n (pc := 101) C dX3_findsRows_101 rfl 3 rfl ?_
    refine go_iald (pc := 102) C x3aA_58 h dX3_findsRows_102 (fun h => ?_)
    obtain ⟨r5, e5, h⟩ := bnd_some h
    refine go_callSi (pc := 103) C [.int v1, .int (s0.2.1 58 (v3).toNatClampNeg)] (m3_has e5) q1682 q1683 q144 q1684 x3pd_has (by decide) (by decide) rfl (Nat.le_of_ble_eq_true rfl) ⟨Nat.zero_le _, Nat.zero_le _⟩ dX3_findsRows_103 rfl ?_
    refine go_if_eq (pc := 106) (tgt := 123) C dX3_findsRows_106 (by decide) h (fun h => ?_) (fun h => ?_)
    · refine go_aload_n (pc := 123) C dX3_findsRows_123 rfl 0 rfl ?_
      refine x3gr_58 (pc := 124) C dX3_findsRows_124 ?_
      refine go_iload_n (pc := 127) C dX3_findsRows_127 rfl 3 rfl ?_
      refine go_dup2 (pc := 128) C dX3_findsRows_128 rfl rfl ?_
      refine go_iald (pc := 129) C x3aA_58 h dX3_findsRows_129 (fun h => ?_)
      refine go_iconst (pc := 130) (v := (1 : Int32)) C dX3_findsRows_130 (by decide) ?_
      refine go_iadd (pc := 131) C dX3_findsRows_131 ?_
      refine go_iast (pc := 132) C x3pA_58 h dX3_findsRows_132 (fun h => ?_)
      refine go_goto (pc := 133) (tgt := 85) C dX3_findsRows_133 (by decide) ?_
      exact hK85 (bA s0 58 (v3).toNatClampNeg ((s0.2.1 58 (v3).toNatClampNeg) + (1 : Int32))) h
    · refine go_iload (pc := 109) C dX3_findsRows_109 4 rfl ?_
      refine go_aload_n (pc := 111) C dX3_findsRows_111 rfl 0 rfl ?_
      refine x3gr_58 (pc := 112) C dX3_findsRows_112 ?_
      refine go_iload_n (pc := 115) C dX3_findsRows_115 rfl 3 rfl ?_
      refine go_iald (pc := 116) C x3aA_58 h dX3_findsRows_116 (fun h => ?_)
      obtain ⟨r6, e6, h⟩ := bnd_some h
      refine go_callSi (pc := 117) C [.int v4, .int (s0.2.1 58 (v3).toNatClampNeg)] (m3_has e6) q1682 q1683 q144 q1684 x3pd_has (by decide) (by decide) rfl (Nat.le_of_ble_eq_true rfl) ⟨Nat.zero_le _, Nat.zero_le _⟩ dX3_findsRows_117 rfl ?_
      refine go_if_eq (pc := 120) (tgt := 136) C dX3_findsRows_120 (by decide) h (fun h => ?_) (fun h => ?_)
      · exact w3_findsRows_136 hN C hE hK41 h
      · refine go_aload_n (pc := 123) C dX3_findsRows_123 rfl 0 rfl ?_
        refine x3gr_58 (pc := 124) C dX3_findsRows_124 ?_
        refine go_iload_n (pc := 127) C dX3_findsRows_127 rfl 3 rfl ?_
        refine go_dup2 (pc := 128) C dX3_findsRows_128 rfl rfl ?_
        refine go_iald (pc := 129) C x3aA_58 h dX3_findsRows_129 (fun h => ?_)
        refine go_iconst (pc := 130) (v := (1 : Int32)) C dX3_findsRows_130 (by decide) ?_
        refine go_iadd (pc := 131) C dX3_findsRows_131 ?_
        refine go_iast (pc := 132) C x3pA_58 h dX3_findsRows_132 (fun h => ?_)
        refine go_goto (pc := 133) (tgt := 85) C dX3_findsRows_133 (by decide) ?_
        exact hK85 (bA s0 58 (v3).toNatClampNeg ((s0.2.1 58 (v3).toNatClampNeg) + (1 : Int32))) h
theorem w3_findsRows_41 {Γ : Gam} {a : Nat → Nat} {v1 : Int32} {v2 : Int32} {s9 : Bl} (hN : Γ.nL = 5) (C : Cx Γ cX3_findsRows RX3 (3, 0, 0) 72) (hE : Rets Γ cX3_findsRows none 0 0 (fun v w => v = none ∧ w = (bW Γ.d 3 FK3 a s9))) : ∀ (n : Nat) (s : Bl × Int32 × Int32), loop (g3_findsRows_41 v1 v2) n s = some s9 → (fun s : Bl × Int32 × Int32 => Go Γ 0 0 (bW Γ.d 3 FK3 a s.1) 41 [(0, .ref (a 0)), (1, .int v1), (2, .int v2), (3, .int s.2.1), (4, .int s.2.2)] []) s := by
  refine loop_walk (P := fun s : Bl × Int32 × Int32 => Go Γ 0 0 (bW Γ.d 3 FK3 a s.1) 41 [(0, .ref (a 0)), (1, .int v1), (2, .int v2), (3, .int s.2.1), (4, .int s.2.2)] []) ?_
  intro K41 hK41 s h
  obtain ⟨s0, v3, v4⟩ := s
  dsimp only [g3_findsRows_41] at h
  show Go Γ 0 0 (bW Γ.d 3 FK3 a s0) 41 [(0, .ref (a 0)), (1, .int v1), (2, .int v2), (3, .int v3), (4, .int v4)] []
  refine go_iload_n (pc := 41) C dX3_findsRows_41 rfl 3 rfl ?_
  refine go_if_lt (pc := 42) (tgt := 194) C dX3_findsRows_42 (by decide) h (fun h => ?_) (fun h => ?_)
  · exact (hE 0 0 _ _ _ (Nat.zero_le _) (Nat.zero_le _)).2.2.2.1 rfl dX3_findsRows_194 ⟨rfl, congrArg (fun z => bW Γ.d 3 FK3 a z) (some1 h)⟩
  · refine go_aload_n (pc := 45) C dX3_findsRows_45 rfl 0 rfl ?_
    refine x3gr_58 (pc := 46) C dX3_findsRows_46 ?_
    refine go_iload_n (pc := 49) C dX3_findsRows_49 rfl 3 rfl ?_
    refine go_iald (pc := 50) C x3aA_58 h dX3_findsRows_50 (fun h => ?_)
    refine go_iconst (pc := 51) (v := (-1 : Int32)) C dX3_findsRows_51 (by decide) ?_
    refine go_icmp_ne (pc := 52) (tgt := 60) C dX3_findsRows_52 (by decide) h (fun h => ?_) (fun h => ?_)
    · refine go_iload (pc := 60) C dX3_findsRows_60 4 rfl ?_
      refine go_iconst (pc := 62) (v := (1 : Int32)) C dX3_findsRows_62 (by decide) ?_
      refine go_aload_n (pc := 63) C dX3_findsRows_63 rfl 0 rfl ?_
      refine x3gr_58 (pc := 64) C dX3_findsRows_64 ?_
      refine go_iload_n (pc := 67) C dX3_findsRows_67 rfl 3 rfl ?_
      refine go_iald (pc := 68) C x3aA_58 h dX3_findsRows_68 (fun h => ?_)
      refine go_ishl (pc := 69) C dX3_findsRows_69 ?_
      refine go_iconst (pc := 70) (v := (-1 : Int32)) C dX3_findsRows_70 (by decide) ?_
      refine go_ixor (pc := 71) C dX3_findsRows_71 ?_
      refine go_iand (pc := 72) C dX3_findsRows_72 ?_
      refine go_topi (pc := 73) (fun y3 ey3 => ?_)
      have h := ltv_eq ey3 h
      refine go_istore (pc := 73) C hN dX3_findsRows_73 (by decide) rfl ?_
      refine go_aload_n (pc := 75) C dX3_findsRows_75 rfl 1 rfl ?_
      refine x3gr_58 (pc := 76) C dX3_findsRows_76 ?_
      refine go_iload_n (pc := 79) C dX3_findsRows_79 rfl 4 rfl ?_
      refine go_dup2 (pc := 80) C dX3_findsRows_80 rfl rfl ?_
      refine go_iald (pc := 81) C x3aA_58 h dX3_findsRows_81 (fun h => ?_)
      refine go_iconst (pc := 82) (v := (1 : Int32)) C dX3_findsRows_82 (by decide) ?_
      refine go_iadd (pc := 83) C dX3_findsRows_83 ?_
      refine go_iast (pc := 84) C x3pA_58 h dX3_findsRows_84 (fun h => ?_)
      refine go_sub [1, 2, 3, 4, 0] rfl ?_
      exact w3_findsRows_85 hN C hE hK41 FU (bA s0 58 (v3).toNatClampNeg ((s0.2.1 58 (v3).toNatClampNeg) + (1 : Int32))) h
    · refine go_iload (pc := 55) C dX3_findsRows_55 4 rfl ?_
      refine go_goto (pc := 57) (tgt := 73) C dX3_findsRows_57 (by decide) ?_
      refine go_istore (pc := 73) C hN dX3_findsRows_73 (by decide) rfl ?_
      refine go_aload_n (pc := 75) C dX3_findsRows_75 rfl 1 rfl ?_
      refine x3gr_58 (pc := 76) C dX3_findsRows_76 ?_
      refine go_iload_n (pc := 79) C dX3_findsRows_79 rfl 4 rfl ?_
      refine go_dup2 (pc := 80) C dX3_findsRows_80 rfl rfl ?_
      refine go_iald (pc := 81) C x3aA_58 h dX3_findsRows_81 (fun h => ?_)
      refine go_iconst (pc := 82) (v := (1 : Int32)) C dX3_findsRows_82 (by decide) ?_
      refine go_iadd (pc := 83) C dX3_findsRows_83 ?_
      refine go_iast (pc := 84) C x3pA_58 h dX3_findsRows_84 (fun h => ?_)
      refine go_sub [1, 2, 3, 4, 0] rfl ?_
      exact w3_findsRows_85 hN C hE hK41 FU (bA s0 58 (v3).toNatClampNeg ((s0.2.1 58 (v3).toNatClampNeg) + (1 : Int32))) h
theorem m3_findsRows {l : Launch} {d : gD} {a : Nat → Nat} {s0 : Bl} {v1 : Int32} {s9 : Bl} (h : f3_findsRows s0 v1 = some s9) : Mt l d yX3_findsRows cX3_findsRows 5 none (3, 0, 0) 72 (bW d 3 FK3 a s0) [.ref (a 0), .int v1] (fun v w => v = none ∧ w = (bW d 3 FK3 a s9)) := by
  refine Mt.of x3pn (Nat.le_of_ble_eq_true rfl) ?_
  intro Γ hl hd hN C hE
  subst hl; subst hd
  show Go Γ 0 0 (bW Γ.d 3 FK3 a s0) 0 [(0, .ref (a 0)), (1, .int v1)] []
  dsimp only [f3_findsRows] at h
  refine go_aload_n (pc := 0) C dX3_findsRows_0 rfl 0 rfl ?_
  refine go_iconst (pc := 1) (v := (0 : Int32)) C dX3_findsRows_1 (by decide) ?_
  refine x3pi_62 (pc := 2) C dX3_findsRows_2 ?_
  refine go_iload_n (pc := 5) C dX3_findsRows_5 rfl 1 rfl ?_
  obtain ⟨r1, e1, h⟩ := bnd_some h
  refine go_callSi (pc := 6) C [.int v1] (m3_bits e1) q1796 q1797 q144 q1798 x3pd_bits (by decide) (by decide) rfl (Nat.le_of_ble_eq_true rfl) ⟨Nat.zero_le _, Nat.zero_le _⟩ dX3_findsRows_6 rfl ?_
  refine go_istore_n (pc := 9) C hN dX3_findsRows_9 rfl (by decide) rfl ?_
  refine go_aload_n (pc := 10) C dX3_findsRows_10 rfl 1 rfl ?_
  refine go_iload_n (pc := 11) C dX3_findsRows_11 rfl 2 rfl ?_
  obtain ⟨r2, s2, e2, h⟩ := bnd2_some h
  refine go_callVi (pc := 12) C [.int v1] (m3_laysLater e2) q1909 q1911 qs125 q144 q1912 x3pd_laysLater (by decide) (by decide) bW_O x3c rfl (Nat.le_of_ble_eq_true rfl) ⟨Nat.zero_le _, Nat.zero_le _⟩ dX3_findsRows_12 rfl ?_
  refine go_if_ne (pc := 15) (tgt := 19) C dX3_findsRows_15 (by decide) h (fun h => ?_) (fun h => ?_)
  · refine go_iload_n (pc := 19) C dX3_findsRows_19 rfl 0 rfl ?_
    refine go_if_ne (pc := 20) (tgt := 29) C dX3_findsRows_20 (by decide) h (fun h => ?_) (fun h => ?_)
    · refine go_iconst (pc := 29) (v := (0 : Int32)) C dX3_findsRows_29 (by decide) ?_
      refine go_istore_n (pc := 30) C hN dX3_findsRows_30 rfl (by decide) rfl ?_
      refine go_iconst (pc := 31) (v := (0 : Int32)) C dX3_findsRows_31 (by decide) ?_
      refine go_istore (pc := 32) C hN dX3_findsRows_32 (by decide) rfl ?_
      refine go_aload_n (pc := 34) C dX3_findsRows_34 rfl 3 rfl ?_
      refine x3gr_58 (pc := 35) C dX3_findsRows_35 ?_
      refine go_iconst (pc := 38) (v := (0 : Int32)) C dX3_findsRows_38 (by decide) ?_
      refine go_iconst (pc := 39) (v := (-1 : Int32)) C dX3_findsRows_39 (by decide) ?_
      refine go_iastK (pc := 40) (j := 0) C x3pA_58 (by decide) (by decide) dX3_findsRows_40 ?_
      refine go_sub [3, 4, 2, 1, 0] rfl ?_
      exact w3_findsRows_41 hN C hE FU ((bA s2 58 0 (-1 : Int32)), (0 : Int32), (0 : Int32)) h
    · refine go_aload_n (pc := 23) C dX3_findsRows_23 rfl 1 rfl ?_
      refine go_iconst (pc := 24) (v := (1 : Int32)) C dX3_findsRows_24 (by decide) ?_
      refine x3pi_62 (pc := 25) C dX3_findsRows_25 ?_
      exact (hE 0 0 _ _ _ (Nat.zero_le _) (Nat.zero_le _)).2.2.2.1 rfl dX3_findsRows_28 ⟨rfl, congrArg (fun z => bW Γ.d 3 FK3 a z) (some1 h)⟩
  · exact (hE 0 0 _ _ _ (Nat.zero_le _) (Nat.zero_le _)).2.2.2.1 rfl dX3_findsRows_18 ⟨rfl, congrArg (fun z => bW Γ.d 3 FK3 a z) (some1 h)⟩
theorem m3_plan {l : Launch} {d : gD} {a : Nat → Nat} {s0 : Bl} {v1 : Int32} {r9 : Int32} {s9 : Bl} (h : f3_plan s0 v1 = some (r9, s9)) : Mt l d yX3_plan cX3_plan 3 (some .int) (4, 0, 0) 96 (bW d 3 FK3 a s0) [.ref (a 0), .int v1] (fun v w => v = some (.int r9) ∧ w = (bW d 3 FK3 a s9)) := by
  refine Mt.of x3pn (Nat.le_of_ble_eq_true rfl) ?_
  intro Γ hl hd hN C hE
  subst hl; subst hd
  show Go Γ 0 0 (bW Γ.d 3 FK3 a s0) 0 [(0, .ref (a 0)), (1, .int v1)] []
  dsimp only [f3_plan] at h
  refine go_aload_n (pc := 0) C dX3_plan_0 rfl 0 rfl ?_
  obtain ⟨r1, e1, h⟩ := bnd_some h
  refine go_callVi (pc := 1) C [] (m3_isRiver e1) q1716 q1718 qs92 q144 q1719 x3pd_isRiver (by decide) (by decide) bW_O x3c rfl (Nat.le_of_ble_eq_true rfl) ⟨Nat.zero_le _, Nat.zero_le _⟩ dX3_plan_1 rfl ?_
  refine go_if_eq (pc := 4) (tgt := 21) C dX3_plan_4 (by decide) h (fun h => ?_) (fun h => ?_)
  · refine go_bipush (pc := 21) (v := (-4 : Int32)) C dX3_plan_21 (by decide) ?_
    exact (hE 0 0 _ _ _ (Nat.zero_le _) (Nat.zero_le _)).1 _ rfl dX3_plan_23 ⟨congrArg (fun z => some (Value.int z)) (some2 h).1, congrArg (fun z => bW Γ.d 3 FK3 a z) (some2 h).2⟩
  · refine go_iload_n (pc := 7) C dX3_plan_7 rfl 1 rfl ?_
    refine go_i2l (pc := 8) C dX3_plan_8 ?_
    refine go_ldc2 (pc := 9) C dX3_plan_9 q1903 ?_
    refine go_ldc2 (pc := 12) C dX3_plan_12 q1904 ?_
    obtain ⟨r2, e2, h⟩ := bnd_some h
    refine go_callSi (pc := 15) C [.long (v1).toInt64, .long (-1 : Int64), .long (6 : Int64)] (m3_in e2) q1564 q1565 q144 q1566 x3pd_in (by decide) (by decide) rfl (Nat.le_of_ble_eq_true rfl) ⟨Nat.zero_le _, Nat.zero_le _⟩ dX3_plan_15 rfl ?_
    refine go_if_ne (pc := 18) (tgt := 24) C dX3_plan_18 (by decide) h (fun h => ?_) (fun h => ?_)
    · refine go_aload_n (pc := 24) C dX3_plan_24 rfl 0 rfl ?_
      obtain ⟨r3, e3, h⟩ := bnd_some h
      refine go_callVi (pc := 25) C [] (m3_afloat e3) q1678 q1680 qs87 q144 q1681 x3pd_afloat (by decide) (by decide) bW_O x3c rfl (Nat.le_of_ble_eq_true rfl) ⟨Nat.zero_le _, Nat.zero_le _⟩ dX3_plan_25 rfl ?_
      refine go_istore_n (pc := 28) C hN dX3_plan_28 rfl (by decide) rfl ?_
      refine go_iload_n (pc := 29) C dX3_plan_29 rfl 0 rfl ?_
      obtain ⟨r4, e4, h⟩ := bnd_some h
      refine go_callSi (pc := 30) C [.int r3] (m3_bits e4) q1796 q1797 q144 q1798 x3pd_bits (by decide) (by decide) rfl (Nat.le_of_ble_eq_true rfl) ⟨Nat.zero_le _, Nat.zero_le _⟩ dX3_plan_30 rfl ?_
      refine go_bipush (pc := 33) (v := (7 : Int32)) C dX3_plan_33 (by decide) ?_
      refine go_icmp_le (pc := 35) (tgt := 41) C dX3_plan_35 (by decide) h (fun h => ?_) (fun h => ?_)
      · refine go_aload_n (pc := 41) C dX3_plan_41 rfl 1 rfl ?_
        refine go_iload_n (pc := 42) C dX3_plan_42 rfl 0 rfl ?_
        obtain ⟨s5, e5, h⟩ := bnd_some h
        refine go_callVv (pc := 43) C [.int r3] (m3_findsRows e5) q1905 q1907 qs124 q144 q1908 x3pd_findsRows (by decide) (by decide) bW_O x3c rfl (Nat.le_of_ble_eq_true rfl) ⟨Nat.zero_le _, Nat.zero_le _⟩ dX3_plan_43 rfl ?_
        refine go_iload_n (pc := 46) C dX3_plan_46 rfl 2 rfl ?_
        refine go_iconst (pc := 47) (v := (-1 : Int32)) C dX3_plan_47 (by decide) ?_
        refine go_icmp_ne (pc := 48) (tgt := 56) C dX3_plan_48 (by decide) h (fun h => ?_) (fun h => ?_)
        · refine go_aload_n (pc := 56) C dX3_plan_56 rfl 1 rfl ?_
          refine x3gi_62 (pc := 57) C dX3_plan_57 ?_
          refine go_if_eq (pc := 60) (tgt := 71) C dX3_plan_60 (by decide) h (fun h => ?_) (fun h => ?_)
          · refine go_bipush (pc := 71) (v := (-2 : Int32)) C dX3_plan_71 (by decide) ?_
            refine go_goto (pc := 73) (tgt := 82) C dX3_plan_73 (by decide) ?_
            exact (hE 0 0 _ _ _ (Nat.zero_le _) (Nat.zero_le _)).1 _ rfl dX3_plan_82 ⟨congrArg (fun z => some (Value.int z)) (some2 h).1, congrArg (fun z => bW Γ.d 3 FK3 a z) (some2 h).2⟩
          · refine go_iload_n (pc := 63) C dX3_plan_63 rfl 2 rfl ?_
            refine go_iload_n (pc := 64) C dX3_plan_64 rfl 0 rfl ?_
            obtain ⟨r6, e6, h⟩ := bnd_some h
            refine go_callSi (pc := 65) C [.int r3] (m3_bits e6) q1796 q1797 q144 q1798 x3pd_bits (by decide) (by decide) rfl (Nat.le_of_ble_eq_true rfl) ⟨Nat.zero_le _, Nat.zero_le _⟩ dX3_plan_65 rfl ?_
            refine go_icmp_lt (pc := 68) (tgt := 76) C dX3_plan_68 (by decide) h (fun h => ?_) (fun h => ?_)
            · refine go_aload_n (pc := 76) C dX3_plan_76 rfl 1 rfl ?_
              refine x3gr_59 (pc := 77) C dX3_plan_77 ?_
              refine go_iload_n (pc := 80) C dX3_plan_80 rfl 2 rfl ?_
              refine go_iald (pc := 81) C x3aA_59 h dX3_plan_81 (fun h => ?_)
              exact (hE 0 0 _ _ _ (Nat.zero_le _) (Nat.zero_le _)).1 _ rfl dX3_plan_82 ⟨congrArg (fun z => some (Value.int z)) (some2 h).1, congrArg (fun z => bW Γ.d 3 FK3 a z) (some2 h).2⟩
            · refine go_bipush (pc := 71) (v := (-2 : Int32)) C dX3_plan_71 (by decide) ?_
              refine go_goto (pc := 73) (tgt := 82) C dX3_plan_73 (by decide) ?_
              exact (hE 0 0 _ _ _ (Nat.zero_le _) (Nat.zero_le _)).1 _ rfl dX3_plan_82 ⟨congrArg (fun z => some (Value.int z)) (some2 h).1, congrArg (fun z => bW Γ.d 3 FK3 a z) (some2 h).2⟩
        · refine go_aload_n (pc := 51) C dX3_plan_51 rfl 1 rfl ?_
          refine x3gi_62 (pc := 52) C dX3_plan_52 ?_
          exact (hE 0 0 _ _ _ (Nat.zero_le _) (Nat.zero_le _)).1 _ rfl dX3_plan_55 ⟨congrArg (fun z => some (Value.int z)) (some2 h).1, congrArg (fun z => bW Γ.d 3 FK3 a z) (some2 h).2⟩
      · refine go_bipush (pc := 38) (v := (-3 : Int32)) C dX3_plan_38 (by decide) ?_
        exact (hE 0 0 _ _ _ (Nat.zero_le _) (Nat.zero_le _)).1 _ rfl dX3_plan_40 ⟨congrArg (fun z => some (Value.int z)) (some2 h).1, congrArg (fun z => bW Γ.d 3 FK3 a z) (some2 h).2⟩
    · refine go_bipush (pc := 21) (v := (-4 : Int32)) C dX3_plan_21 (by decide) ?_
      exact (hE 0 0 _ _ _ (Nat.zero_le _) (Nat.zero_le _)).1 _ rfl dX3_plan_23 ⟨congrArg (fun z => some (Value.int z)) (some2 h).1, congrArg (fun z => bW Γ.d 3 FK3 a z) (some2 h).2⟩
theorem w3_sawn_45 {Γ : Gam} {a : Nat → Nat} {s0 : Bl} {v1 : Int32} {v2 : Int32} {r9 : Int32} (hN : Γ.nL = 6) (C : Cx Γ cX3_sawn RX3 (6, 0, 0) 151) (hE : Rets Γ cX3_sawn (some .int) 0 0 (fun v w => v = some (.int r9) ∧ w = (bW Γ.d 3 FK3 a s0))) : ∀ (n : Nat) (s : Int32 × Int32 × Int32), loop (g3_sawn_45 s0 v1 v2) n s = some r9 → (fun s : Int32 × Int32 × Int32 => Go Γ 0 0 (bW Γ.d 3 FK3 a s0) 45 [(0, .ref (a 0)), (1, .int v1), (2, .int v2), (3, .int s.1), (4, .int s.2.1), (5, .int s.2.2)] []) s := by
  refine loop_walk (P := fun s : Int32 × Int32 × Int32 => Go Γ 0 0 (bW Γ.d 3 FK3 a s0) 45 [(0, .ref (a 0)), (1, .int v1), (2, .int v2), (3, .int s.1), (4, .int s.2.1), (5, .int s.2.2)] []) ?_
  intro K45 hK45 s h
  obtain ⟨v3, v4, v5⟩ := s
  dsimp only [g3_sawn_45] at h
  show Go Γ 0 0 (bW Γ.d 3 FK3 a s0) 45 [(0, .ref (a 0)), (1, .int v1), (2, .int v2), (3, .int v3), (4, .int v4), (5, .int v5)] []
  refine go_iload (pc := 45) C dX3_sawn_45 5 rfl ?_
  refine go_aload_n (pc := 47) C dX3_sawn_47 rfl 0 rfl ?_
  obtain ⟨r4, e4, h⟩ := bnd_some h
  refine go_callVi (pc := 48) C [] (m3_allRopes e4) q1670 q1672 qs85 q144 q1673 x3pd_allRopes (by decide) (by decide) bW_O x3c rfl (Nat.le_of_ble_eq_true rfl) ⟨Nat.zero_le _, Nat.zero_le _⟩ dX3_sawn_48 rfl ?_
  refine go_icmp_gt (pc := 51) (tgt := 109) C dX3_sawn_51 (by decide) h (fun h => ?_) (fun h => ?_)
  · refine go_iload_n (pc := 109) C dX3_sawn_109 rfl 2 rfl ?_
    refine go_iconst (pc := 110) (v := (2 : Int32)) C dX3_sawn_110 (by decide) ?_
    refine go_icmp_ne (pc := 111) (tgt := 116) C dX3_sawn_111 (by decide) h (fun h => ?_) (fun h => ?_)
    · refine go_iload (pc := 116) C dX3_sawn_116 4 rfl ?_
      refine go_bipush (pc := 118) (v := (-2 : Int32)) C dX3_sawn_118 (by decide) ?_
      refine go_icmp_eq (pc := 120) (tgt := 128) C dX3_sawn_120 (by decide) h (fun h => ?_) (fun h => ?_)
      · refine go_iload (pc := 128) C dX3_sawn_128 4 rfl ?_
        refine go_goto (pc := 130) (tgt := 138) C dX3_sawn_130 (by decide) ?_
        exact (hE 0 0 _ _ _ (Nat.zero_le _) (Nat.zero_le _)).1 _ rfl dX3_sawn_138 ⟨congrArg (fun z => some (Value.int z)) (some1 h), rfl⟩
      · refine go_iload_n (pc := 123) C dX3_sawn_123 rfl 2 rfl ?_
        refine go_iconst (pc := 124) (v := (1 : Int32)) C dX3_sawn_124 (by decide) ?_
        refine go_icmp_ne (pc := 125) (tgt := 133) C dX3_sawn_125 (by decide) h (fun h => ?_) (fun h => ?_)
        · refine go_iload (pc := 133) C dX3_sawn_133 4 rfl ?_
          obtain ⟨r5, e5, h⟩ := bnd_some h
          refine go_callSi (pc := 135) C [.int v4] (m3_bits e5) q1796 q1797 q144 q1798 x3pd_bits (by decide) (by decide) rfl (Nat.le_of_ble_eq_true rfl) ⟨Nat.zero_le _, Nat.zero_le _⟩ dX3_sawn_135 rfl ?_
          exact (hE 0 0 _ _ _ (Nat.zero_le _) (Nat.zero_le _)).1 _ rfl dX3_sawn_138 ⟨congrArg (fun z => some (Value.int z)) (some1 h), rfl⟩
        · refine go_iload (pc := 128) C dX3_sawn_128 4 rfl ?_
          refine go_goto (pc := 130) (tgt := 138) C dX3_sawn_130 (by decide) ?_
          exact (hE 0 0 _ _ _ (Nat.zero_le _) (Nat.zero_le _)).1 _ rfl dX3_sawn_138 ⟨congrArg (fun z => some (Value.int z)) (some1 h), rfl⟩
    · refine go_iload_n (pc := 114) C dX3_sawn_114 rfl 3 rfl ?_
      exact (hE 0 0 _ _ _ (Nat.zero_le _) (Nat.zero_le _)).1 _ rfl dX3_sawn_115 ⟨congrArg (fun z => some (Value.int z)) (some1 h), rfl⟩
  · refine go_aload_n (pc := 54) C dX3_sawn_54 rfl 0 rfl ?_
    refine go_aload_n (pc := 55) C dX3_sawn_55 rfl 0 rfl ?_
    obtain ⟨r6, e6, h⟩ := bnd_some h
    refine go_callVi (pc := 56) C [] (m3_allRopes e6) q1670 q1672 qs85 q144 q1673 x3pd_allRopes (by decide) (by decide) bW_O x3c rfl (Nat.le_of_ble_eq_true rfl) ⟨Nat.zero_le _, Nat.zero_le _⟩ dX3_sawn_56 rfl ?_
    refine go_iload (pc := 59) C dX3_sawn_59 5 rfl ?_
    refine go_iconst (pc := 61) (v := (-1 : Int32)) C dX3_sawn_61 (by decide) ?_
    refine go_ixor (pc := 62) C dX3_sawn_62 ?_
    refine go_iand (pc := 63) C dX3_sawn_63 ?_
    obtain ⟨r7, e7, h⟩ := bnd_some h
    refine go_callVi (pc := 64) C [.int (r6 &&& (v5 ^^^ (-1 : Int32)))] (m3_sinking e7) q1799 q1801 qs109 q144 q1802 x3pd_sinking (by decide) (by decide) bW_O x3c rfl (Nat.le_of_ble_eq_true rfl) ⟨Nat.zero_le _, Nat.zero_le _⟩ dX3_sawn_64 rfl ?_
    refine go_iload_n (pc := 67) C dX3_sawn_67 rfl 1 rfl ?_
    refine go_icmp_ne (pc := 68) (tgt := 103) C dX3_sawn_68 (by decide) h (fun h => ?_) (fun h => ?_)
    · refine go_iinc (pc := 103) (v := (v5 + (1 : Int32))) C hN dX3_sawn_103 (q := 5) rfl rfl (by decide) rfl ?_
      refine go_goto (pc := 106) (tgt := 45) C dX3_sawn_106 (by decide) ?_
      refine go_sub [1, 2, 3, 4, 5, 0] rfl ?_
      exact hK45 (v3, v4, (v5 + (1 : Int32))) h
    · refine go_iinc (pc := 71) (v := (v3 + (1 : Int32))) C hN dX3_sawn_71 (q := 3) rfl rfl (by decide) rfl ?_
      refine go_iload (pc := 74) C dX3_sawn_74 4 rfl ?_
      refine go_bipush (pc := 76) (v := (-2 : Int32)) C dX3_sawn_76 (by decide) ?_
      refine go_icmp_eq (pc := 78) (tgt := 94) C dX3_sawn_78 (by decide) h (fun h => ?_) (fun h => ?_)
      · refine go_iload (pc := 94) C dX3_sawn_94 5 rfl ?_
        refine go_goto (pc := 96) (tgt := 101) C dX3_sawn_96 (by decide) ?_
        refine go_istore (pc := 101) C hN dX3_sawn_101 (by decide) rfl ?_
        refine go_iinc (pc := 103) (v := (v5 + (1 : Int32))) C hN dX3_sawn_103 (q := 5) rfl rfl (by decide) rfl ?_
        refine go_goto (pc := 106) (tgt := 45) C dX3_sawn_106 (by decide) ?_
        refine go_sub [3, 4, 5, 2, 1, 0] rfl ?_
        exact hK45 ((v3 + (1 : Int32)), v5, (v5 + (1 : Int32))) h
      · refine go_iload (pc := 81) C dX3_sawn_81 5 rfl ?_
        obtain ⟨r8, e8, h⟩ := bnd_some h
        refine go_callSi (pc := 83) C [.int v5] (m3_bits e8) q1796 q1797 q144 q1798 x3pd_bits (by decide) (by decide) rfl (Nat.le_of_ble_eq_true rfl) ⟨Nat.zero_le _, Nat.zero_le _⟩ dX3_sawn_83 rfl ?_
        refine go_iload (pc := 86) C dX3_sawn_86 4 rfl ?_
        obtain ⟨r9, e9, h⟩ := bnd_some h
        refine go_callSi (pc := 88) C [.int v4] (m3_bits e9) q1796 q1797 q144 q1798 x3pd_bits (by decide) (by decide) rfl (Nat.le_of_ble_eq_true rfl) ⟨Nat.zero_le _, Nat.zero_le _⟩ dX3_sawn_88 rfl ?_
        refine go_icmp_ge (pc := 91) (tgt := 99) C dX3_sawn_91 (by decide) h (fun h => ?_) (fun h => ?_)
        · refine go_iload (pc := 99) C dX3_sawn_99 4 rfl ?_
          refine go_istore (pc := 101) C hN dX3_sawn_101 (by decide) rfl ?_
          refine go_iinc (pc := 103) (v := (v5 + (1 : Int32))) C hN dX3_sawn_103 (q := 5) rfl rfl (by decide) rfl ?_
          refine go_goto (pc := 106) (tgt := 45) C dX3_sawn_106 (by decide) ?_
          refine go_sub [3, 4, 5, 2, 1, 0] rfl ?_
          exact hK45 ((v3 + (1 : Int32)), v4, (v5 + (1 : Int32))) h
        · refine go_iload (pc := 94) C dX3_sawn_94 5 rfl ?_
          refine go_goto (pc := 96) (tgt := 101) C dX3_sawn_96 (by decide) ?_
          refine go_istore (pc := 101) C hN dX3_sawn_101 (by decide) rfl ?_
          refine go_iinc (pc := 103) (v := (v5 + (1 : Int32))) C hN dX3_sawn_103 (q := 5) rfl rfl (by decide) rfl ?_
          refine go_goto (pc := 106) (tgt := 45) C dX3_sawn_106 (by decide) ?_
          refine go_sub [3, 4, 5, 2, 1, 0] rfl ?_
          exact hK45 ((v3 + (1 : Int32)), v5, (v5 + (1 : Int32))) h
theorem m3_sawn {l : Launch} {d : gD} {a : Nat → Nat} {s0 : Bl} {v1 : Int32} {v2 : Int32} {r9 : Int32} (h : f3_sawn s0 v1 v2 = some r9) : Mt l d yX3_sawn cX3_sawn 6 (some .int) (6, 0, 0) 151 (bW d 3 FK3 a s0) [.ref (a 0), .int v1, .int v2] (fun v w => v = some (.int r9) ∧ w = (bW d 3 FK3 a s0)) := by
  refine Mt.of x3pn (Nat.le_of_ble_eq_true rfl) ?_
  intro Γ hl hd hN C hE
  subst hl; subst hd
  show Go Γ 0 0 (bW Γ.d 3 FK3 a s0) 0 [(0, .ref (a 0)), (1, .int v1), (2, .int v2)] []
  dsimp only [f3_sawn] at h
  refine go_aload_n (pc := 0) C dX3_sawn_0 rfl 0 rfl ?_
  obtain ⟨r1, e1, h⟩ := bnd_some h
  refine go_callVi (pc := 1) C [] (m3_isRiver e1) q1716 q1718 qs92 q144 q1719 x3pd_isRiver (by decide) (by decide) bW_O x3c rfl (Nat.le_of_ble_eq_true rfl) ⟨Nat.zero_le _, Nat.zero_le _⟩ dX3_sawn_1 rfl ?_
  refine go_if_eq (pc := 4) (tgt := 34) C dX3_sawn_4 (by decide) h (fun h => ?_) (fun h => ?_)
  · refine go_iconst (pc := 34) (v := (-1 : Int32)) C dX3_sawn_34 (by decide) ?_
    exact (hE 0 0 _ _ _ (Nat.zero_le _) (Nat.zero_le _)).1 _ rfl dX3_sawn_35 ⟨congrArg (fun z => some (Value.int z)) (some1 h), rfl⟩
  · refine go_iload_n (pc := 7) C dX3_sawn_7 rfl 1 rfl ?_
    refine go_if_lt (pc := 8) (tgt := 34) C dX3_sawn_8 (by decide) h (fun h => ?_) (fun h => ?_)
    · refine go_iconst (pc := 34) (v := (-1 : Int32)) C dX3_sawn_34 (by decide) ?_
      exact (hE 0 0 _ _ _ (Nat.zero_le _) (Nat.zero_le _)).1 _ rfl dX3_sawn_35 ⟨congrArg (fun z => some (Value.int z)) (some1 h), rfl⟩
    · refine go_iload_n (pc := 11) C dX3_sawn_11 rfl 1 rfl ?_
      refine go_aload_n (pc := 12) C dX3_sawn_12 rfl 0 rfl ?_
      obtain ⟨r2, e2, h⟩ := bnd_some h
      refine go_callVi (pc := 13) C [] (m3_afloat e2) q1678 q1680 qs87 q144 q1681 x3pd_afloat (by decide) (by decide) bW_O x3c rfl (Nat.le_of_ble_eq_true rfl) ⟨Nat.zero_le _, Nat.zero_le _⟩ dX3_sawn_13 rfl ?_
      refine go_iconst (pc := 16) (v := (-1 : Int32)) C dX3_sawn_16 (by decide) ?_
      refine go_ixor (pc := 17) C dX3_sawn_17 ?_
      refine go_iand (pc := 18) C dX3_sawn_18 ?_
      refine go_if_ne (pc := 19) (tgt := 34) C dX3_sawn_19 (by decide) h (fun h => ?_) (fun h => ?_)
      · refine go_iconst (pc := 34) (v := (-1 : Int32)) C dX3_sawn_34 (by decide) ?_
        exact (hE 0 0 _ _ _ (Nat.zero_le _) (Nat.zero_le _)).1 _ rfl dX3_sawn_35 ⟨congrArg (fun z => some (Value.int z)) (some1 h), rfl⟩
      · refine go_iload_n (pc := 22) C dX3_sawn_22 rfl 2 rfl ?_
        refine go_i2l (pc := 23) C dX3_sawn_23 ?_
        refine go_lconst (pc := 24) (v := (0 : Int64)) C dX3_sawn_24 (by decide) ?_
        refine go_ldc2 (pc := 25) C dX3_sawn_25 q1925 ?_
        obtain ⟨r3, e3, h⟩ := bnd_some h
        refine go_callSi (pc := 28) C [.long (v2).toInt64, .long (0 : Int64), .long (2 : Int64)] (m3_in e3) q1564 q1565 q144 q1566 x3pd_in (by decide) (by decide) rfl (Nat.le_of_ble_eq_true rfl) ⟨Nat.zero_le _, Nat.zero_le _⟩ dX3_sawn_28 rfl ?_
        refine go_if_ne (pc := 31) (tgt := 36) C dX3_sawn_31 (by decide) h (fun h => ?_) (fun h => ?_)
        · refine go_iconst (pc := 36) (v := (0 : Int32)) C dX3_sawn_36 (by decide) ?_
          refine go_istore_n (pc := 37) C hN dX3_sawn_37 rfl (by decide) rfl ?_
          refine go_bipush (pc := 38) (v := (-2 : Int32)) C dX3_sawn_38 (by decide) ?_
          refine go_istore (pc := 40) C hN dX3_sawn_40 (by decide) rfl ?_
          refine go_iconst (pc := 42) (v := (0 : Int32)) C dX3_sawn_42 (by decide) ?_
          refine go_istore (pc := 43) C hN dX3_sawn_43 (by decide) rfl ?_
          refine go_sub [3, 4, 5, 2, 1, 0] rfl ?_
          exact w3_sawn_45 hN C hE FU ((0 : Int32), (-2 : Int32), (0 : Int32)) h
        · refine go_iconst (pc := 34) (v := (-1 : Int32)) C dX3_sawn_34 (by decide) ?_
          exact (hE 0 0 _ _ _ (Nat.zero_le _) (Nat.zero_le _)).1 _ rfl dX3_sawn_35 ⟨congrArg (fun z => some (Value.int z)) (some1 h), rfl⟩
theorem w3_locksUsed_4 {Γ : Gam} {a : Nat → Nat} {s0 : Bl} {v1 : Int32} {r9 : Int32} (hN : Γ.nL = 4) (C : Cx Γ cX3_locksUsed RX3 (0, 0, 0) 0) (hE : Rets Γ cX3_locksUsed (some .int) 0 0 (fun v w => v = some (.int r9) ∧ w = (bW Γ.d 3 FK3 a s0))) : ∀ (n : Nat) (s : Int32 × Int32), loop (g3_locksUsed_4 s0 v1) n s = some r9 → (fun s : Int32 × Int32 => Go Γ 0 0 (bW Γ.d 3 FK3 a s0) 4 [(0, .ref (a 0)), (1, .int v1), (2, .int s.1), (3, .int s.2)] []) s := by
  refine loop_walk (P := fun s : Int32 × Int32 => Go Γ 0 0 (bW Γ.d 3 FK3 a s0) 4 [(0, .ref (a 0)), (1, .int v1), (2, .int s.1), (3, .int s.2)] []) ?_
  intro K4 hK4 s h
  obtain ⟨v2, v3⟩ := s
  dsimp only [g3_locksUsed_4] at h
  show Go Γ 0 0 (bW Γ.d 3 FK3 a s0) 4 [(0, .ref (a 0)), (1, .int v1), (2, .int v2), (3, .int v3)] []
  refine go_iload_n (pc := 4) C dX3_locksUsed_4 rfl 3 rfl ?_
  refine go_iload_n (pc := 5) C dX3_locksUsed_5 rfl 1 rfl ?_
  refine go_icmp_ge (pc := 6) (tgt := 38) C dX3_locksUsed_6 (by decide) h (fun h => ?_) (fun h => ?_)
  · refine go_iload_n (pc := 38) C dX3_locksUsed_38 rfl 2 rfl ?_
    exact (hE 0 0 _ _ _ (Nat.zero_le _) (Nat.zero_le _)).1 _ rfl dX3_locksUsed_39 ⟨congrArg (fun z => some (Value.int z)) (some1 h), rfl⟩
  · refine go_aload_n (pc := 9) C dX3_locksUsed_9 rfl 0 rfl ?_
    refine x3gr_63 (pc := 10) C dX3_locksUsed_10 ?_
    refine go_iload_n (pc := 13) C dX3_locksUsed_13 rfl 3 rfl ?_
    refine go_iald (pc := 14) C x3aA_63 h dX3_locksUsed_14 (fun h => ?_)
    refine go_iload_n (pc := 15) C dX3_locksUsed_15 rfl 2 rfl ?_
    refine go_icmp_lt (pc := 16) (tgt := 30) C dX3_locksUsed_16 (by decide) h (fun h => ?_) (fun h => ?_)
    · refine go_iload_n (pc := 30) C dX3_locksUsed_30 rfl 2 rfl ?_
      refine go_istore_n (pc := 31) C hN dX3_locksUsed_31 rfl (by decide) rfl ?_
      refine go_iinc (pc := 32) (v := (v3 + (1 : Int32))) C hN dX3_locksUsed_32 (q := 3) rfl rfl (by decide) rfl ?_
      refine go_goto (pc := 35) (tgt := 4) C dX3_locksUsed_35 (by decide) ?_
      refine go_sub [2, 3, 1, 0] rfl ?_
      exact hK4 (v2, (v3 + (1 : Int32))) h
    · refine go_aload_n (pc := 19) C dX3_locksUsed_19 rfl 0 rfl ?_
      refine x3gr_63 (pc := 20) C dX3_locksUsed_20 ?_
      refine go_iload_n (pc := 23) C dX3_locksUsed_23 rfl 3 rfl ?_
      refine go_iald (pc := 24) C x3aA_63 h dX3_locksUsed_24 (fun h => ?_)
      refine go_iconst (pc := 25) (v := (1 : Int32)) C dX3_locksUsed_25 (by decide) ?_
      refine go_iadd (pc := 26) C dX3_locksUsed_26 ?_
      refine go_goto (pc := 27) (tgt := 31) C dX3_locksUsed_27 (by decide) ?_
      refine go_istore_n (pc := 31) C hN dX3_locksUsed_31 rfl (by decide) rfl ?_
      refine go_iinc (pc := 32) (v := (v3 + (1 : Int32))) C hN dX3_locksUsed_32 (q := 3) rfl rfl (by decide) rfl ?_
      refine go_goto (pc := 35) (tgt := 4) C dX3_locksUsed_35 (by decide) ?_
      refine go_sub [2, 3, 1, 0] rfl ?_
      exact hK4 (((s0.2.1 63 (v3).toNatClampNeg) + (1 : Int32)), (v3 + (1 : Int32))) h
theorem m3_locksUsed {l : Launch} {d : gD} {a : Nat → Nat} {s0 : Bl} {v1 : Int32} {r9 : Int32} (h : f3_locksUsed s0 v1 = some r9) : Mt l d yX3_locksUsed cX3_locksUsed 4 (some .int) (0, 0, 0) 0 (bW d 3 FK3 a s0) [.ref (a 0), .int v1] (fun v w => v = some (.int r9) ∧ w = (bW d 3 FK3 a s0)) := by
  refine Mt.of x3pn (Nat.le_of_ble_eq_true rfl) ?_
  intro Γ hl hd hN C hE
  subst hl; subst hd
  show Go Γ 0 0 (bW Γ.d 3 FK3 a s0) 0 [(0, .ref (a 0)), (1, .int v1)] []
  dsimp only [f3_locksUsed] at h
  refine go_iconst (pc := 0) (v := (0 : Int32)) C dX3_locksUsed_0 (by decide) ?_
  refine go_istore_n (pc := 1) C hN dX3_locksUsed_1 rfl (by decide) rfl ?_
  refine go_iconst (pc := 2) (v := (0 : Int32)) C dX3_locksUsed_2 (by decide) ?_
  refine go_istore_n (pc := 3) C hN dX3_locksUsed_3 rfl (by decide) rfl ?_
  refine go_sub [2, 3, 1, 0] rfl ?_
  exact w3_locksUsed_4 hN C hE FU ((0 : Int32), (0 : Int32)) h
theorem w3_loadOf_5 {Γ : Gam} {a : Nat → Nat} {s0 : Bl} {v1 : Int32} {v2 : Int32} {r9 : Int32} (hN : Γ.nL = 5) (C : Cx Γ cX3_loadOf RX3 (0, 0, 0) 0) (hE : Rets Γ cX3_loadOf (some .int) 0 0 (fun v w => v = some (.int r9) ∧ w = (bW Γ.d 3 FK3 a s0))) : ∀ (n : Nat) (s : Int32 × Int32), loop (g3_loadOf_5 s0 v1 v2) n s = some r9 → (fun s : Int32 × Int32 => Go Γ 0 0 (bW Γ.d 3 FK3 a s0) 5 [(0, .ref (a 0)), (1, .int v1), (2, .int v2), (3, .int s.1), (4, .int s.2)] []) s := by
  refine loop_walk (P := fun s : Int32 × Int32 => Go Γ 0 0 (bW Γ.d 3 FK3 a s0) 5 [(0, .ref (a 0)), (1, .int v1), (2, .int v2), (3, .int s.1), (4, .int s.2)] []) ?_
  intro K5 hK5 s h
  obtain ⟨v3, v4⟩ := s
  dsimp only [g3_loadOf_5] at h
  show Go Γ 0 0 (bW Γ.d 3 FK3 a s0) 5 [(0, .ref (a 0)), (1, .int v1), (2, .int v2), (3, .int v3), (4, .int v4)] []
  refine go_iload (pc := 5) C dX3_loadOf_5 4 rfl ?_
  refine go_iload_n (pc := 7) C dX3_loadOf_7 rfl 2 rfl ?_
  refine go_icmp_ge (pc := 8) (tgt := 47) C dX3_loadOf_8 (by decide) h (fun h => ?_) (fun h => ?_)
  · refine go_iload_n (pc := 47) C dX3_loadOf_47 rfl 3 rfl ?_
    exact (hE 0 0 _ _ _ (Nat.zero_le _) (Nat.zero_le _)).1 _ rfl dX3_loadOf_48 ⟨congrArg (fun z => some (Value.int z)) (some1 h), rfl⟩
  · refine go_iload_n (pc := 11) C dX3_loadOf_11 rfl 3 rfl ?_
    refine go_aload_n (pc := 12) C dX3_loadOf_12 rfl 0 rfl ?_
    refine x3gr_63 (pc := 13) C dX3_loadOf_13 ?_
    refine go_iload (pc := 16) C dX3_loadOf_16 4 rfl ?_
    refine go_iald (pc := 18) C x3aA_63 h dX3_loadOf_18 (fun h => ?_)
    refine go_iload_n (pc := 19) C dX3_loadOf_19 rfl 1 rfl ?_
    refine go_icmp_ne (pc := 20) (tgt := 38) C dX3_loadOf_20 (by decide) h (fun h => ?_) (fun h => ?_)
    · refine go_iconst (pc := 38) (v := (0 : Int32)) C dX3_loadOf_38 (by decide) ?_
      refine go_iadd (pc := 39) C dX3_loadOf_39 ?_
      refine go_istore_n (pc := 40) C hN dX3_loadOf_40 rfl (by decide) rfl ?_
      refine go_iinc (pc := 41) (v := (v4 + (1 : Int32))) C hN dX3_loadOf_41 (q := 4) rfl rfl (by decide) rfl ?_
      refine go_goto (pc := 44) (tgt := 5) C dX3_loadOf_44 (by decide) ?_
      refine go_sub [2, 3, 4, 1, 0] rfl ?_
      exact hK5 ((v3 + (0 : Int32)), (v4 + (1 : Int32))) h
    · refine go_aload_n (pc := 23) C dX3_loadOf_23 rfl 0 rfl ?_
      refine x3gr_6 (pc := 24) C dX3_loadOf_24 ?_
      refine go_aload_n (pc := 27) C dX3_loadOf_27 rfl 0 rfl ?_
      refine x3gr_65 (pc := 28) C dX3_loadOf_28 ?_
      refine go_iload (pc := 31) C dX3_loadOf_31 4 rfl ?_
      refine go_iald (pc := 33) C x3aA_65 h dX3_loadOf_33 (fun h => ?_)
      refine go_iald (pc := 34) C x3aA_6 h dX3_loadOf_34 (fun h => ?_)
      refine go_goto (pc := 35) (tgt := 39) C dX3_loadOf_35 (by decide) ?_
      refine go_iadd (pc := 39) C dX3_loadOf_39 ?_
      refine go_istore_n (pc := 40) C hN dX3_loadOf_40 rfl (by decide) rfl ?_
      refine go_iinc (pc := 41) (v := (v4 + (1 : Int32))) C hN dX3_loadOf_41 (q := 4) rfl rfl (by decide) rfl ?_
      refine go_goto (pc := 44) (tgt := 5) C dX3_loadOf_44 (by decide) ?_
      refine go_sub [2, 3, 4, 1, 0] rfl ?_
      exact hK5 ((v3 + (s0.2.1 6 ((s0.2.1 65 (v4).toNatClampNeg)).toNatClampNeg)), (v4 + (1 : Int32))) h
theorem m3_loadOf {l : Launch} {d : gD} {a : Nat → Nat} {s0 : Bl} {v1 : Int32} {v2 : Int32} {r9 : Int32} (h : f3_loadOf s0 v1 v2 = some r9) : Mt l d yX3_loadOf cX3_loadOf 5 (some .int) (0, 0, 0) 0 (bW d 3 FK3 a s0) [.ref (a 0), .int v1, .int v2] (fun v w => v = some (.int r9) ∧ w = (bW d 3 FK3 a s0)) := by
  refine Mt.of x3pn (Nat.le_of_ble_eq_true rfl) ?_
  intro Γ hl hd hN C hE
  subst hl; subst hd
  show Go Γ 0 0 (bW Γ.d 3 FK3 a s0) 0 [(0, .ref (a 0)), (1, .int v1), (2, .int v2)] []
  dsimp only [f3_loadOf] at h
  refine go_iconst (pc := 0) (v := (0 : Int32)) C dX3_loadOf_0 (by decide) ?_
  refine go_istore_n (pc := 1) C hN dX3_loadOf_1 rfl (by decide) rfl ?_
  refine go_iconst (pc := 2) (v := (0 : Int32)) C dX3_loadOf_2 (by decide) ?_
  refine go_istore (pc := 3) C hN dX3_loadOf_3 (by decide) rfl ?_
  refine go_sub [2, 3, 4, 1, 0] rfl ?_
  exact w3_loadOf_5 hN C hE FU ((0 : Int32), (0 : Int32)) h
theorem w3_findsLocks_207 {Γ : Gam} {a : Nat → Nat} {v1 : Int32} {v2 : Int32} {v3 : Int32} {s9 : Bl} {K61 : Bl × Int32 → Option Bl} (hN : Γ.nL = 7) (C : Cx Γ cX3_findsLocks RX3 (1, 0, 0) 24) (hE : Rets Γ cX3_findsLocks none 0 0 (fun v w => v = none ∧ w = (bW Γ.d 3 FK3 a s9)))
    (hK61 : ∀ s, K61 s = some s9 → (fun s : Bl × Int32 => Go Γ 0 0 (bW Γ.d 3 FK3 a s.1) 61 [(0, .ref (a 0)), (1, .int v1), (2, .int v2), (3, .int s.2)] []) s) : ∀ (n : Nat) (s : Bl × Int32), loop (g3_findsLocks_207 v1 v2 v3 K61) n s = some s9 → (fun s : Bl × Int32 => Go Γ 0 0 (bW Γ.d 3 FK3 a s.1) 207 [(0, .ref (a 0)), (1, .int v1), (2, .int v2), (3, .int v3), (6, .int s.2)] []) s := by
  refine loop_walk (P := fun s : Bl × Int32 => Go Γ 0 0 (bW Γ.d 3 FK3 a s.1) 207 [(0, .ref (a 0)), (1, .int v1), (2, .int v2), (3, .int v3), (6, .int s.2)] []) ?_
  intro K207 hK207 s h
  obtain ⟨s0, v6⟩ := s
  dsimp only [g3_findsLocks_207] at h
  show Go Γ 0 0 (bW Γ.d 3 FK3 a s0) 207 [(0, .ref (a 0)), (1, .int v1), (2, .int v2), (3, .int v3), (6, .int v6)] []
  refine go_iload (pc := 207) C dX3_findsLocks_207 4 rfl ?_
  refine go_iload_n (pc := 209) C dX3_findsLocks_209 rfl 2 rfl ?_
  refine go_icmp_ge (pc := 210) (tgt := 233) C dX3_findsLocks_210 (by decide) h (fun h => ?_) (fun h => ?_)
  · refine go_goto (pc := 233) (tgt := 246) C dX3_findsLocks_233 (by decide) ?_
    refine go_goto (pc := 246) (tgt := 61) C dX3_findsLocks_246 (by decide) ?_
    refine go_sub [0, 1, 2, 3] rfl ?_
    exact hK61 (s0, v3) h
  · refine go_aload_n (pc := 213) C dX3_findsLocks_213 rfl 0 rfl ?_
    refine x3gr_64 (pc := 214) C dX3_findsLocks_214 ?_
    refine go_iload (pc := 217) C dX3_findsLocks_217 4 rfl ?_
    refine go_aload_n (pc := 219) C dX3_findsLocks_219 rfl 0 rfl ?_
    refine x3gr_63 (pc := 220) C dX3_findsLocks_220 ?_
    refine go_iload (pc := 223) C dX3_findsLocks_223 4 rfl ?_
    refine go_iald (pc := 225) C x3aA_63 h dX3_findsLocks_225 (fun h => ?_)
    refine go_iast (pc := 226) C x3pA_64 h dX3_findsLocks_226 (fun h => ?_)
    refine go_iinc (pc := 227) (v := (v6 + (1 : Int32))) C hN dX3_findsLocks_227 (q := 4) rfl rfl (by decide) rfl ?_
    refine go_goto (pc := 230) (tgt := 207) C dX3_findsLocks_230 (by decide) ?_
    refine go_sub [1, 2, 3, 4, 0] rfl ?_
    exact hK207 ((bA s0 64 (v6).toNatClampNeg (s0.2.1 63 (v6).toNatClampNeg)), (v6 + (1 : Int32))) h
theorem w3_findsLocks_164 {Γ : Gam} {a : Nat → Nat} {v1 : Int32} {v2 : Int32} {s0 : Bl} {v3 : Int32} {v4 : Int32} {z0 : Int32} {s9 : Bl} {K61 : Bl × Int32 → Option Bl} (hN : Γ.nL = 7) (C : Cx Γ cX3_findsLocks RX3 (1, 0, 0) 24) (hE : Rets Γ cX3_findsLocks none 0 0 (fun v w => v = none ∧ w = (bW Γ.d 3 FK3 a s9)))
    (hK61 : ∀ s, K61 s = some s9 → (fun s : Bl × Int32 => Go Γ 0 0 (bW Γ.d 3 FK3 a s.1) 61 [(0, .ref (a 0)), (1, .int v1), (2, .int v2), (3, .int s.2)] []) s) (h : g3_findsLocks_164 K61 s0 v1 v2 v3 v4 z0 = some s9) : Go Γ 0 0 (bW Γ.d 3 FK3 a s0) 164 [(0, .ref (a 0)), (1, .int v1), (2, .int v2), (3, .int v3), (4, .int v4)] [.int z0] := by
  dsimp only [g3_findsLocks_164] at h
  refine go_istore (pc := 164) C hN dX3_findsLocks_164 (by decide) rfl ?_
  refine go_aload_n (pc := 166) C dX3_findsLocks_166 rfl 1 rfl ?_
  refine x3gr_63 (pc := 167) C dX3_findsLocks_167 ?_
  refine go_iload_n (pc := 170) C dX3_findsLocks_170 rfl 4 rfl ?_
  refine go_iald (pc := 171) C x3aA_63 h dX3_findsLocks_171 (fun h => ?_)
  refine go_iload (pc := 172) C dX3_findsLocks_172 5 rfl ?_
  refine go_icmp_gt (pc := 174) (tgt := 182) C dX3_findsLocks_174 (by decide) h (fun h => ?_) (fun h => ?_)
  · refine go_iinc (pc := 182) (v := (v3 + (-1 : Int32))) C hN dX3_findsLocks_182 (q := 4) rfl rfl (by decide) rfl ?_
    refine go_goto (pc := 185) (tgt := 246) C dX3_findsLocks_185 (by decide) ?_
    refine go_goto (pc := 246) (tgt := 61) C dX3_findsLocks_246 (by decide) ?_
    refine go_sub [2, 3, 4, 0] rfl ?_
    exact hK61 (s0, (v3 + (-1 : Int32))) h
  · refine go_iload (pc := 177) C dX3_findsLocks_177 0 rfl ?_
    refine go_if_eq (pc := 179) (tgt := 188) C dX3_findsLocks_179 (by decide) h (fun h => ?_) (fun h => ?_)
    · refine go_iload_n (pc := 188) C dX3_findsLocks_188 rfl 4 rfl ?_
      refine go_iload_n (pc := 189) C dX3_findsLocks_189 rfl 3 rfl ?_
      refine go_iconst (pc := 190) (v := (1 : Int32)) C dX3_findsLocks_190 (by decide) ?_
      refine go_isub (pc := 191) C dX3_findsLocks_191 ?_
      refine go_icmp_ne (pc := 192) (tgt := 236) C dX3_findsLocks_192 (by decide) h (fun h => ?_) (fun h => ?_)
      · refine go_iinc (pc := 236) (v := (v3 + (1 : Int32))) C hN dX3_findsLocks_236 (q := 4) rfl rfl (by decide) rfl ?_
        refine go_aload_n (pc := 239) C dX3_findsLocks_239 rfl 2 rfl ?_
        refine x3gr_63 (pc := 240) C dX3_findsLocks_240 ?_
        refine go_iload_n (pc := 243) C dX3_findsLocks_243 rfl 0 rfl ?_
        refine go_iconst (pc := 244) (v := (-1 : Int32)) C dX3_findsLocks_244 (by decide) ?_
        refine go_iast (pc := 245) C x3pA_63 h dX3_findsLocks_245 (fun h => ?_)
        refine go_goto (pc := 246) (tgt := 61) C dX3_findsLocks_246 (by decide) ?_
        refine go_sub [2, 3, 4, 0] rfl ?_
        exact hK61 ((bA s0 63 ((v3 + (1 : Int32))).toNatClampNeg (-1 : Int32)), (v3 + (1 : Int32))) h
      · refine go_aload_n (pc := 195) C dX3_findsLocks_195 rfl 1 rfl ?_
        refine go_aload_n (pc := 196) C dX3_findsLocks_196 rfl 1 rfl ?_
        refine go_iload_n (pc := 197) C dX3_findsLocks_197 rfl 3 rfl ?_
        obtain ⟨r2, e2, h⟩ := bnd_some h
        refine go_callVi (pc := 198) C [.int v2] (m3_locksUsed e2) q1936 q1938 qs129 q144 q1939 x3pd_locksUsed (by decide) (by decide) bW_O x3c rfl (Nat.le_of_ble_eq_true rfl) ⟨Nat.zero_le _, Nat.zero_le _⟩ dX3_findsLocks_198 rfl ?_
        refine x3pi_66 (pc := 201) C dX3_findsLocks_201 ?_
        refine go_iconst (pc := 204) (v := (0 : Int32)) C dX3_findsLocks_204 (by decide) ?_
        refine go_istore (pc := 205) C hN dX3_findsLocks_205 (by decide) rfl ?_
        refine go_sub [2, 3, 4, 5, 0] rfl ?_
        exact w3_findsLocks_207 hN C hE hK61 FU ((bI s0 66 r2), (0 : Int32)) h
    · refine go_iinc (pc := 182) (v := (v3 + (-1 : Int32))) C hN dX3_findsLocks_182 (q := 4) rfl rfl (by decide) rfl ?_
      refine go_goto (pc := 185) (tgt := 246) C dX3_findsLocks_185 (by decide) ?_
      refine go_goto (pc := 246) (tgt := 61) C dX3_findsLocks_246 (by decide) ?_
      refine go_sub [2, 3, 4, 0] rfl ?_
      exact hK61 (s0, (v3 + (-1 : Int32))) h
theorem w3_findsLocks_137 {Γ : Gam} {a : Nat → Nat} {v1 : Int32} {v2 : Int32} {s0 : Bl} {v3 : Int32} {v4 : Int32} {s9 : Bl} {K61 : Bl × Int32 → Option Bl} (hN : Γ.nL = 7) (C : Cx Γ cX3_findsLocks RX3 (1, 0, 0) 24) (hE : Rets Γ cX3_findsLocks none 0 0 (fun v w => v = none ∧ w = (bW Γ.d 3 FK3 a s9)))
    (hK61 : ∀ s, K61 s = some s9 → (fun s : Bl × Int32 => Go Γ 0 0 (bW Γ.d 3 FK3 a s.1) 61 [(0, .ref (a 0)), (1, .int v1), (2, .int v2), (3, .int s.2)] []) s) (h : g3_findsLocks_137 K61 s0 v1 v2 v3 v4 = some s9) : Go Γ 0 0 (bW Γ.d 3 FK3 a s0) 137 [(0, .ref (a 0)), (1, .int v1), (2, .int v2), (3, .int v3), (4, .int v4)] [] := by
  dsimp only [g3_findsLocks_137] at h
  refine go_aload_n (pc := 137) C dX3_findsLocks_137 rfl 0 rfl ?_
  refine x3gi_66 (pc := 138) C dX3_findsLocks_138 ?_
  refine go_iconst (pc := 141) (v := (-1 : Int32)) C dX3_findsLocks_141 (by decide) ?_
  refine go_icmp_eq (pc := 142) (tgt := 163) C dX3_findsLocks_142 (by decide) h (fun h => ?_) (fun h => ?_)
  · refine go_iconst (pc := 163) (v := (0 : Int32)) C dX3_findsLocks_163 (by decide) ?_
    exact w3_findsLocks_164 hN C hE hK61 h
  · refine go_aload_n (pc := 145) C dX3_findsLocks_145 rfl 0 rfl ?_
    refine go_iload_n (pc := 146) C dX3_findsLocks_146 rfl 3 rfl ?_
    refine go_iconst (pc := 147) (v := (1 : Int32)) C dX3_findsLocks_147 (by decide) ?_
    refine go_iadd (pc := 148) C dX3_findsLocks_148 ?_
    obtain ⟨r3, e3, h⟩ := bnd_some h
    refine go_callVi (pc := 149) C [.int (v3 + (1 : Int32))] (m3_locksUsed e3) q1936 q1938 qs129 q144 q1939 x3pd_locksUsed (by decide) (by decide) bW_O x3c rfl (Nat.le_of_ble_eq_true rfl) ⟨Nat.zero_le _, Nat.zero_le _⟩ dX3_findsLocks_149 rfl ?_
    refine go_aload_n (pc := 152) C dX3_findsLocks_152 rfl 0 rfl ?_
    refine x3gi_66 (pc := 153) C dX3_findsLocks_153 ?_
    refine go_icmp_lt (pc := 156) (tgt := 163) C dX3_findsLocks_156 (by decide) h (fun h => ?_) (fun h => ?_)
    · refine go_iconst (pc := 163) (v := (0 : Int32)) C dX3_findsLocks_163 (by decide) ?_
      exact w3_findsLocks_164 hN C hE hK61 h
    · refine go_iconst (pc := 159) (v := (1 : Int32)) C dX3_findsLocks_159 (by decide) ?_
      refine go_goto (pc := 160) (tgt := 164) C dX3_findsLocks_160 (by decide) ?_
      exact w3_findsLocks_164 hN C hE hK61 h
theorem w3_findsLocks_86 {Γ : Gam} {a : Nat → Nat} {v1 : Int32} {v2 : Int32} {v3 : Int32} {v4 : Int32} {s9 : Bl} {K61 : Bl × Int32 → Option Bl} (hN : Γ.nL = 7) (C : Cx Γ cX3_findsLocks RX3 (1, 0, 0) 24) (hE : Rets Γ cX3_findsLocks none 0 0 (fun v w => v = none ∧ w = (bW Γ.d 3 FK3 a s9)))
    (hK61 : ∀ s, K61 s = some s9 → (fun s : Bl × Int32 => Go Γ 0 0 (bW Γ.d 3 FK3 a s.1) 61 [(0, .ref (a 0)), (1, .int v1), (2, .int v2), (3, .int s.2)] []) s) : ∀ (n : Nat) (s : Bl), loop (g3_findsLocks_86 v1 v2 v3 v4 K61) n s = some s9 → (fun s : Bl => Go Γ 0 0 (bW Γ.d 3 FK3 a s) 86 [(0, .ref (a 0)), (1, .int v1), (2, .int v2), (3, .int v3), (4, .int v4)] []) s := by
  refine loop_walk (P := fun s : Bl => Go Γ 0 0 (bW Γ.d 3 FK3 a s) 86 [(0, .ref (a 0)), (1, .int v1), (2, .int v2), (3, .int v3), (4, .int v4)] []) ?_
  intro K86 hK86 s h
  obtain ⟨s0, rfl⟩ : ∃ z, z = s := ⟨_, rfl⟩
  dsimp only [g3_findsLocks_86] at h
  show Go Γ 0 0 (bW Γ.d 3 FK3 a s0) 86 [(0, .ref (a 0)), (1, .int v1), (2, .int v2), (3, .int v3), (4, .int v4)] []
  refine go_aload_n (pc := 86) C dX3_findsLocks_86 rfl 0 rfl ?_
  refine x3gr_63 (pc := 87) C dX3_findsLocks_87 ?_
  refine go_iload_n (pc := 90) C dX3_findsLocks_90 rfl 3 rfl ?_
  refine go_iald (pc := 91) C x3aA_63 h dX3_findsLocks_91 (fun h => ?_)
  refine go_iload (pc := 92) C dX3_findsLocks_92 4 rfl ?_
  refine go_icmp_gt (pc := 94) (tgt := 137) C dX3_findsLocks_94 (by decide) h (fun h => ?_) (fun h => ?_)
  · exact w3_findsLocks_137 hN C hE hK61 h
  · refine go_aload_n (pc := 97) C dX3_findsLocks_97 rfl 0 rfl ?_
    refine go_aload_n (pc := 98) C dX3_findsLocks_98 rfl 0 rfl ?_
    refine x3gr_63 (pc := 99) C dX3_findsLocks_99 ?_
    refine go_iload_n (pc := 102) C dX3_findsLocks_102 rfl 3 rfl ?_
    refine go_iald (pc := 103) C x3aA_63 h dX3_findsLocks_103 (fun h => ?_)
    refine go_iload_n (pc := 104) C dX3_findsLocks_104 rfl 3 rfl ?_
    obtain ⟨r4, e4, h⟩ := bnd_some h
    refine go_callVi (pc := 105) C [.int (s0.2.1 63 (v3).toNatClampNeg), .int v3] (m3_loadOf e4) q1940 q1942 qs130 q144 q1943 x3pd_loadOf (by decide) (by decide) bW_O x3c rfl (Nat.le_of_ble_eq_true rfl) ⟨Nat.zero_le _, Nat.zero_le _⟩ dX3_findsLocks_105 rfl ?_
    refine go_aload_n (pc := 108) C dX3_findsLocks_108 rfl 0 rfl ?_
    refine x3gr_6 (pc := 109) C dX3_findsLocks_109 ?_
    refine go_aload_n (pc := 112) C dX3_findsLocks_112 rfl 0 rfl ?_
    refine x3gr_65 (pc := 113) C dX3_findsLocks_113 ?_
    refine go_iload_n (pc := 116) C dX3_findsLocks_116 rfl 3 rfl ?_
    refine go_iald (pc := 117) C x3aA_65 h dX3_findsLocks_117 (fun h => ?_)
    refine go_iald (pc := 118) C x3aA_6 h dX3_findsLocks_118 (fun h => ?_)
    refine go_iadd (pc := 119) C dX3_findsLocks_119 ?_
    refine go_iload_n (pc := 120) C dX3_findsLocks_120 rfl 1 rfl ?_
    refine go_icmp_le (pc := 121) (tgt := 137) C dX3_findsLocks_121 (by decide) h (fun h => ?_) (fun h => ?_)
    · exact w3_findsLocks_137 hN C hE hK61 h
    · refine go_aload_n (pc := 124) C dX3_findsLocks_124 rfl 0 rfl ?_
      refine x3gr_63 (pc := 125) C dX3_findsLocks_125 ?_
      refine go_iload_n (pc := 128) C dX3_findsLocks_128 rfl 3 rfl ?_
      refine go_dup2 (pc := 129) C dX3_findsLocks_129 rfl rfl ?_
      refine go_iald (pc := 130) C x3aA_63 h dX3_findsLocks_130 (fun h => ?_)
      refine go_iconst (pc := 131) (v := (1 : Int32)) C dX3_findsLocks_131 (by decide) ?_
      refine go_iadd (pc := 132) C dX3_findsLocks_132 ?_
      refine go_iast (pc := 133) C x3pA_63 h dX3_findsLocks_133 (fun h => ?_)
      refine go_goto (pc := 134) (tgt := 86) C dX3_findsLocks_134 (by decide) ?_
      exact hK86 (bA s0 63 (v3).toNatClampNeg ((s0.2.1 63 (v3).toNatClampNeg) + (1 : Int32))) h
theorem w3_findsLocks_61 {Γ : Gam} {a : Nat → Nat} {v1 : Int32} {v2 : Int32} {s9 : Bl} (hN : Γ.nL = 7) (C : Cx Γ cX3_findsLocks RX3 (1, 0, 0) 24) (hE : Rets Γ cX3_findsLocks none 0 0 (fun v w => v = none ∧ w = (bW Γ.d 3 FK3 a s9))) : ∀ (n : Nat) (s : Bl × Int32), loop (g3_findsLocks_61 v1 v2) n s = some s9 → (fun s : Bl × Int32 => Go Γ 0 0 (bW Γ.d 3 FK3 a s.1) 61 [(0, .ref (a 0)), (1, .int v1), (2, .int v2), (3, .int s.2)] []) s := by
  refine loop_walk (P := fun s : Bl × Int32 => Go Γ 0 0 (bW Γ.d 3 FK3 a s.1) 61 [(0, .ref (a 0)), (1, .int v1), (2, .int v2), (3, .int s.2)] []) ?_
  intro K61 hK61 s h
  obtain ⟨s0, v3⟩ := s
  dsimp only [g3_findsLocks_61] at h
  show Go Γ 0 0 (bW Γ.d 3 FK3 a s0) 61 [(0, .ref (a 0)), (1, .int v1), (2, .int v2), (3, .int v3)] []
  refine go_iload_n (pc := 61) C dX3_findsLocks_61 rfl 3 rfl ?_
  refine go_if_lt (pc := 62) (tgt := 249) C dX3_findsLocks_62 (by decide) h (fun h => ?_) (fun h => ?_)
  · exact (hE 0 0 _ _ _ (Nat.zero_le _) (Nat.zero_le _)).2.2.2.1 rfl dX3_findsLocks_249 ⟨rfl, congrArg (fun z => bW Γ.d 3 FK3 a z) (some1 h)⟩
  · refine go_iload_n (pc := 65) C dX3_findsLocks_65 rfl 2 rfl ?_
    refine go_if_le (pc := 66) (tgt := 249) C dX3_findsLocks_66 (by decide) h (fun h => ?_) (fun h => ?_)
    · exact (hE 0 0 _ _ _ (Nat.zero_le _) (Nat.zero_le _)).2.2.2.1 rfl dX3_findsLocks_249 ⟨rfl, congrArg (fun z => bW Γ.d 3 FK3 a z) (some1 h)⟩
    · refine go_aload_n (pc := 69) C dX3_findsLocks_69 rfl 0 rfl ?_
      refine x3gr_63 (pc := 70) C dX3_findsLocks_70 ?_
      refine go_iload_n (pc := 73) C dX3_findsLocks_73 rfl 3 rfl ?_
      refine go_dup2 (pc := 74) C dX3_findsLocks_74 rfl rfl ?_
      refine go_iald (pc := 75) C x3aA_63 h dX3_findsLocks_75 (fun h => ?_)
      refine go_iconst (pc := 76) (v := (1 : Int32)) C dX3_findsLocks_76 (by decide) ?_
      refine go_iadd (pc := 77) C dX3_findsLocks_77 ?_
      refine go_iast (pc := 78) C x3pA_63 h dX3_findsLocks_78 (fun h => ?_)
      refine go_aload_n (pc := 79) C dX3_findsLocks_79 rfl 0 rfl ?_
      refine go_iload_n (pc := 80) C dX3_findsLocks_80 rfl 3 rfl ?_
      obtain ⟨r1, e1, h⟩ := bnd_some h
      refine go_callVi (pc := 81) C [.int v3] (m3_locksUsed e1) q1936 q1938 qs129 q144 q1939 x3pd_locksUsed (by decide) (by decide) bW_O x3c rfl (Nat.le_of_ble_eq_true rfl) ⟨Nat.zero_le _, Nat.zero_le _⟩ dX3_findsLocks_81 rfl ?_
      refine go_istore (pc := 84) C hN dX3_findsLocks_84 (by decide) rfl ?_
      refine go_sub [1, 2, 3, 4, 0] rfl ?_
      exact w3_findsLocks_86 hN C hE hK61 FU (bA s0 63 (v3).toNatClampNeg ((s0.2.1 63 (v3).toNatClampNeg) + (1 : Int32))) h
theorem w3_findsLocks_4 {Γ : Gam} {a : Nat → Nat} {v1 : Int32} {s9 : Bl} (hN : Γ.nL = 7) (C : Cx Γ cX3_findsLocks RX3 (1, 0, 0) 24) (hE : Rets Γ cX3_findsLocks none 0 0 (fun v w => v = none ∧ w = (bW Γ.d 3 FK3 a s9))) : ∀ (n : Nat) (s : Bl × Int32 × Int32), loop (g3_findsLocks_4 v1) n s = some s9 → (fun s : Bl × Int32 × Int32 => Go Γ 0 0 (bW Γ.d 3 FK3 a s.1) 4 [(0, .ref (a 0)), (1, .int v1), (2, .int s.2.1), (3, .int s.2.2)] []) s := by
  refine loop_walk (P := fun s : Bl × Int32 × Int32 => Go Γ 0 0 (bW Γ.d 3 FK3 a s.1) 4 [(0, .ref (a 0)), (1, .int v1), (2, .int s.2.1), (3, .int s.2.2)] []) ?_
  intro K4 hK4 s h
  obtain ⟨s0, v2, v3⟩ := s
  dsimp only [g3_findsLocks_4] at h
  show Go Γ 0 0 (bW Γ.d 3 FK3 a s0) 4 [(0, .ref (a 0)), (1, .int v1), (2, .int v2), (3, .int v3)] []
  refine go_iload_n (pc := 4) C dX3_findsLocks_4 rfl 3 rfl ?_
  refine go_aload_n (pc := 5) C dX3_findsLocks_5 rfl 0 rfl ?_
  refine x3gr_1 (pc := 6) C dX3_findsLocks_6 ?_
  refine go_iconst (pc := 9) (v := (3 : Int32)) C dX3_findsLocks_9 (by decide) ?_
  refine go_ialdK (pc := 10) (j := 3) C x3aA_1 (by decide) (by decide) dX3_findsLocks_10 ?_
  refine go_icmp_ge (pc := 11) (tgt := 39) C dX3_findsLocks_11 (by decide) h (fun h => ?_) (fun h => ?_)
  · refine go_aload_n (pc := 39) C dX3_findsLocks_39 rfl 0 rfl ?_
    refine go_iload_n (pc := 40) C dX3_findsLocks_40 rfl 2 rfl ?_
    refine go_if_ne (pc := 41) (tgt := 48) C dX3_findsLocks_41 (by decide) h (fun h => ?_) (fun h => ?_)
    · refine go_iconst (pc := 48) (v := (-1 : Int32)) C dX3_findsLocks_48 (by decide) ?_
      refine x3pi_66 (pc := 49) C dX3_findsLocks_49 ?_
      refine go_iconst (pc := 52) (v := (0 : Int32)) C dX3_findsLocks_52 (by decide) ?_
      refine go_istore_n (pc := 53) C hN dX3_findsLocks_53 rfl (by decide) rfl ?_
      refine go_aload_n (pc := 54) C dX3_findsLocks_54 rfl 1 rfl ?_
      refine x3gr_63 (pc := 55) C dX3_findsLocks_55 ?_
      refine go_iconst (pc := 58) (v := (0 : Int32)) C dX3_findsLocks_58 (by decide) ?_
      refine go_iconst (pc := 59) (v := (-1 : Int32)) C dX3_findsLocks_59 (by decide) ?_
      refine go_iastK (pc := 60) (j := 0) C x3pA_63 (by decide) (by decide) dX3_findsLocks_60 ?_
      refine go_sub [1, 2, 3, 0] rfl ?_
      exact w3_findsLocks_61 hN C hE FU ((bA (bI s0 66 (-1 : Int32)) 63 0 (-1 : Int32)), (0 : Int32)) h
    · refine go_iconst (pc := 44) (v := (0 : Int32)) C dX3_findsLocks_44 (by decide) ?_
      refine go_goto (pc := 45) (tgt := 49) C dX3_findsLocks_45 (by decide) ?_
      refine x3pi_66 (pc := 49) C dX3_findsLocks_49 ?_
      refine go_iconst (pc := 52) (v := (0 : Int32)) C dX3_findsLocks_52 (by decide) ?_
      refine go_istore_n (pc := 53) C hN dX3_findsLocks_53 rfl (by decide) rfl ?_
      refine go_aload_n (pc := 54) C dX3_findsLocks_54 rfl 1 rfl ?_
      refine x3gr_63 (pc := 55) C dX3_findsLocks_55 ?_
      refine go_iconst (pc := 58) (v := (0 : Int32)) C dX3_findsLocks_58 (by decide) ?_
      refine go_iconst (pc := 59) (v := (-1 : Int32)) C dX3_findsLocks_59 (by decide) ?_
      refine go_iastK (pc := 60) (j := 0) C x3pA_63 (by decide) (by decide) dX3_findsLocks_60 ?_
      refine go_sub [1, 2, 3, 0] rfl ?_
      exact w3_findsLocks_61 hN C hE FU ((bA (bI s0 66 (0 : Int32)) 63 0 (-1 : Int32)), (0 : Int32)) h
  · refine go_aload_n (pc := 14) C dX3_findsLocks_14 rfl 0 rfl ?_
    refine x3gr_9 (pc := 15) C dX3_findsLocks_15 ?_
    refine go_iload_n (pc := 18) C dX3_findsLocks_18 rfl 3 rfl ?_
    refine go_iald (pc := 19) C x3aA_9 h dX3_findsLocks_19 (fun h => ?_)
    refine go_if_ne (pc := 20) (tgt := 33) C dX3_findsLocks_20 (by decide) h (fun h => ?_) (fun h => ?_)
    · refine go_iinc (pc := 33) (v := (v3 + (1 : Int32))) C hN dX3_findsLocks_33 (q := 3) rfl rfl (by decide) rfl ?_
      refine go_goto (pc := 36) (tgt := 4) C dX3_findsLocks_36 (by decide) ?_
      refine go_sub [1, 2, 3, 0] rfl ?_
      exact hK4 (s0, v2, (v3 + (1 : Int32))) h
    · refine go_aload_n (pc := 23) C dX3_findsLocks_23 rfl 0 rfl ?_
      refine x3gr_65 (pc := 24) C dX3_findsLocks_24 ?_
      refine go_iload_n (pc := 27) C dX3_findsLocks_27 rfl 2 rfl ?_
      refine go_iload_n (pc := 28) C dX3_findsLocks_28 rfl 3 rfl ?_
      refine go_iast (pc := 29) C x3pA_65 h dX3_findsLocks_29 (fun h => ?_)
      refine go_iinc (pc := 30) (v := (v2 + (1 : Int32))) C hN dX3_findsLocks_30 (q := 2) rfl rfl (by decide) rfl ?_
      refine go_iinc (pc := 33) (v := (v3 + (1 : Int32))) C hN dX3_findsLocks_33 (q := 3) rfl rfl (by decide) rfl ?_
      refine go_goto (pc := 36) (tgt := 4) C dX3_findsLocks_36 (by decide) ?_
      refine go_sub [2, 3, 1, 0] rfl ?_
      exact hK4 ((bA s0 65 (v2).toNatClampNeg v3), (v2 + (1 : Int32)), (v3 + (1 : Int32))) h
theorem m3_findsLocks {l : Launch} {d : gD} {a : Nat → Nat} {s0 : Bl} {v1 : Int32} {s9 : Bl} (h : f3_findsLocks s0 v1 = some s9) : Mt l d yX3_findsLocks cX3_findsLocks 7 none (1, 0, 0) 24 (bW d 3 FK3 a s0) [.ref (a 0), .int v1] (fun v w => v = none ∧ w = (bW d 3 FK3 a s9)) := by
  refine Mt.of x3pn (Nat.le_of_ble_eq_true rfl) ?_
  intro Γ hl hd hN C hE
  subst hl; subst hd
  show Go Γ 0 0 (bW Γ.d 3 FK3 a s0) 0 [(0, .ref (a 0)), (1, .int v1)] []
  dsimp only [f3_findsLocks] at h
  refine go_iconst (pc := 0) (v := (0 : Int32)) C dX3_findsLocks_0 (by decide) ?_
  refine go_istore_n (pc := 1) C hN dX3_findsLocks_1 rfl (by decide) rfl ?_
  refine go_iconst (pc := 2) (v := (0 : Int32)) C dX3_findsLocks_2 (by decide) ?_
  refine go_istore_n (pc := 3) C hN dX3_findsLocks_3 rfl (by decide) rfl ?_
  refine go_sub [2, 3, 1, 0] rfl ?_
  exact w3_findsLocks_4 hN C hE FU (s0, (0 : Int32), (0 : Int32)) h
theorem w3_locks_92 {Γ : Gam} {a : Nat → Nat} {s0 : Bl} {v2 : Int32} {r9 : Int32} {s9 : Bl} (hN : Γ.nL = 5) (C : Cx Γ cX3_locks RX3 (3, 0, 0) 67) (hE : Rets Γ cX3_locks (some .int) 0 0 (fun v w => v = some (.int r9) ∧ w = (bW Γ.d 3 FK3 a s9))) : ∀ (n : Nat) (s : Int32 × Int32), loop (g3_locks_92 s0 v2) n s = some (r9, s9) → (fun s : Int32 × Int32 => Go Γ 0 0 (bW Γ.d 3 FK3 a s0) 92 [(0, .ref (a 0)), (2, .int v2), (3, .int s.1), (4, .int s.2)] []) s := by
  refine loop_walk (P := fun s : Int32 × Int32 => Go Γ 0 0 (bW Γ.d 3 FK3 a s0) 92 [(0, .ref (a 0)), (2, .int v2), (3, .int s.1), (4, .int s.2)] []) ?_
  intro K92 hK92 s h
  obtain ⟨v3, v4⟩ := s
  dsimp only [g3_locks_92] at h
  show Go Γ 0 0 (bW Γ.d 3 FK3 a s0) 92 [(0, .ref (a 0)), (2, .int v2), (3, .int v3), (4, .int v4)] []
  refine go_iload (pc := 92) C dX3_locks_92 3 rfl ?_
  refine go_iload_n (pc := 94) C dX3_locks_94 rfl 1 rfl ?_
  refine go_iconst (pc := 95) (v := (1 : Int32)) C dX3_locks_95 (by decide) ?_
  refine go_isub (pc := 96) C dX3_locks_96 ?_
  refine go_icmp_ge (pc := 97) (tgt := 123) C dX3_locks_97 (by decide) h (fun h => ?_) (fun h => ?_)
  · refine go_aload_n (pc := 123) C dX3_locks_123 rfl 0 rfl ?_
    refine go_iload_n (pc := 124) C dX3_locks_124 rfl 1 rfl ?_
    refine go_iconst (pc := 125) (v := (1 : Int32)) C dX3_locks_125 (by decide) ?_
    refine go_isub (pc := 126) C dX3_locks_126 ?_
    obtain ⟨r5, e5, h⟩ := bnd_some h
    refine go_callVi (pc := 127) C [.int (v2 - (1 : Int32))] (m3_isAfloat e5) q1728 q1730 qs94 q144 q1731 x3pd_isAfloat (by decide) (by decide) bW_O x3c rfl (Nat.le_of_ble_eq_true rfl) ⟨Nat.zero_le _, Nat.zero_le _⟩ dX3_locks_127 rfl ?_
    refine go_if_eq (pc := 130) (tgt := 142) C dX3_locks_130 (by decide) h (fun h => ?_) (fun h => ?_)
    · refine go_iconst (pc := 142) (v := (-1 : Int32)) C dX3_locks_142 (by decide) ?_
      exact (hE 0 0 _ _ _ (Nat.zero_le _) (Nat.zero_le _)).1 _ rfl dX3_locks_143 ⟨congrArg (fun z => some (Value.int z)) (some2 h).1, congrArg (fun z => bW Γ.d 3 FK3 a z) (some2 h).2⟩
    · refine go_aload_n (pc := 133) C dX3_locks_133 rfl 0 rfl ?_
      refine x3gr_64 (pc := 134) C dX3_locks_134 ?_
      refine go_iload_n (pc := 137) C dX3_locks_137 rfl 2 rfl ?_
      refine go_iald (pc := 138) C x3aA_64 h dX3_locks_138 (fun h => ?_)
      refine go_goto (pc := 139) (tgt := 143) C dX3_locks_139 (by decide) ?_
      exact (hE 0 0 _ _ _ (Nat.zero_le _) (Nat.zero_le _)).1 _ rfl dX3_locks_143 ⟨congrArg (fun z => some (Value.int z)) (some2 h).1, congrArg (fun z => bW Γ.d 3 FK3 a z) (some2 h).2⟩
  · refine go_iload_n (pc := 100) C dX3_locks_100 rfl 2 rfl ?_
    refine go_aload_n (pc := 101) C dX3_locks_101 rfl 0 rfl ?_
    refine go_iload (pc := 102) C dX3_locks_102 3 rfl ?_
    obtain ⟨r6, e6, h⟩ := bnd_some h
    refine go_callVi (pc := 104) C [.int v4] (m3_isAfloat e6) q1728 q1730 qs94 q144 q1731 x3pd_isAfloat (by decide) (by decide) bW_O x3c rfl (Nat.le_of_ble_eq_true rfl) ⟨Nat.zero_le _, Nat.zero_le _⟩ dX3_locks_104 rfl ?_
    refine go_if_eq (pc := 107) (tgt := 114) C dX3_locks_107 (by decide) h (fun h => ?_) (fun h => ?_)
    · refine go_iconst (pc := 114) (v := (0 : Int32)) C dX3_locks_114 (by decide) ?_
      refine go_iadd (pc := 115) C dX3_locks_115 ?_
      refine go_istore_n (pc := 116) C hN dX3_locks_116 rfl (by decide) rfl ?_
      refine go_iinc (pc := 117) (v := (v4 + (1 : Int32))) C hN dX3_locks_117 (q := 3) rfl rfl (by decide) rfl ?_
      refine go_goto (pc := 120) (tgt := 92) C dX3_locks_120 (by decide) ?_
      refine go_sub [2, 3, 1, 0] rfl ?_
      exact hK92 ((v3 + (0 : Int32)), (v4 + (1 : Int32))) h
    · refine go_iconst (pc := 110) (v := (1 : Int32)) C dX3_locks_110 (by decide) ?_
      refine go_goto (pc := 111) (tgt := 115) C dX3_locks_111 (by decide) ?_
      refine go_iadd (pc := 115) C dX3_locks_115 ?_
      refine go_istore_n (pc := 116) C hN dX3_locks_116 rfl (by decide) rfl ?_
      refine go_iinc (pc := 117) (v := (v4 + (1 : Int32))) C hN dX3_locks_117 (q := 3) rfl rfl (by decide) rfl ?_
      refine go_goto (pc := 120) (tgt := 92) C dX3_locks_120 (by decide) ?_
      refine go_sub [2, 3, 1, 0] rfl ?_
      exact hK92 ((v3 + (1 : Int32)), (v4 + (1 : Int32))) h
theorem w3_locks_35 {Γ : Gam} {a : Nat → Nat} {s0 : Bl} {v1 : Int32} {v2 : Int32} {r9 : Int32} {s9 : Bl} (hN : Γ.nL = 5) (C : Cx Γ cX3_locks RX3 (3, 0, 0) 67) (hE : Rets Γ cX3_locks (some .int) 0 0 (fun v w => v = some (.int r9) ∧ w = (bW Γ.d 3 FK3 a s9))) : ∀ (n : Nat) (s : Int32), loop (g3_locks_35 s0 v1 v2) n s = some (r9, s9) → (fun s : Int32 => Go Γ 0 0 (bW Γ.d 3 FK3 a s0) 35 [(0, .ref (a 0)), (1, .int v1), (2, .int v2), (3, .int s)] []) s := by
  refine loop_walk (P := fun s : Int32 => Go Γ 0 0 (bW Γ.d 3 FK3 a s0) 35 [(0, .ref (a 0)), (1, .int v1), (2, .int v2), (3, .int s)] []) ?_
  intro K35 hK35 s h
  obtain ⟨v3, rfl⟩ : ∃ z, z = s := ⟨_, rfl⟩
  dsimp only [g3_locks_35] at h
  show Go Γ 0 0 (bW Γ.d 3 FK3 a s0) 35 [(0, .ref (a 0)), (1, .int v1), (2, .int v2), (3, .int v3)] []
  refine go_iload_n (pc := 35) C dX3_locks_35 rfl 3 rfl ?_
  refine go_aload_n (pc := 36) C dX3_locks_36 rfl 0 rfl ?_
  refine x3gr_1 (pc := 37) C dX3_locks_37 ?_
  refine go_iconst (pc := 40) (v := (3 : Int32)) C dX3_locks_40 (by decide) ?_
  refine go_ialdK (pc := 41) (j := 3) C x3aA_1 (by decide) (by decide) dX3_locks_41 ?_
  refine go_icmp_ge (pc := 42) (tgt := 73) C dX3_locks_42 (by decide) h (fun h => ?_) (fun h => ?_)
  · refine go_aload_n (pc := 73) C dX3_locks_73 rfl 0 rfl ?_
    refine go_iload_n (pc := 74) C dX3_locks_74 rfl 1 rfl ?_
    obtain ⟨s4, e4, h⟩ := bnd_some h
    refine go_callVv (pc := 75) C [.int v1] (m3_findsLocks e4) q1932 q1934 qs128 q144 q1935 x3pd_findsLocks (by decide) (by decide) bW_O x3c rfl (Nat.le_of_ble_eq_true rfl) ⟨Nat.zero_le _, Nat.zero_le _⟩ dX3_locks_75 rfl ?_
    refine go_iload_n (pc := 78) C dX3_locks_78 rfl 2 rfl ?_
    refine go_if_ne (pc := 79) (tgt := 87) C dX3_locks_79 (by decide) h (fun h => ?_) (fun h => ?_)
    · refine go_iconst (pc := 87) (v := (0 : Int32)) C dX3_locks_87 (by decide) ?_
      refine go_istore_n (pc := 88) C hN dX3_locks_88 rfl (by decide) rfl ?_
      refine go_iconst (pc := 89) (v := (0 : Int32)) C dX3_locks_89 (by decide) ?_
      refine go_istore (pc := 90) C hN dX3_locks_90 (by decide) rfl ?_
      refine go_sub [2, 4, 1, 0] rfl ?_
      exact w3_locks_92 hN C hE FU ((0 : Int32), (0 : Int32)) h
    · refine go_aload_n (pc := 82) C dX3_locks_82 rfl 0 rfl ?_
      refine x3gi_66 (pc := 83) C dX3_locks_83 ?_
      exact (hE 0 0 _ _ _ (Nat.zero_le _) (Nat.zero_le _)).1 _ rfl dX3_locks_86 ⟨congrArg (fun z => some (Value.int z)) (some2 h).1, congrArg (fun z => bW Γ.d 3 FK3 a z) (some2 h).2⟩
  · refine go_aload_n (pc := 45) C dX3_locks_45 rfl 0 rfl ?_
    refine x3gr_9 (pc := 46) C dX3_locks_46 ?_
    refine go_iload_n (pc := 49) C dX3_locks_49 rfl 3 rfl ?_
    refine go_iald (pc := 50) C x3aA_9 h dX3_locks_50 (fun h => ?_)
    refine go_if_ne (pc := 51) (tgt := 67) C dX3_locks_51 (by decide) h (fun h => ?_) (fun h => ?_)
    · refine go_iinc (pc := 67) (v := (v3 + (1 : Int32))) C hN dX3_locks_67 (q := 3) rfl rfl (by decide) rfl ?_
      refine go_goto (pc := 70) (tgt := 35) C dX3_locks_70 (by decide) ?_
      refine go_sub [1, 2, 3, 0] rfl ?_
      exact hK35 (v3 + (1 : Int32)) h
    · refine go_aload_n (pc := 54) C dX3_locks_54 rfl 0 rfl ?_
      refine x3gr_6 (pc := 55) C dX3_locks_55 ?_
      refine go_iload_n (pc := 58) C dX3_locks_58 rfl 3 rfl ?_
      refine go_iald (pc := 59) C x3aA_6 h dX3_locks_59 (fun h => ?_)
      refine go_iload_n (pc := 60) C dX3_locks_60 rfl 1 rfl ?_
      refine go_icmp_le (pc := 61) (tgt := 67) C dX3_locks_61 (by decide) h (fun h => ?_) (fun h => ?_)
      · refine go_iinc (pc := 67) (v := (v3 + (1 : Int32))) C hN dX3_locks_67 (q := 3) rfl rfl (by decide) rfl ?_
        refine go_goto (pc := 70) (tgt := 35) C dX3_locks_70 (by decide) ?_
        refine go_sub [1, 2, 3, 0] rfl ?_
        exact hK35 (v3 + (1 : Int32)) h
      · refine go_bipush (pc := 64) (v := (-2 : Int32)) C dX3_locks_64 (by decide) ?_
        exact (hE 0 0 _ _ _ (Nat.zero_le _) (Nat.zero_le _)).1 _ rfl dX3_locks_66 ⟨congrArg (fun z => some (Value.int z)) (some2 h).1, congrArg (fun z => bW Γ.d 3 FK3 a z) (some2 h).2⟩
theorem m3_locks {l : Launch} {d : gD} {a : Nat → Nat} {s0 : Bl} {v1 : Int32} {v2 : Int32} {r9 : Int32} {s9 : Bl} (h : f3_locks s0 v1 v2 = some (r9, s9)) : Mt l d yX3_locks cX3_locks 5 (some .int) (3, 0, 0) 67 (bW d 3 FK3 a s0) [.ref (a 0), .int v1, .int v2] (fun v w => v = some (.int r9) ∧ w = (bW d 3 FK3 a s9)) := by
  refine Mt.of x3pn (Nat.le_of_ble_eq_true rfl) ?_
  intro Γ hl hd hN C hE
  subst hl; subst hd
  show Go Γ 0 0 (bW Γ.d 3 FK3 a s0) 0 [(0, .ref (a 0)), (1, .int v1), (2, .int v2)] []
  dsimp only [f3_locks] at h
  refine go_aload_n (pc := 0) C dX3_locks_0 rfl 0 rfl ?_
  obtain ⟨r1, e1, h⟩ := bnd_some h
  refine go_callVi (pc := 1) C [] (m3_isRiver e1) q1716 q1718 qs92 q144 q1719 x3pd_isRiver (by decide) (by decide) bW_O x3c rfl (Nat.le_of_ble_eq_true rfl) ⟨Nat.zero_le _, Nat.zero_le _⟩ dX3_locks_1 rfl ?_
  refine go_if_eq (pc := 4) (tgt := 31) C dX3_locks_4 (by decide) h (fun h => ?_) (fun h => ?_)
  · refine go_iconst (pc := 31) (v := (-1 : Int32)) C dX3_locks_31 (by decide) ?_
    exact (hE 0 0 _ _ _ (Nat.zero_le _) (Nat.zero_le _)).1 _ rfl dX3_locks_32 ⟨congrArg (fun z => some (Value.int z)) (some2 h).1, congrArg (fun z => bW Γ.d 3 FK3 a z) (some2 h).2⟩
  · refine go_iload_n (pc := 7) C dX3_locks_7 rfl 1 rfl ?_
    refine go_i2l (pc := 8) C dX3_locks_8 ?_
    refine go_lconst (pc := 9) (v := (1 : Int64)) C dX3_locks_9 (by decide) ?_
    refine go_ldc2 (pc := 10) C dX3_locks_10 q1930 ?_
    obtain ⟨r2, e2, h⟩ := bnd_some h
    refine go_callSi (pc := 13) C [.long (v1).toInt64, .long (1 : Int64), .long (200 : Int64)] (m3_in e2) q1564 q1565 q144 q1566 x3pd_in (by decide) (by decide) rfl (Nat.le_of_ble_eq_true rfl) ⟨Nat.zero_le _, Nat.zero_le _⟩ dX3_locks_13 rfl ?_
    refine go_if_eq (pc := 16) (tgt := 31) C dX3_locks_16 (by decide) h (fun h => ?_) (fun h => ?_)
    · refine go_iconst (pc := 31) (v := (-1 : Int32)) C dX3_locks_31 (by decide) ?_
      exact (hE 0 0 _ _ _ (Nat.zero_le _) (Nat.zero_le _)).1 _ rfl dX3_locks_32 ⟨congrArg (fun z => some (Value.int z)) (some2 h).1, congrArg (fun z => bW Γ.d 3 FK3 a z) (some2 h).2⟩
    · refine go_iload_n (pc := 19) C dX3_locks_19 rfl 2 rfl ?_
      refine go_i2l (pc := 20) C dX3_locks_20 ?_
      refine go_lconst (pc := 21) (v := (0 : Int64)) C dX3_locks_21 (by decide) ?_
      refine go_ldc2 (pc := 22) C dX3_locks_22 q1931 ?_
      obtain ⟨r3, e3, h⟩ := bnd_some h
      refine go_callSi (pc := 25) C [.long (v2).toInt64, .long (0 : Int64), .long (8 : Int64)] (m3_in e3) q1564 q1565 q144 q1566 x3pd_in (by decide) (by decide) rfl (Nat.le_of_ble_eq_true rfl) ⟨Nat.zero_le _, Nat.zero_le _⟩ dX3_locks_25 rfl ?_
      refine go_if_ne (pc := 28) (tgt := 33) C dX3_locks_28 (by decide) h (fun h => ?_) (fun h => ?_)
      · refine go_iconst (pc := 33) (v := (0 : Int32)) C dX3_locks_33 (by decide) ?_
        refine go_istore_n (pc := 34) C hN dX3_locks_34 rfl (by decide) rfl ?_
        refine go_sub [1, 2, 3, 0] rfl ?_
        exact w3_locks_35 hN C hE FU (0 : Int32) h
      · refine go_iconst (pc := 31) (v := (-1 : Int32)) C dX3_locks_31 (by decide) ?_
        exact (hE 0 0 _ _ _ (Nat.zero_le _) (Nat.zero_le _)).1 _ rfl dX3_locks_32 ⟨congrArg (fun z => some (Value.int z)) (some2 h).1, congrArg (fun z => bW Γ.d 3 FK3 a z) (some2 h).2⟩
theorem m3_ropeBetween {l : Launch} {d : gD} {a : Nat → Nat} {s0 : Bl} {v1 : Int32} {v2 : Int32} {r9 : Int32} (h : f3_ropeBetween s0 v1 v2 = some r9) : Mt l d yX3_ropeBetween cX3_ropeBetween 4 (some .int) (0, 0, 0) 0 (bW d 3 FK3 a s0) [.ref (a 0), .int v1, .int v2] (fun v w => v = some (.int r9) ∧ w = (bW d 3 FK3 a s0)) := by
  refine Mt.of x3pn (Nat.le_of_ble_eq_true rfl) ?_
  intro Γ hl hd hN C hE
  subst hl; subst hd
  show Go Γ 0 0 (bW Γ.d 3 FK3 a s0) 0 [(0, .ref (a 0)), (1, .int v1), (2, .int v2)] []
  dsimp only [f3_ropeBetween] at h
  refine go_aload_n (pc := 0) C dX3_ropeBetween_0 rfl 0 rfl ?_
  refine x3gr_6 (pc := 1) C dX3_ropeBetween_1 ?_
  refine go_iload_n (pc := 4) C dX3_ropeBetween_4 rfl 1 rfl ?_
  refine go_iald (pc := 5) C x3aA_6 h dX3_ropeBetween_5 (fun h => ?_)
  refine go_aload_n (pc := 6) C dX3_ropeBetween_6 rfl 0 rfl ?_
  refine x3gr_6 (pc := 7) C dX3_ropeBetween_7 ?_
  refine go_iload_n (pc := 10) C dX3_ropeBetween_10 rfl 2 rfl ?_
  refine go_iald (pc := 11) C x3aA_6 h dX3_ropeBetween_11 (fun h => ?_)
  refine go_icmp_ge (pc := 12) (tgt := 31) C dX3_ropeBetween_12 (by decide) h (fun h => ?_) (fun h => ?_)
  · refine go_aload_n (pc := 31) C dX3_ropeBetween_31 rfl 0 rfl ?_
    refine x3gr_6 (pc := 32) C dX3_ropeBetween_32 ?_
    refine go_iload_n (pc := 35) C dX3_ropeBetween_35 rfl 1 rfl ?_
    refine go_iald (pc := 36) C x3aA_6 h dX3_ropeBetween_36 (fun h => ?_)
    refine go_aload_n (pc := 37) C dX3_ropeBetween_37 rfl 0 rfl ?_
    refine x3gr_6 (pc := 38) C dX3_ropeBetween_38 ?_
    refine go_iload_n (pc := 41) C dX3_ropeBetween_41 rfl 2 rfl ?_
    refine go_iald (pc := 42) C x3aA_6 h dX3_ropeBetween_42 (fun h => ?_)
    refine go_isub (pc := 43) C dX3_ropeBetween_43 ?_
    refine go_istore_n (pc := 44) C hN dX3_ropeBetween_44 rfl (by decide) rfl ?_
    refine go_iconst (pc := 45) (v := (1 : Int32)) C dX3_ropeBetween_45 (by decide) ?_
    refine go_iload_n (pc := 46) C dX3_ropeBetween_46 rfl 0 rfl ?_
    refine go_iconst (pc := 47) (v := (5 : Int32)) C dX3_ropeBetween_47 (by decide) ?_
    refine go_idiv (pc := 48) C dX3_ropeBetween_48 (by decide) ?_
    refine go_iadd (pc := 49) C dX3_ropeBetween_49 ?_
    exact (hE 0 0 _ _ _ (Nat.zero_le _) (Nat.zero_le _)).1 _ rfl dX3_ropeBetween_50 ⟨congrArg (fun z => some (Value.int z)) (some1 h), rfl⟩
  · refine go_aload_n (pc := 15) C dX3_ropeBetween_15 rfl 0 rfl ?_
    refine x3gr_6 (pc := 16) C dX3_ropeBetween_16 ?_
    refine go_iload_n (pc := 19) C dX3_ropeBetween_19 rfl 2 rfl ?_
    refine go_iald (pc := 20) C x3aA_6 h dX3_ropeBetween_20 (fun h => ?_)
    refine go_aload_n (pc := 21) C dX3_ropeBetween_21 rfl 0 rfl ?_
    refine x3gr_6 (pc := 22) C dX3_ropeBetween_22 ?_
    refine go_iload_n (pc := 25) C dX3_ropeBetween_25 rfl 1 rfl ?_
    refine go_iald (pc := 26) C x3aA_6 h dX3_ropeBetween_26 (fun h => ?_)
    refine go_isub (pc := 27) C dX3_ropeBetween_27 ?_
    refine go_goto (pc := 28) (tgt := 44) C dX3_ropeBetween_28 (by decide) ?_
    refine go_istore_n (pc := 44) C hN dX3_ropeBetween_44 rfl (by decide) rfl ?_
    refine go_iconst (pc := 45) (v := (1 : Int32)) C dX3_ropeBetween_45 (by decide) ?_
    refine go_iload_n (pc := 46) C dX3_ropeBetween_46 rfl 0 rfl ?_
    refine go_iconst (pc := 47) (v := (5 : Int32)) C dX3_ropeBetween_47 (by decide) ?_
    refine go_idiv (pc := 48) C dX3_ropeBetween_48 (by decide) ?_
    refine go_iadd (pc := 49) C dX3_ropeBetween_49 ?_
    exact (hE 0 0 _ _ _ (Nat.zero_le _) (Nat.zero_le _)).1 _ rfl dX3_ropeBetween_50 ⟨congrArg (fun z => some (Value.int z)) (some1 h), rfl⟩
theorem w3_delta_262 {Γ : Gam} {a : Nat → Nat} {v1 : Int32} {v2 : Int32} {v3 : Int32} {v4 : Int32} {v7 : Int32} {v8 : Int32} {r9 : Int32} {s9 : Bl} {K71 : Bl × Int32 × Int32 × Int32 → Option (Int32 × Bl)} (hN : Γ.nL = 10) (C : Cx Γ cX3_delta RX3 (3, 0, 0) 70) (hE : Rets Γ cX3_delta (some .int) 0 0 (fun v w => v = some (.int r9) ∧ w = (bW Γ.d 3 FK3 a s9)))
    (hK71 : ∀ s, K71 s = some (r9, s9) → (fun s : Bl × Int32 × Int32 × Int32 => Go Γ 0 0 (bW Γ.d 3 FK3 a s.1) 71 [(0, .ref (a 0)), (1, .int v1), (2, .int s.2.1), (3, .int s.2.2.1), (4, .int s.2.2.2)] []) s) : ∀ (n : Nat) (s : Bl × Int32), loop (g3_delta_262 v1 v2 v3 v4 v7 v8 K71) n s = some (r9, s9) → (fun s : Bl × Int32 => Go Γ 0 0 (bW Γ.d 3 FK3 a s.1) 262 [(0, .ref (a 0)), (1, .int v1), (2, .int v2), (3, .int v3), (4, .int v4), (7, .int v7), (8, .int v8), (9, .int s.2)] []) s := by
  refine loop_walk (P := fun s : Bl × Int32 => Go Γ 0 0 (bW Γ.d 3 FK3 a s.1) 262 [(0, .ref (a 0)), (1, .int v1), (2, .int v2), (3, .int v3), (4, .int v4), (7, .int v7), (8, .int v8), (9, .int s.2)] []) ?_
  intro K262 hK262 s h
  obtain ⟨s0, v9⟩ := s
  dsimp only [g3_delta_262] at h
  show Go Γ 0 0 (bW Γ.d 3 FK3 a s0) 262 [(0, .ref (a 0)), (1, .int v1), (2, .int v2), (3, .int v3), (4, .int v4), (7, .int v7), (8, .int v8), (9, .int v9)] []
  refine go_iload (pc := 262) C dX3_delta_262 7 rfl ?_
  refine go_aload_n (pc := 264) C dX3_delta_264 rfl 0 rfl ?_
  refine x3gr_1 (pc := 265) C dX3_delta_265 ?_
  refine go_iconst (pc := 268) (v := (3 : Int32)) C dX3_delta_268 (by decide) ?_
  refine go_ialdK (pc := 269) (j := 3) C x3aA_1 (by decide) (by decide) dX3_delta_269 ?_
  refine go_icmp_ge (pc := 270) (tgt := 310) C dX3_delta_270 (by decide) h (fun h => ?_) (fun h => ?_)
  · refine go_goto (pc := 310) (tgt := 71) C dX3_delta_310 (by decide) ?_
    refine go_sub [0, 1, 2, 3, 4] rfl ?_
    exact hK71 (s0, v2, v3, v4) h
  · refine go_aload_n (pc := 273) C dX3_delta_273 rfl 0 rfl ?_
    refine x3gr_67 (pc := 274) C dX3_delta_274 ?_
    refine go_iload (pc := 277) C dX3_delta_277 7 rfl ?_
    refine go_aload_n (pc := 279) C dX3_delta_279 rfl 0 rfl ?_
    refine x3gr_67 (pc := 280) C dX3_delta_280 ?_
    refine go_iload (pc := 283) C dX3_delta_283 7 rfl ?_
    refine go_iald (pc := 285) C x3aA_67 h dX3_delta_285 (fun h => ?_)
    refine go_iload (pc := 286) C dX3_delta_286 5 rfl ?_
    refine go_icmp_ne (pc := 288) (tgt := 296) C dX3_delta_288 (by decide) h (fun h => ?_) (fun h => ?_)
    · refine go_aload_n (pc := 296) C dX3_delta_296 rfl 0 rfl ?_
      refine x3gr_67 (pc := 297) C dX3_delta_297 ?_
      refine go_iload (pc := 300) C dX3_delta_300 7 rfl ?_
      refine go_iald (pc := 302) C x3aA_67 h dX3_delta_302 (fun h => ?_)
      refine go_iast (pc := 303) C x3pA_67 h dX3_delta_303 (fun h => ?_)
      refine go_iinc (pc := 304) (v := (v9 + (1 : Int32))) C hN dX3_delta_304 (q := 7) rfl rfl (by decide) rfl ?_
      refine go_goto (pc := 307) (tgt := 262) C dX3_delta_307 (by decide) ?_
      refine go_sub [1, 2, 3, 4, 5, 6, 7, 0] rfl ?_
      exact hK262 ((bA s0 67 (v9).toNatClampNeg (s0.2.1 67 (v9).toNatClampNeg)), (v9 + (1 : Int32))) h
    · refine go_iload (pc := 291) C dX3_delta_291 6 rfl ?_
      refine go_goto (pc := 293) (tgt := 303) C dX3_delta_293 (by decide) ?_
      refine go_iast (pc := 303) C x3pA_67 h dX3_delta_303 (fun h => ?_)
      refine go_iinc (pc := 304) (v := (v9 + (1 : Int32))) C hN dX3_delta_304 (q := 7) rfl rfl (by decide) rfl ?_
      refine go_goto (pc := 307) (tgt := 262) C dX3_delta_307 (by decide) ?_
      refine go_sub [1, 2, 3, 4, 5, 6, 7, 0] rfl ?_
      exact hK262 ((bA s0 67 (v9).toNatClampNeg v8), (v9 + (1 : Int32))) h
theorem w3_delta_220 {Γ : Gam} {a : Nat → Nat} {v1 : Int32} {s0 : Bl} {v2 : Int32} {v3 : Int32} {v5 : Int32} {v6 : Int32} {z0 : Int32} {r9 : Int32} {s9 : Bl} {K71 : Bl × Int32 × Int32 × Int32 → Option (Int32 × Bl)} (hN : Γ.nL = 10) (C : Cx Γ cX3_delta RX3 (3, 0, 0) 70) (hE : Rets Γ cX3_delta (some .int) 0 0 (fun v w => v = some (.int r9) ∧ w = (bW Γ.d 3 FK3 a s9)))
    (hK71 : ∀ s, K71 s = some (r9, s9) → (fun s : Bl × Int32 × Int32 × Int32 => Go Γ 0 0 (bW Γ.d 3 FK3 a s.1) 71 [(0, .ref (a 0)), (1, .int v1), (2, .int s.2.1), (3, .int s.2.2.1), (4, .int s.2.2.2)] []) s) (h : g3_delta_220 K71 s0 v1 v2 v3 v5 v6 z0 = some (r9, s9)) : Go Γ 0 0 (bW Γ.d 3 FK3 a s0) 220 [(0, .ref (a 0)), (1, .int v1), (2, .int v2), (3, .int v3), (5, .int v5), (6, .int v6)] [.int z0] := by
  dsimp only [g3_delta_220] at h
  refine go_istore (pc := 220) C hN dX3_delta_220 (by decide) rfl ?_
  refine go_iload (pc := 222) C dX3_delta_222 0 rfl ?_
  refine go_if_eq (pc := 224) (tgt := 310) C dX3_delta_224 (by decide) h (fun h => ?_) (fun h => ?_)
  · refine go_goto (pc := 310) (tgt := 71) C dX3_delta_310 (by decide) ?_
    refine go_sub [1, 2, 3, 4, 0] rfl ?_
    exact hK71 (s0, v2, v3, z0) h
  · refine go_iload_n (pc := 227) C dX3_delta_227 rfl 3 rfl ?_
    refine go_aload_n (pc := 228) C dX3_delta_228 rfl 1 rfl ?_
    refine go_iload (pc := 229) C dX3_delta_229 5 rfl ?_
    refine go_iload (pc := 231) C dX3_delta_231 6 rfl ?_
    obtain ⟨r3, e3, h⟩ := bnd_some h
    refine go_callVi (pc := 233) C [.int v5, .int v6] (m3_ropeBetween e3) q1948 q1950 qs131 q144 q1951 x3pd_ropeBetween (by decide) (by decide) bW_O x3c rfl (Nat.le_of_ble_eq_true rfl) ⟨Nat.zero_le _, Nat.zero_le _⟩ dX3_delta_233 rfl ?_
    refine go_iadd (pc := 236) C dX3_delta_236 ?_
    refine go_istore_n (pc := 237) C hN dX3_delta_237 rfl (by decide) rfl ?_
    refine go_iinc (pc := 238) (v := (v3 + (1 : Int32))) C hN dX3_delta_238 (q := 4) rfl rfl (by decide) rfl ?_
    refine go_aload_n (pc := 241) C dX3_delta_241 rfl 3 rfl ?_
    refine x3gr_67 (pc := 242) C dX3_delta_242 ?_
    refine go_iload (pc := 245) C dX3_delta_245 6 rfl ?_
    refine go_iald (pc := 247) C x3aA_67 h dX3_delta_247 (fun h => ?_)
    refine go_istore (pc := 248) C hN dX3_delta_248 (by decide) rfl ?_
    refine go_aload_n (pc := 250) C dX3_delta_250 rfl 4 rfl ?_
    refine x3gr_67 (pc := 251) C dX3_delta_251 ?_
    refine go_iload (pc := 254) C dX3_delta_254 6 rfl ?_
    refine go_iald (pc := 256) C x3aA_67 h dX3_delta_256 (fun h => ?_)
    refine go_istore (pc := 257) C hN dX3_delta_257 (by decide) rfl ?_
    refine go_iconst (pc := 259) (v := (0 : Int32)) C dX3_delta_259 (by decide) ?_
    refine go_istore (pc := 260) C hN dX3_delta_260 (by decide) rfl ?_
    refine go_sub [6, 7, 4, 3, 5, 2, 1, 0] rfl ?_
    exact w3_delta_262 hN C hE hK71 FU (s0, (0 : Int32)) h
theorem w3_delta_157 {Γ : Gam} {a : Nat → Nat} {v1 : Int32} {s0 : Bl} {v2 : Int32} {v3 : Int32} {v7 : Int32} {v5 : Int32} {v6 : Int32} {v8 : Int32} {z0 : Int32} {r9 : Int32} {s9 : Bl} {K71 : Bl × Int32 × Int32 × Int32 → Option (Int32 × Bl)} {K85 : Int32 × Int32 × Int32 → Option (Int32 × Bl)} {K102 : Int32 × Int32 × Int32 → Option (Int32 × Bl)} (hN : Γ.nL = 10) (C : Cx Γ cX3_delta RX3 (3, 0, 0) 70) (hE : Rets Γ cX3_delta (some .int) 0 0 (fun v w => v = some (.int r9) ∧ w = (bW Γ.d 3 FK3 a s9)))
    (hK71 : ∀ s, K71 s = some (r9, s9) → (fun s : Bl × Int32 × Int32 × Int32 => Go Γ 0 0 (bW Γ.d 3 FK3 a s.1) 71 [(0, .ref (a 0)), (1, .int v1), (2, .int s.2.1), (3, .int s.2.2.1), (4, .int s.2.2.2)] []) s)
    (hK85 : ∀ s, K85 s = some (r9, s9) → (fun s : Int32 × Int32 × Int32 => Go Γ 0 0 (bW Γ.d 3 FK3 a s0) 85 [(0, .ref (a 0)), (1, .int v1), (2, .int v2), (3, .int v3), (5, .int s.1), (6, .int s.2.1), (7, .int s.2.2)] []) s)
    (hK102 : ∀ s, K102 s = some (r9, s9) → (fun s : Int32 × Int32 × Int32 => Go Γ 0 0 (bW Γ.d 3 FK3 a s0) 102 [(0, .ref (a 0)), (1, .int v1), (2, .int v2), (3, .int v3), (5, .int s.1), (6, .int s.2.1), (7, .int v7), (8, .int s.2.2)] []) s) (h : g3_delta_157 K71 K85 K102 s0 v1 v2 v3 v5 v6 v7 v8 z0 = some (r9, s9)) : Go Γ 0 0 (bW Γ.d 3 FK3 a s0) 157 [(0, .ref (a 0)), (1, .int v1), (2, .int v2), (3, .int v3), (5, .int v5), (6, .int v6), (7, .int v7), (8, .int v8)] [.int z0] := by
  dsimp only [g3_delta_157] at h
  refine go_istore (pc := 157) C hN dX3_delta_157 (by decide) rfl ?_
  refine go_iload (pc := 159) C dX3_delta_159 0 rfl ?_
  refine go_if_eq (pc := 161) (tgt := 197) C dX3_delta_161 (by decide) h (fun h => ?_) (fun h => ?_)
  · refine go_iinc (pc := 197) (v := (v8 + (1 : Int32))) C hN dX3_delta_197 (q := 8) rfl rfl (by decide) rfl ?_
    refine go_goto (pc := 200) (tgt := 102) C dX3_delta_200 (by decide) ?_
    refine go_sub [2, 3, 4, 5, 6, 7, 8, 0] rfl ?_
    exact hK102 (v5, v6, (v8 + (1 : Int32))) h
  · refine go_iload (pc := 164) C dX3_delta_164 5 rfl ?_
    refine go_iconst (pc := 166) (v := (-1 : Int32)) C dX3_delta_166 (by decide) ?_
    refine go_icmp_eq (pc := 167) (tgt := 189) C dX3_delta_167 (by decide) h (fun h => ?_) (fun h => ?_)
    · refine go_iload (pc := 189) C dX3_delta_189 7 rfl ?_
      refine go_istore (pc := 191) C hN dX3_delta_191 (by decide) rfl ?_
      refine go_iload (pc := 193) C dX3_delta_193 8 rfl ?_
      refine go_istore (pc := 195) C hN dX3_delta_195 (by decide) rfl ?_
      refine go_iinc (pc := 197) (v := (v8 + (1 : Int32))) C hN dX3_delta_197 (q := 8) rfl rfl (by decide) rfl ?_
      refine go_goto (pc := 200) (tgt := 102) C dX3_delta_200 (by decide) ?_
      refine go_sub [4, 5, 6, 7, 2, 1, 8, 0] rfl ?_
      exact hK102 (v7, v8, (v8 + (1 : Int32))) h
    · refine go_aload_n (pc := 170) C dX3_delta_170 rfl 1 rfl ?_
      refine go_iload (pc := 171) C dX3_delta_171 7 rfl ?_
      refine go_iload (pc := 173) C dX3_delta_173 8 rfl ?_
      obtain ⟨r4, e4, h⟩ := bnd_some h
      refine go_callVi (pc := 175) C [.int v7, .int v8] (m3_ropeBetween e4) q1948 q1950 qs131 q144 q1951 x3pd_ropeBetween (by decide) (by decide) bW_O x3c rfl (Nat.le_of_ble_eq_true rfl) ⟨Nat.zero_le _, Nat.zero_le _⟩ dX3_delta_175 rfl ?_
      refine go_aload_n (pc := 178) C dX3_delta_178 rfl 1 rfl ?_
      refine go_iload (pc := 179) C dX3_delta_179 5 rfl ?_
      refine go_iload (pc := 181) C dX3_delta_181 6 rfl ?_
      obtain ⟨r5, e5, h⟩ := bnd_some h
      refine go_callVi (pc := 183) C [.int v5, .int v6] (m3_ropeBetween e5) q1948 q1950 qs131 q144 q1951 x3pd_ropeBetween (by decide) (by decide) bW_O x3c rfl (Nat.le_of_ble_eq_true rfl) ⟨Nat.zero_le _, Nat.zero_le _⟩ dX3_delta_183 rfl ?_
      refine go_icmp_ge (pc := 186) (tgt := 197) C dX3_delta_186 (by decide) h (fun h => ?_) (fun h => ?_)
      · refine go_iinc (pc := 197) (v := (v8 + (1 : Int32))) C hN dX3_delta_197 (q := 8) rfl rfl (by decide) rfl ?_
        refine go_goto (pc := 200) (tgt := 102) C dX3_delta_200 (by decide) ?_
        refine go_sub [2, 3, 4, 5, 6, 7, 8, 0] rfl ?_
        exact hK102 (v5, v6, (v8 + (1 : Int32))) h
      · refine go_iload (pc := 189) C dX3_delta_189 7 rfl ?_
        refine go_istore (pc := 191) C hN dX3_delta_191 (by decide) rfl ?_
        refine go_iload (pc := 193) C dX3_delta_193 8 rfl ?_
        refine go_istore (pc := 195) C hN dX3_delta_195 (by decide) rfl ?_
        refine go_iinc (pc := 197) (v := (v8 + (1 : Int32))) C hN dX3_delta_197 (q := 8) rfl rfl (by decide) rfl ?_
        refine go_goto (pc := 200) (tgt := 102) C dX3_delta_200 (by decide) ?_
        refine go_sub [4, 5, 6, 7, 2, 1, 8, 0] rfl ?_
        exact hK102 (v7, v8, (v8 + (1 : Int32))) h
theorem w3_delta_102 {Γ : Gam} {a : Nat → Nat} {s0 : Bl} {v1 : Int32} {v2 : Int32} {v3 : Int32} {v7 : Int32} {r9 : Int32} {s9 : Bl} {K71 : Bl × Int32 × Int32 × Int32 → Option (Int32 × Bl)} {K85 : Int32 × Int32 × Int32 → Option (Int32 × Bl)} (hN : Γ.nL = 10) (C : Cx Γ cX3_delta RX3 (3, 0, 0) 70) (hE : Rets Γ cX3_delta (some .int) 0 0 (fun v w => v = some (.int r9) ∧ w = (bW Γ.d 3 FK3 a s9)))
    (hK71 : ∀ s, K71 s = some (r9, s9) → (fun s : Bl × Int32 × Int32 × Int32 => Go Γ 0 0 (bW Γ.d 3 FK3 a s.1) 71 [(0, .ref (a 0)), (1, .int v1), (2, .int s.2.1), (3, .int s.2.2.1), (4, .int s.2.2.2)] []) s)
    (hK85 : ∀ s, K85 s = some (r9, s9) → (fun s : Int32 × Int32 × Int32 => Go Γ 0 0 (bW Γ.d 3 FK3 a s0) 85 [(0, .ref (a 0)), (1, .int v1), (2, .int v2), (3, .int v3), (5, .int s.1), (6, .int s.2.1), (7, .int s.2.2)] []) s) : ∀ (n : Nat) (s : Int32 × Int32 × Int32), loop (g3_delta_102 s0 v1 v2 v3 v7 K71 K85) n s = some (r9, s9) → (fun s : Int32 × Int32 × Int32 => Go Γ 0 0 (bW Γ.d 3 FK3 a s0) 102 [(0, .ref (a 0)), (1, .int v1), (2, .int v2), (3, .int v3), (5, .int s.1), (6, .int s.2.1), (7, .int v7), (8, .int s.2.2)] []) s := by
  refine loop_walk (P := fun s : Int32 × Int32 × Int32 => Go Γ 0 0 (bW Γ.d 3 FK3 a s0) 102 [(0, .ref (a 0)), (1, .int v1), (2, .int v2), (3, .int v3), (5, .int s.1), (6, .int s.2.1), (7, .int v7), (8, .int s.2.2)] []) ?_
  intro K102 hK102 s h
  obtain ⟨v5, v6, v8⟩ := s
  dsimp only [g3_delta_102] at h
  show Go Γ 0 0 (bW Γ.d 3 FK3 a s0) 102 [(0, .ref (a 0)), (1, .int v1), (2, .int v2), (3, .int v3), (5, .int v5), (6, .int v6), (7, .int v7), (8, .int v8)] []
  refine go_iload (pc := 102) C dX3_delta_102 7 rfl ?_
  refine go_aload_n (pc := 104) C dX3_delta_104 rfl 0 rfl ?_
  refine x3gr_1 (pc := 105) C dX3_delta_105 ?_
  refine go_iconst (pc := 108) (v := (3 : Int32)) C dX3_delta_108 (by decide) ?_
  refine go_ialdK (pc := 109) (j := 3) C x3aA_1 (by decide) (by decide) dX3_delta_109 ?_
  refine go_icmp_ge (pc := 110) (tgt := 203) C dX3_delta_110 (by decide) h (fun h => ?_) (fun h => ?_)
  · refine go_iinc (pc := 203) (v := (v7 + (1 : Int32))) C hN dX3_delta_203 (q := 6) rfl rfl (by decide) rfl ?_
    refine go_goto (pc := 206) (tgt := 85) C dX3_delta_206 (by decide) ?_
    refine go_sub [1, 2, 3, 4, 5, 6, 0] rfl ?_
    exact hK85 (v5, v6, (v7 + (1 : Int32))) h
  · refine go_aload_n (pc := 113) C dX3_delta_113 rfl 0 rfl ?_
    refine x3gr_67 (pc := 114) C dX3_delta_114 ?_
    refine go_iload (pc := 117) C dX3_delta_117 6 rfl ?_
    refine go_iald (pc := 119) C x3aA_67 h dX3_delta_119 (fun h => ?_)
    refine go_iconst (pc := 120) (v := (-1 : Int32)) C dX3_delta_120 (by decide) ?_
    refine go_icmp_eq (pc := 121) (tgt := 156) C dX3_delta_121 (by decide) h (fun h => ?_) (fun h => ?_)
    · refine go_iconst (pc := 156) (v := (0 : Int32)) C dX3_delta_156 (by decide) ?_
      exact w3_delta_157 hN C hE hK71 hK85 hK102 h
    · refine go_aload_n (pc := 124) C dX3_delta_124 rfl 0 rfl ?_
      refine x3gr_67 (pc := 125) C dX3_delta_125 ?_
      refine go_iload (pc := 128) C dX3_delta_128 7 rfl ?_
      refine go_iald (pc := 130) C x3aA_67 h dX3_delta_130 (fun h => ?_)
      refine go_iconst (pc := 131) (v := (-1 : Int32)) C dX3_delta_131 (by decide) ?_
      refine go_icmp_eq (pc := 132) (tgt := 156) C dX3_delta_132 (by decide) h (fun h => ?_) (fun h => ?_)
      · refine go_iconst (pc := 156) (v := (0 : Int32)) C dX3_delta_156 (by decide) ?_
        exact w3_delta_157 hN C hE hK71 hK85 hK102 h
      · refine go_aload_n (pc := 135) C dX3_delta_135 rfl 0 rfl ?_
        refine x3gr_67 (pc := 136) C dX3_delta_136 ?_
        refine go_iload (pc := 139) C dX3_delta_139 6 rfl ?_
        refine go_iald (pc := 141) C x3aA_67 h dX3_delta_141 (fun h => ?_)
        refine go_aload_n (pc := 142) C dX3_delta_142 rfl 0 rfl ?_
        refine x3gr_67 (pc := 143) C dX3_delta_143 ?_
        refine go_iload (pc := 146) C dX3_delta_146 7 rfl ?_
        refine go_iald (pc := 148) C x3aA_67 h dX3_delta_148 (fun h => ?_)
        refine go_icmp_eq (pc := 149) (tgt := 156) C dX3_delta_149 (by decide) h (fun h => ?_) (fun h => ?_)
        · refine go_iconst (pc := 156) (v := (0 : Int32)) C dX3_delta_156 (by decide) ?_
          exact w3_delta_157 hN C hE hK71 hK85 hK102 h
        · refine go_iconst (pc := 152) (v := (1 : Int32)) C dX3_delta_152 (by decide) ?_
          refine go_goto (pc := 153) (tgt := 157) C dX3_delta_153 (by decide) ?_
          exact w3_delta_157 hN C hE hK71 hK85 hK102 h
theorem w3_delta_85 {Γ : Gam} {a : Nat → Nat} {s0 : Bl} {v1 : Int32} {v2 : Int32} {v3 : Int32} {r9 : Int32} {s9 : Bl} {K71 : Bl × Int32 × Int32 × Int32 → Option (Int32 × Bl)} (hN : Γ.nL = 10) (C : Cx Γ cX3_delta RX3 (3, 0, 0) 70) (hE : Rets Γ cX3_delta (some .int) 0 0 (fun v w => v = some (.int r9) ∧ w = (bW Γ.d 3 FK3 a s9)))
    (hK71 : ∀ s, K71 s = some (r9, s9) → (fun s : Bl × Int32 × Int32 × Int32 => Go Γ 0 0 (bW Γ.d 3 FK3 a s.1) 71 [(0, .ref (a 0)), (1, .int v1), (2, .int s.2.1), (3, .int s.2.2.1), (4, .int s.2.2.2)] []) s) : ∀ (n : Nat) (s : Int32 × Int32 × Int32), loop (g3_delta_85 s0 v1 v2 v3 K71) n s = some (r9, s9) → (fun s : Int32 × Int32 × Int32 => Go Γ 0 0 (bW Γ.d 3 FK3 a s0) 85 [(0, .ref (a 0)), (1, .int v1), (2, .int v2), (3, .int v3), (5, .int s.1), (6, .int s.2.1), (7, .int s.2.2)] []) s := by
  refine loop_walk (P := fun s : Int32 × Int32 × Int32 => Go Γ 0 0 (bW Γ.d 3 FK3 a s0) 85 [(0, .ref (a 0)), (1, .int v1), (2, .int v2), (3, .int v3), (5, .int s.1), (6, .int s.2.1), (7, .int s.2.2)] []) ?_
  intro K85 hK85 s h
  obtain ⟨v5, v6, v7⟩ := s
  dsimp only [g3_delta_85] at h
  show Go Γ 0 0 (bW Γ.d 3 FK3 a s0) 85 [(0, .ref (a 0)), (1, .int v1), (2, .int v2), (3, .int v3), (5, .int v5), (6, .int v6), (7, .int v7)] []
  refine go_iload (pc := 85) C dX3_delta_85 6 rfl ?_
  refine go_aload_n (pc := 87) C dX3_delta_87 rfl 0 rfl ?_
  refine x3gr_1 (pc := 88) C dX3_delta_88 ?_
  refine go_iconst (pc := 91) (v := (3 : Int32)) C dX3_delta_91 (by decide) ?_
  refine go_ialdK (pc := 92) (j := 3) C x3aA_1 (by decide) (by decide) dX3_delta_92 ?_
  refine go_icmp_ge (pc := 93) (tgt := 209) C dX3_delta_93 (by decide) h (fun h => ?_) (fun h => ?_)
  · refine go_iload (pc := 209) C dX3_delta_209 4 rfl ?_
    refine go_iconst (pc := 211) (v := (-1 : Int32)) C dX3_delta_211 (by decide) ?_
    refine go_icmp_eq (pc := 212) (tgt := 219) C dX3_delta_212 (by decide) h (fun h => ?_) (fun h => ?_)
    · refine go_iconst (pc := 219) (v := (0 : Int32)) C dX3_delta_219 (by decide) ?_
      refine go_sub [0, 1, 2, 3, 4, 5] rfl ?_
      exact w3_delta_220 hN C hE hK71 h
    · refine go_iconst (pc := 215) (v := (1 : Int32)) C dX3_delta_215 (by decide) ?_
      refine go_goto (pc := 216) (tgt := 220) C dX3_delta_216 (by decide) ?_
      refine go_sub [0, 1, 2, 3, 4, 5] rfl ?_
      exact w3_delta_220 hN C hE hK71 h
  · refine go_iload (pc := 96) C dX3_delta_96 6 rfl ?_
    refine go_iconst (pc := 98) (v := (1 : Int32)) C dX3_delta_98 (by decide) ?_
    refine go_iadd (pc := 99) C dX3_delta_99 ?_
    refine go_istore (pc := 100) C hN dX3_delta_100 (by decide) rfl ?_
    refine go_sub [1, 2, 3, 4, 5, 6, 7, 0] rfl ?_
    exact w3_delta_102 hN C hE hK71 hK85 FU (v5, v6, (v7 + (1 : Int32))) h
theorem w3_delta_71 {Γ : Gam} {a : Nat → Nat} {v1 : Int32} {r9 : Int32} {s9 : Bl} (hN : Γ.nL = 10) (C : Cx Γ cX3_delta RX3 (3, 0, 0) 70) (hE : Rets Γ cX3_delta (some .int) 0 0 (fun v w => v = some (.int r9) ∧ w = (bW Γ.d 3 FK3 a s9))) : ∀ (n : Nat) (s : Bl × Int32 × Int32 × Int32), loop (g3_delta_71 v1) n s = some (r9, s9) → (fun s : Bl × Int32 × Int32 × Int32 => Go Γ 0 0 (bW Γ.d 3 FK3 a s.1) 71 [(0, .ref (a 0)), (1, .int v1), (2, .int s.2.1), (3, .int s.2.2.1), (4, .int s.2.2.2)] []) s := by
  refine loop_walk (P := fun s : Bl × Int32 × Int32 × Int32 => Go Γ 0 0 (bW Γ.d 3 FK3 a s.1) 71 [(0, .ref (a 0)), (1, .int v1), (2, .int s.2.1), (3, .int s.2.2.1), (4, .int s.2.2.2)] []) ?_
  intro K71 hK71 s h
  obtain ⟨s0, v2, v3, v4⟩ := s
  dsimp only [g3_delta_71] at h
  show Go Γ 0 0 (bW Γ.d 3 FK3 a s0) 71 [(0, .ref (a 0)), (1, .int v1), (2, .int v2), (3, .int v3), (4, .int v4)] []
  refine go_iload (pc := 71) C dX3_delta_71 4 rfl ?_
  refine go_if_eq (pc := 73) (tgt := 313) C dX3_delta_73 (by decide) h (fun h => ?_) (fun h => ?_)
  · refine go_iload_n (pc := 313) C dX3_delta_313 rfl 1 rfl ?_
    refine go_if_ne (pc := 314) (tgt := 321) C dX3_delta_314 (by decide) h (fun h => ?_) (fun h => ?_)
    · refine go_iload_n (pc := 321) C dX3_delta_321 rfl 3 rfl ?_
      exact (hE 0 0 _ _ _ (Nat.zero_le _) (Nat.zero_le _)).1 _ rfl dX3_delta_322 ⟨congrArg (fun z => some (Value.int z)) (some2 h).1, congrArg (fun z => bW Γ.d 3 FK3 a z) (some2 h).2⟩
    · refine go_iload_n (pc := 317) C dX3_delta_317 rfl 2 rfl ?_
      refine go_goto (pc := 318) (tgt := 322) C dX3_delta_318 (by decide) ?_
      exact (hE 0 0 _ _ _ (Nat.zero_le _) (Nat.zero_le _)).1 _ rfl dX3_delta_322 ⟨congrArg (fun z => some (Value.int z)) (some2 h).1, congrArg (fun z => bW Γ.d 3 FK3 a z) (some2 h).2⟩
  · refine go_iconst (pc := 76) (v := (-1 : Int32)) C dX3_delta_76 (by decide) ?_
    refine go_istore (pc := 77) C hN dX3_delta_77 (by decide) rfl ?_
    refine go_iconst (pc := 79) (v := (-1 : Int32)) C dX3_delta_79 (by decide) ?_
    refine go_istore (pc := 80) C hN dX3_delta_80 (by decide) rfl ?_
    refine go_iconst (pc := 82) (v := (0 : Int32)) C dX3_delta_82 (by decide) ?_
    refine go_istore (pc := 83) C hN dX3_delta_83 (by decide) rfl ?_
    refine go_sub [3, 4, 5, 6, 2, 1, 0] rfl ?_
    exact w3_delta_85 hN C hE hK71 FU ((-1 : Int32), (-1 : Int32), (0 : Int32)) h
theorem w3_delta_21 {Γ : Gam} {a : Nat → Nat} {v1 : Int32} {r9 : Int32} {s9 : Bl} (hN : Γ.nL = 10) (C : Cx Γ cX3_delta RX3 (3, 0, 0) 70) (hE : Rets Γ cX3_delta (some .int) 0 0 (fun v w => v = some (.int r9) ∧ w = (bW Γ.d 3 FK3 a s9))) : ∀ (n : Nat) (s : Bl × Int32), loop (g3_delta_21 v1) n s = some (r9, s9) → (fun s : Bl × Int32 => Go Γ 0 0 (bW Γ.d 3 FK3 a s.1) 21 [(0, .ref (a 0)), (1, .int v1), (2, .int s.2)] []) s := by
  refine loop_walk (P := fun s : Bl × Int32 => Go Γ 0 0 (bW Γ.d 3 FK3 a s.1) 21 [(0, .ref (a 0)), (1, .int v1), (2, .int s.2)] []) ?_
  intro K21 hK21 s h
  obtain ⟨s0, v2⟩ := s
  dsimp only [g3_delta_21] at h
  show Go Γ 0 0 (bW Γ.d 3 FK3 a s0) 21 [(0, .ref (a 0)), (1, .int v1), (2, .int v2)] []
  refine go_iload_n (pc := 21) C dX3_delta_21 rfl 2 rfl ?_
  refine go_aload_n (pc := 22) C dX3_delta_22 rfl 0 rfl ?_
  refine x3gr_1 (pc := 23) C dX3_delta_23 ?_
  refine go_iconst (pc := 26) (v := (3 : Int32)) C dX3_delta_26 (by decide) ?_
  refine go_ialdK (pc := 27) (j := 3) C x3aA_1 (by decide) (by decide) dX3_delta_27 ?_
  refine go_icmp_ge (pc := 28) (tgt := 64) C dX3_delta_28 (by decide) h (fun h => ?_) (fun h => ?_)
  · refine go_iconst (pc := 64) (v := (0 : Int32)) C dX3_delta_64 (by decide) ?_
    refine go_istore_n (pc := 65) C hN dX3_delta_65 rfl (by decide) rfl ?_
    refine go_iconst (pc := 66) (v := (0 : Int32)) C dX3_delta_66 (by decide) ?_
    refine go_istore_n (pc := 67) C hN dX3_delta_67 rfl (by decide) rfl ?_
    refine go_iconst (pc := 68) (v := (1 : Int32)) C dX3_delta_68 (by decide) ?_
    refine go_istore (pc := 69) C hN dX3_delta_69 (by decide) rfl ?_
    refine go_sub [3, 4, 2, 1, 0] rfl ?_
    exact w3_delta_71 hN C hE FU (s0, (0 : Int32), (0 : Int32), (1 : Int32)) h
  · refine go_aload_n (pc := 31) C dX3_delta_31 rfl 0 rfl ?_
    refine x3gr_67 (pc := 32) C dX3_delta_32 ?_
    refine go_iload_n (pc := 35) C dX3_delta_35 rfl 2 rfl ?_
    refine go_aload_n (pc := 36) C dX3_delta_36 rfl 0 rfl ?_
    refine x3gr_9 (pc := 37) C dX3_delta_37 ?_
    refine go_iload_n (pc := 40) C dX3_delta_40 rfl 2 rfl ?_
    refine go_iald (pc := 41) C x3aA_9 h dX3_delta_41 (fun h => ?_)
    refine go_if_ne (pc := 42) (tgt := 56) C dX3_delta_42 (by decide) h (fun h => ?_) (fun h => ?_)
    · refine go_iconst (pc := 56) (v := (-1 : Int32)) C dX3_delta_56 (by decide) ?_
      refine go_iast (pc := 57) C x3pA_67 h dX3_delta_57 (fun h => ?_)
      refine go_iinc (pc := 58) (v := (v2 + (1 : Int32))) C hN dX3_delta_58 (q := 2) rfl rfl (by decide) rfl ?_
      refine go_goto (pc := 61) (tgt := 21) C dX3_delta_61 (by decide) ?_
      refine go_sub [1, 2, 0] rfl ?_
      exact hK21 ((bA s0 67 (v2).toNatClampNeg (-1 : Int32)), (v2 + (1 : Int32))) h
    · refine go_aload_n (pc := 45) C dX3_delta_45 rfl 0 rfl ?_
      refine go_iload_n (pc := 46) C dX3_delta_46 rfl 2 rfl ?_
      obtain ⟨r6, e6, h⟩ := bnd_some h
      refine go_callVi (pc := 47) C [.int v2] (m3_pieceOf e6) q1700 q1702 qs90 q144 q1703 x3pd_pieceOf (by decide) (by decide) bW_O x3c rfl (Nat.le_of_ble_eq_true rfl) ⟨Nat.zero_le _, Nat.zero_le _⟩ dX3_delta_47 rfl ?_
      obtain ⟨r7, e7, h⟩ := bnd_some h
      refine go_callSi (pc := 50) C [.int r6] (m3_least e7) q1689 q1690 q144 q1691 x3pd_least (by decide) (by decide) rfl (Nat.le_of_ble_eq_true rfl) ⟨Nat.zero_le _, Nat.zero_le _⟩ dX3_delta_50 rfl ?_
      refine go_goto (pc := 53) (tgt := 57) C dX3_delta_53 (by decide) ?_
      refine go_iast (pc := 57) C x3pA_67 h dX3_delta_57 (fun h => ?_)
      refine go_iinc (pc := 58) (v := (v2 + (1 : Int32))) C hN dX3_delta_58 (q := 2) rfl rfl (by decide) rfl ?_
      refine go_goto (pc := 61) (tgt := 21) C dX3_delta_61 (by decide) ?_
      refine go_sub [1, 2, 0] rfl ?_
      exact hK21 ((bA s0 67 (v2).toNatClampNeg r7), (v2 + (1 : Int32))) h
theorem m3_delta {l : Launch} {d : gD} {a : Nat → Nat} {s0 : Bl} {v1 : Int32} {r9 : Int32} {s9 : Bl} (h : f3_delta s0 v1 = some (r9, s9)) : Mt l d yX3_delta cX3_delta 10 (some .int) (3, 0, 0) 70 (bW d 3 FK3 a s0) [.ref (a 0), .int v1] (fun v w => v = some (.int r9) ∧ w = (bW d 3 FK3 a s9)) := by
  refine Mt.of x3pn (Nat.le_of_ble_eq_true rfl) ?_
  intro Γ hl hd hN C hE
  subst hl; subst hd
  show Go Γ 0 0 (bW Γ.d 3 FK3 a s0) 0 [(0, .ref (a 0)), (1, .int v1)] []
  dsimp only [f3_delta] at h
  refine go_aload_n (pc := 0) C dX3_delta_0 rfl 0 rfl ?_
  obtain ⟨r1, e1, h⟩ := bnd_some h
  refine go_callVi (pc := 1) C [] (m3_isRiver e1) q1716 q1718 qs92 q144 q1719 x3pd_isRiver (by decide) (by decide) bW_O x3c rfl (Nat.le_of_ble_eq_true rfl) ⟨Nat.zero_le _, Nat.zero_le _⟩ dX3_delta_1 rfl ?_
  refine go_if_eq (pc := 4) (tgt := 17) C dX3_delta_4 (by decide) h (fun h => ?_) (fun h => ?_)
  · refine go_iconst (pc := 17) (v := (-1 : Int32)) C dX3_delta_17 (by decide) ?_
    exact (hE 0 0 _ _ _ (Nat.zero_le _) (Nat.zero_le _)).1 _ rfl dX3_delta_18 ⟨congrArg (fun z => some (Value.int z)) (some2 h).1, congrArg (fun z => bW Γ.d 3 FK3 a z) (some2 h).2⟩
  · refine go_iload_n (pc := 7) C dX3_delta_7 rfl 1 rfl ?_
    refine go_i2l (pc := 8) C dX3_delta_8 ?_
    refine go_lconst (pc := 9) (v := (0 : Int64)) C dX3_delta_9 (by decide) ?_
    refine go_lconst (pc := 10) (v := (1 : Int64)) C dX3_delta_10 (by decide) ?_
    obtain ⟨r2, e2, h⟩ := bnd_some h
    refine go_callSi (pc := 11) C [.long (v1).toInt64, .long (0 : Int64), .long (1 : Int64)] (m3_in e2) q1564 q1565 q144 q1566 x3pd_in (by decide) (by decide) rfl (Nat.le_of_ble_eq_true rfl) ⟨Nat.zero_le _, Nat.zero_le _⟩ dX3_delta_11 rfl ?_
    refine go_if_ne (pc := 14) (tgt := 19) C dX3_delta_14 (by decide) h (fun h => ?_) (fun h => ?_)
    · refine go_iconst (pc := 19) (v := (0 : Int32)) C dX3_delta_19 (by decide) ?_
      refine go_istore_n (pc := 20) C hN dX3_delta_20 rfl (by decide) rfl ?_
      refine go_sub [1, 2, 0] rfl ?_
      exact w3_delta_21 hN C hE FU (s0, (0 : Int32)) h
    · refine go_iconst (pc := 17) (v := (-1 : Int32)) C dX3_delta_17 (by decide) ?_
      exact (hE 0 0 _ _ _ (Nat.zero_le _) (Nat.zero_le _)).1 _ rfl dX3_delta_18 ⟨congrArg (fun z => some (Value.int z)) (some2 h).1, congrArg (fun z => bW Γ.d 3 FK3 a z) (some2 h).2⟩
theorem m3_isWeakThing {l : Launch} {d : gD} {a : Nat → Nat} {s0 : Bl} {v1 : Int32} {r9 : Int32} (h : f3_isWeakThing s0 v1 = some r9) : Mt l d yX3_isWeakThing cX3_isWeakThing 3 (some .boolean) (3, 0, 0) 70 (bW d 3 FK3 a s0) [.ref (a 0), .int v1] (fun v w => v = some (.int r9) ∧ w = (bW d 3 FK3 a s0)) := by
  refine Mt.of x3pn (Nat.le_of_ble_eq_true rfl) ?_
  intro Γ hl hd hN C hE
  subst hl; subst hd
  show Go Γ 0 0 (bW Γ.d 3 FK3 a s0) 0 [(0, .ref (a 0)), (1, .int v1)] []
  dsimp only [f3_isWeakThing] at h
  refine go_aload_n (pc := 0) C dX3_isWeakThing_0 rfl 0 rfl ?_
  refine go_iload_n (pc := 1) C dX3_isWeakThing_1 rfl 1 rfl ?_
  obtain ⟨r1, e1, h⟩ := bnd_some h
  refine go_callVi (pc := 2) C [.int v1] (m3_pieceOf e1) q1700 q1702 qs90 q144 q1703 x3pd_pieceOf (by decide) (by decide) bW_O x3c rfl (Nat.le_of_ble_eq_true rfl) ⟨Nat.zero_le _, Nat.zero_le _⟩ dX3_isWeakThing_2 rfl ?_
  refine go_iconst (pc := 5) (v := (1 : Int32)) C dX3_isWeakThing_5 (by decide) ?_
  refine go_iload_n (pc := 6) C dX3_isWeakThing_6 rfl 1 rfl ?_
  refine go_ishl (pc := 7) C dX3_isWeakThing_7 ?_
  refine go_iconst (pc := 8) (v := (-1 : Int32)) C dX3_isWeakThing_8 (by decide) ?_
  refine go_ixor (pc := 9) C dX3_isWeakThing_9 ?_
  refine go_iand (pc := 10) C dX3_isWeakThing_10 ?_
  refine go_istore_n (pc := 11) C hN dX3_isWeakThing_11 rfl (by decide) rfl ?_
  refine go_iload_n (pc := 12) C dX3_isWeakThing_12 rfl 0 rfl ?_
  refine go_if_eq (pc := 13) (tgt := 37) C dX3_isWeakThing_13 (by decide) h (fun h => ?_) (fun h => ?_)
  · refine go_iconst (pc := 37) (v := (0 : Int32)) C dX3_isWeakThing_37 (by decide) ?_
    exact (hE 0 0 _ _ _ (Nat.zero_le _) (Nat.zero_le _)).2.1 _ rfl (Or.inl rfl) dX3_isWeakThing_38 ⟨congrArg (fun z => some (Value.int z)) (some1 h), rfl⟩
  · refine go_aload_n (pc := 16) C dX3_isWeakThing_16 rfl 1 rfl ?_
    refine go_iload_n (pc := 17) C dX3_isWeakThing_17 rfl 0 rfl ?_
    obtain ⟨r2, e2, h⟩ := bnd_some h
    refine go_callSi (pc := 18) C [.int (r1 &&& (((1 : Int32) <<< (v1 &&& 31)) ^^^ (-1 : Int32)))] (m3_least e2) q1689 q1690 q144 q1691 x3pd_least (by decide) (by decide) rfl (Nat.le_of_ble_eq_true rfl) ⟨Nat.zero_le _, Nat.zero_le _⟩ dX3_isWeakThing_18 rfl ?_
    refine go_iload_n (pc := 21) C dX3_isWeakThing_21 rfl 0 rfl ?_
    refine go_aload_n (pc := 22) C dX3_isWeakThing_22 rfl 1 rfl ?_
    obtain ⟨r3, e3, h⟩ := bnd_some h
    refine go_callVi (pc := 23) C [] (m3_allRopes e3) q1670 q1672 qs85 q144 q1673 x3pd_allRopes (by decide) (by decide) bW_O x3c rfl (Nat.le_of_ble_eq_true rfl) ⟨Nat.zero_le _, Nat.zero_le _⟩ dX3_isWeakThing_23 rfl ?_
    obtain ⟨r4, e4, h⟩ := bnd_some h
    refine go_callVi (pc := 26) C [.int r2, .int (r1 &&& (((1 : Int32) <<< (v1 &&& 31)) ^^^ (-1 : Int32))), .int r3] (m3_hangsWith e4) q1685 q1687 qs88 q144 q1688 x3pd_hangsWith (by decide) (by decide) bW_O x3c rfl (Nat.le_of_ble_eq_true rfl) ⟨Nat.zero_le _, Nat.zero_le _⟩ dX3_isWeakThing_26 rfl ?_
    refine go_iload_n (pc := 29) C dX3_isWeakThing_29 rfl 0 rfl ?_
    refine go_icmp_eq (pc := 30) (tgt := 37) C dX3_isWeakThing_30 (by decide) h (fun h => ?_) (fun h => ?_)
    · refine go_iconst (pc := 37) (v := (0 : Int32)) C dX3_isWeakThing_37 (by decide) ?_
      exact (hE 0 0 _ _ _ (Nat.zero_le _) (Nat.zero_le _)).2.1 _ rfl (Or.inl rfl) dX3_isWeakThing_38 ⟨congrArg (fun z => some (Value.int z)) (some1 h), rfl⟩
    · refine go_iconst (pc := 33) (v := (1 : Int32)) C dX3_isWeakThing_33 (by decide) ?_
      refine go_goto (pc := 34) (tgt := 38) C dX3_isWeakThing_34 (by decide) ?_
      exact (hE 0 0 _ _ _ (Nat.zero_le _) (Nat.zero_le _)).2.1 _ rfl (Or.inr rfl) dX3_isWeakThing_38 ⟨congrArg (fun z => some (Value.int z)) (some1 h), rfl⟩
theorem w3_weak_91 {Γ : Gam} {a : Nat → Nat} {s0 : Bl} {v1 : Int32} {r9 : Int32} (hN : Γ.nL = 4) (C : Cx Γ cX3_weak RX3 (4, 0, 0) 92) (hE : Rets Γ cX3_weak (some .int) 0 0 (fun v w => v = some (.int r9) ∧ w = (bW Γ.d 3 FK3 a s0))) : ∀ (n : Nat) (s : Int32 × Int32), loop (g3_weak_91 s0 v1) n s = some r9 → (fun s : Int32 × Int32 => Go Γ 0 0 (bW Γ.d 3 FK3 a s0) 91 [(0, .ref (a 0)), (1, .int v1), (2, .int s.1), (3, .int s.2)] []) s := by
  refine loop_walk (P := fun s : Int32 × Int32 => Go Γ 0 0 (bW Γ.d 3 FK3 a s0) 91 [(0, .ref (a 0)), (1, .int v1), (2, .int s.1), (3, .int s.2)] []) ?_
  intro K91 hK91 s h
  obtain ⟨v2, v3⟩ := s
  dsimp only [g3_weak_91] at h
  show Go Γ 0 0 (bW Γ.d 3 FK3 a s0) 91 [(0, .ref (a 0)), (1, .int v1), (2, .int v2), (3, .int v3)] []
  refine go_iload_n (pc := 91) C dX3_weak_91 rfl 3 rfl ?_
  refine go_aload_n (pc := 92) C dX3_weak_92 rfl 0 rfl ?_
  refine x3gr_1 (pc := 93) C dX3_weak_93 ?_
  refine go_iconst (pc := 96) (v := (3 : Int32)) C dX3_weak_96 (by decide) ?_
  refine go_ialdK (pc := 97) (j := 3) C x3aA_1 (by decide) (by decide) dX3_weak_97 ?_
  refine go_icmp_ge (pc := 98) (tgt := 139) C dX3_weak_98 (by decide) h (fun h => ?_) (fun h => ?_)
  · refine go_iload_n (pc := 139) C dX3_weak_139 rfl 2 rfl ?_
    exact (hE 0 0 _ _ _ (Nat.zero_le _) (Nat.zero_le _)).1 _ rfl dX3_weak_140 ⟨congrArg (fun z => some (Value.int z)) (some1 h), rfl⟩
  · refine go_iload_n (pc := 101) C dX3_weak_101 rfl 1 rfl ?_
    refine go_iconst (pc := 102) (v := (1 : Int32)) C dX3_weak_102 (by decide) ?_
    refine go_icmp_ne (pc := 103) (tgt := 139) C dX3_weak_103 (by decide) h (fun h => ?_) (fun h => ?_)
    · refine go_iload_n (pc := 139) C dX3_weak_139 rfl 2 rfl ?_
      exact (hE 0 0 _ _ _ (Nat.zero_le _) (Nat.zero_le _)).1 _ rfl dX3_weak_140 ⟨congrArg (fun z => some (Value.int z)) (some1 h), rfl⟩
    · refine go_iload_n (pc := 106) C dX3_weak_106 rfl 2 rfl ?_
      refine go_aload_n (pc := 107) C dX3_weak_107 rfl 0 rfl ?_
      refine x3gr_9 (pc := 108) C dX3_weak_108 ?_
      refine go_iload_n (pc := 111) C dX3_weak_111 rfl 3 rfl ?_
      refine go_iald (pc := 112) C x3aA_9 h dX3_weak_112 (fun h => ?_)
      refine go_if_ne (pc := 113) (tgt := 130) C dX3_weak_113 (by decide) h (fun h => ?_) (fun h => ?_)
      · refine go_iconst (pc := 130) (v := (0 : Int32)) C dX3_weak_130 (by decide) ?_
        refine go_ior (pc := 131) C dX3_weak_131 ?_
        refine go_istore_n (pc := 132) C hN dX3_weak_132 rfl (by decide) rfl ?_
        refine go_iinc (pc := 133) (v := (v3 + (1 : Int32))) C hN dX3_weak_133 (q := 3) rfl rfl (by decide) rfl ?_
        refine go_goto (pc := 136) (tgt := 91) C dX3_weak_136 (by decide) ?_
        refine go_sub [2, 3, 1, 0] rfl ?_
        exact hK91 ((v2 ||| (0 : Int32)), (v3 + (1 : Int32))) h
      · refine go_aload_n (pc := 116) C dX3_weak_116 rfl 0 rfl ?_
        refine go_iload_n (pc := 117) C dX3_weak_117 rfl 3 rfl ?_
        obtain ⟨r3, e3, h⟩ := bnd_some h
        refine go_callVi (pc := 118) C [.int v3] (m3_isWeakThing e3) q1956 q1958 qs132 q144 q1959 x3pd_isWeakThing (by decide) (by decide) bW_O x3c rfl (Nat.le_of_ble_eq_true rfl) ⟨Nat.zero_le _, Nat.zero_le _⟩ dX3_weak_118 rfl ?_
        refine go_if_eq (pc := 121) (tgt := 130) C dX3_weak_121 (by decide) h (fun h => ?_) (fun h => ?_)
        · refine go_iconst (pc := 130) (v := (0 : Int32)) C dX3_weak_130 (by decide) ?_
          refine go_ior (pc := 131) C dX3_weak_131 ?_
          refine go_istore_n (pc := 132) C hN dX3_weak_132 rfl (by decide) rfl ?_
          refine go_iinc (pc := 133) (v := (v3 + (1 : Int32))) C hN dX3_weak_133 (q := 3) rfl rfl (by decide) rfl ?_
          refine go_goto (pc := 136) (tgt := 91) C dX3_weak_136 (by decide) ?_
          refine go_sub [2, 3, 1, 0] rfl ?_
          exact hK91 ((v2 ||| (0 : Int32)), (v3 + (1 : Int32))) h
        · refine go_iconst (pc := 124) (v := (1 : Int32)) C dX3_weak_124 (by decide) ?_
          refine go_iload_n (pc := 125) C dX3_weak_125 rfl 3 rfl ?_
          refine go_ishl (pc := 126) C dX3_weak_126 ?_
          refine go_goto (pc := 127) (tgt := 131) C dX3_weak_127 (by decide) ?_
          refine go_ior (pc := 131) C dX3_weak_131 ?_
          refine go_istore_n (pc := 132) C hN dX3_weak_132 rfl (by decide) rfl ?_
          refine go_iinc (pc := 133) (v := (v3 + (1 : Int32))) C hN dX3_weak_133 (q := 3) rfl rfl (by decide) rfl ?_
          refine go_goto (pc := 136) (tgt := 91) C dX3_weak_136 (by decide) ?_
          refine go_sub [2, 3, 1, 0] rfl ?_
          exact hK91 ((v2 ||| ((1 : Int32) <<< (v3 &&& 31))), (v3 + (1 : Int32))) h
theorem w3_weak_23 {Γ : Gam} {a : Nat → Nat} {s0 : Bl} {v1 : Int32} {r9 : Int32} (hN : Γ.nL = 4) (C : Cx Γ cX3_weak RX3 (4, 0, 0) 92) (hE : Rets Γ cX3_weak (some .int) 0 0 (fun v w => v = some (.int r9) ∧ w = (bW Γ.d 3 FK3 a s0))) : ∀ (n : Nat) (s : Int32 × Int32), loop (g3_weak_23 s0 v1) n s = some r9 → (fun s : Int32 × Int32 => Go Γ 0 0 (bW Γ.d 3 FK3 a s0) 23 [(0, .ref (a 0)), (1, .int v1), (2, .int s.1), (3, .int s.2)] []) s := by
  refine loop_walk (P := fun s : Int32 × Int32 => Go Γ 0 0 (bW Γ.d 3 FK3 a s0) 23 [(0, .ref (a 0)), (1, .int v1), (2, .int s.1), (3, .int s.2)] []) ?_
  intro K23 hK23 s h
  obtain ⟨v2, v3⟩ := s
  dsimp only [g3_weak_23] at h
  show Go Γ 0 0 (bW Γ.d 3 FK3 a s0) 23 [(0, .ref (a 0)), (1, .int v1), (2, .int v2), (3, .int v3)] []
  refine go_iload_n (pc := 23) C dX3_weak_23 rfl 3 rfl ?_
  refine go_aload_n (pc := 24) C dX3_weak_24 rfl 0 rfl ?_
  refine x3gr_1 (pc := 25) C dX3_weak_25 ?_
  refine go_iconst (pc := 28) (v := (4 : Int32)) C dX3_weak_28 (by decide) ?_
  refine go_ialdK (pc := 29) (j := 4) C x3aA_1 (by decide) (by decide) dX3_weak_29 ?_
  refine go_icmp_ge (pc := 30) (tgt := 89) C dX3_weak_30 (by decide) h (fun h => ?_) (fun h => ?_)
  · refine go_iconst (pc := 89) (v := (0 : Int32)) C dX3_weak_89 (by decide) ?_
    refine go_istore_n (pc := 90) C hN dX3_weak_90 rfl (by decide) rfl ?_
    refine go_sub [1, 2, 3, 0] rfl ?_
    exact w3_weak_91 hN C hE FU (v2, (0 : Int32)) h
  · refine go_iload_n (pc := 33) C dX3_weak_33 rfl 1 rfl ?_
    refine go_if_ne (pc := 34) (tgt := 89) C dX3_weak_34 (by decide) h (fun h => ?_) (fun h => ?_)
    · refine go_iconst (pc := 89) (v := (0 : Int32)) C dX3_weak_89 (by decide) ?_
      refine go_istore_n (pc := 90) C hN dX3_weak_90 rfl (by decide) rfl ?_
      refine go_sub [1, 2, 3, 0] rfl ?_
      exact w3_weak_91 hN C hE FU (v2, (0 : Int32)) h
    · refine go_iload_n (pc := 37) C dX3_weak_37 rfl 2 rfl ?_
      refine go_aload_n (pc := 38) C dX3_weak_38 rfl 0 rfl ?_
      refine go_aload_n (pc := 39) C dX3_weak_39 rfl 0 rfl ?_
      refine x3gr_11 (pc := 40) C dX3_weak_40 ?_
      refine go_iload_n (pc := 43) C dX3_weak_43 rfl 3 rfl ?_
      refine go_iald (pc := 44) C x3aA_11 h dX3_weak_44 (fun h => ?_)
      refine go_aload_n (pc := 45) C dX3_weak_45 rfl 0 rfl ?_
      obtain ⟨r4, e4, h⟩ := bnd_some h
      refine go_callVi (pc := 46) C [] (m3_afloat e4) q1678 q1680 qs87 q144 q1681 x3pd_afloat (by decide) (by decide) bW_O x3c rfl (Nat.le_of_ble_eq_true rfl) ⟨Nat.zero_le _, Nat.zero_le _⟩ dX3_weak_46 rfl ?_
      refine go_aload_n (pc := 49) C dX3_weak_49 rfl 0 rfl ?_
      obtain ⟨r5, e5, h⟩ := bnd_some h
      refine go_callVi (pc := 50) C [] (m3_allRopes e5) q1670 q1672 qs85 q144 q1673 x3pd_allRopes (by decide) (by decide) bW_O x3c rfl (Nat.le_of_ble_eq_true rfl) ⟨Nat.zero_le _, Nat.zero_le _⟩ dX3_weak_50 rfl ?_
      refine go_iconst (pc := 53) (v := (1 : Int32)) C dX3_weak_53 (by decide) ?_
      refine go_iload_n (pc := 54) C dX3_weak_54 rfl 3 rfl ?_
      refine go_ishl (pc := 55) C dX3_weak_55 ?_
      refine go_iconst (pc := 56) (v := (-1 : Int32)) C dX3_weak_56 (by decide) ?_
      refine go_ixor (pc := 57) C dX3_weak_57 ?_
      refine go_iand (pc := 58) C dX3_weak_58 ?_
      obtain ⟨r6, e6, h⟩ := bnd_some h
      refine go_callVi (pc := 59) C [.int (s0.2.1 11 (v3).toNatClampNeg), .int r4, .int (r5 &&& (((1 : Int32) <<< (v3 &&& 31)) ^^^ (-1 : Int32)))] (m3_hangsWith e6) q1685 q1687 qs88 q144 q1688 x3pd_hangsWith (by decide) (by decide) bW_O x3c rfl (Nat.le_of_ble_eq_true rfl) ⟨Nat.zero_le _, Nat.zero_le _⟩ dX3_weak_59 rfl ?_
      refine go_aload_n (pc := 62) C dX3_weak_62 rfl 0 rfl ?_
      refine x3gr_12 (pc := 63) C dX3_weak_63 ?_
      refine go_iload_n (pc := 66) C dX3_weak_66 rfl 3 rfl ?_
      refine go_iald (pc := 67) C x3aA_12 h dX3_weak_67 (fun h => ?_)
      obtain ⟨r7, e7, h⟩ := bnd_some h
      refine go_callSi (pc := 68) C [.int r6, .int (s0.2.1 12 (v3).toNatClampNeg)] (m3_has e7) q1682 q1683 q144 q1684 x3pd_has (by decide) (by decide) rfl (Nat.le_of_ble_eq_true rfl) ⟨Nat.zero_le _, Nat.zero_le _⟩ dX3_weak_68 rfl ?_
      refine go_if_eq (pc := 71) (tgt := 78) C dX3_weak_71 (by decide) h (fun h => ?_) (fun h => ?_)
      · refine go_iconst (pc := 78) (v := (1 : Int32)) C dX3_weak_78 (by decide) ?_
        refine go_iload_n (pc := 79) C dX3_weak_79 rfl 3 rfl ?_
        refine go_ishl (pc := 80) C dX3_weak_80 ?_
        refine go_ior (pc := 81) C dX3_weak_81 ?_
        refine go_istore_n (pc := 82) C hN dX3_weak_82 rfl (by decide) rfl ?_
        refine go_iinc (pc := 83) (v := (v3 + (1 : Int32))) C hN dX3_weak_83 (q := 3) rfl rfl (by decide) rfl ?_
        refine go_goto (pc := 86) (tgt := 23) C dX3_weak_86 (by decide) ?_
        refine go_sub [2, 3, 1, 0] rfl ?_
        exact hK23 ((v2 ||| ((1 : Int32) <<< (v3 &&& 31))), (v3 + (1 : Int32))) h
      · refine go_iconst (pc := 74) (v := (0 : Int32)) C dX3_weak_74 (by decide) ?_
        refine go_goto (pc := 75) (tgt := 81) C dX3_weak_75 (by decide) ?_
        refine go_ior (pc := 81) C dX3_weak_81 ?_
        refine go_istore_n (pc := 82) C hN dX3_weak_82 rfl (by decide) rfl ?_
        refine go_iinc (pc := 83) (v := (v3 + (1 : Int32))) C hN dX3_weak_83 (q := 3) rfl rfl (by decide) rfl ?_
        refine go_goto (pc := 86) (tgt := 23) C dX3_weak_86 (by decide) ?_
        refine go_sub [2, 3, 1, 0] rfl ?_
        exact hK23 ((v2 ||| (0 : Int32)), (v3 + (1 : Int32))) h
theorem m3_weak {l : Launch} {d : gD} {a : Nat → Nat} {s0 : Bl} {v1 : Int32} {r9 : Int32} (h : f3_weak s0 v1 = some r9) : Mt l d yX3_weak cX3_weak 4 (some .int) (4, 0, 0) 92 (bW d 3 FK3 a s0) [.ref (a 0), .int v1] (fun v w => v = some (.int r9) ∧ w = (bW d 3 FK3 a s0)) := by
  refine Mt.of x3pn (Nat.le_of_ble_eq_true rfl) ?_
  intro Γ hl hd hN C hE
  subst hl; subst hd
  show Go Γ 0 0 (bW Γ.d 3 FK3 a s0) 0 [(0, .ref (a 0)), (1, .int v1)] []
  dsimp only [f3_weak] at h
  refine go_aload_n (pc := 0) C dX3_weak_0 rfl 0 rfl ?_
  obtain ⟨r1, e1, h⟩ := bnd_some h
  refine go_callVi (pc := 1) C [] (m3_isRiver e1) q1716 q1718 qs92 q144 q1719 x3pd_isRiver (by decide) (by decide) bW_O x3c rfl (Nat.le_of_ble_eq_true rfl) ⟨Nat.zero_le _, Nat.zero_le _⟩ dX3_weak_1 rfl ?_
  refine go_if_eq (pc := 4) (tgt := 17) C dX3_weak_4 (by decide) h (fun h => ?_) (fun h => ?_)
  · refine go_iconst (pc := 17) (v := (-1 : Int32)) C dX3_weak_17 (by decide) ?_
    exact (hE 0 0 _ _ _ (Nat.zero_le _) (Nat.zero_le _)).1 _ rfl dX3_weak_18 ⟨congrArg (fun z => some (Value.int z)) (some1 h), rfl⟩
  · refine go_iload_n (pc := 7) C dX3_weak_7 rfl 1 rfl ?_
    refine go_i2l (pc := 8) C dX3_weak_8 ?_
    refine go_lconst (pc := 9) (v := (0 : Int64)) C dX3_weak_9 (by decide) ?_
    refine go_lconst (pc := 10) (v := (1 : Int64)) C dX3_weak_10 (by decide) ?_
    obtain ⟨r2, e2, h⟩ := bnd_some h
    refine go_callSi (pc := 11) C [.long (v1).toInt64, .long (0 : Int64), .long (1 : Int64)] (m3_in e2) q1564 q1565 q144 q1566 x3pd_in (by decide) (by decide) rfl (Nat.le_of_ble_eq_true rfl) ⟨Nat.zero_le _, Nat.zero_le _⟩ dX3_weak_11 rfl ?_
    refine go_if_ne (pc := 14) (tgt := 19) C dX3_weak_14 (by decide) h (fun h => ?_) (fun h => ?_)
    · refine go_iconst (pc := 19) (v := (0 : Int32)) C dX3_weak_19 (by decide) ?_
      refine go_istore_n (pc := 20) C hN dX3_weak_20 rfl (by decide) rfl ?_
      refine go_iconst (pc := 21) (v := (0 : Int32)) C dX3_weak_21 (by decide) ?_
      refine go_istore_n (pc := 22) C hN dX3_weak_22 rfl (by decide) rfl ?_
      refine go_sub [2, 3, 1, 0] rfl ?_
      exact w3_weak_23 hN C hE FU ((0 : Int32), (0 : Int32)) h
    · refine go_iconst (pc := 17) (v := (-1 : Int32)) C dX3_weak_17 (by decide) ?_
      exact (hE 0 0 _ _ _ (Nat.zero_le _) (Nat.zero_le _)).1 _ rfl dX3_weak_18 ⟨congrArg (fun z => some (Value.int z)) (some1 h), rfl⟩
theorem m3_offer {l : Launch} {d : gD} {a : Nat → Nat} {s0 : Bl} {v1 : Int32} {v2 : Int32} {v3 : Int32} {r9 : Int32} {s9 : Bl} (h : f3_offer s0 v1 v2 v3 = some (r9, s9)) : Mt l d yX3_offer cX3_offer 5 (some .int) (1, 0, 0) 25 (bW d 3 FK3 a s0) [.ref (a 0), .int v1, .int v2, .int v3] (fun v w => v = some (.int r9) ∧ w = (bW d 3 FK3 a s9)) := by
  refine Mt.of x3pn (Nat.le_of_ble_eq_true rfl) ?_
  intro Γ hl hd hN C hE
  subst hl; subst hd
  show Go Γ 0 0 (bW Γ.d 3 FK3 a s0) 0 [(0, .ref (a 0)), (1, .int v1), (2, .int v2), (3, .int v3)] []
  dsimp only [f3_offer] at h
  refine go_iload_n (pc := 0) C dX3_offer_0 rfl 1 rfl ?_
  refine go_iconst (pc := 1) (v := (-1 : Int32)) C dX3_offer_1 (by decide) ?_
  refine go_icmp_ne (pc := 2) (tgt := 15) C dX3_offer_2 (by decide) h (fun h => ?_) (fun h => ?_)
  · refine go_aload_n (pc := 15) C dX3_offer_15 rfl 0 rfl ?_
    refine x3gr_1 (pc := 16) C dX3_offer_16 ?_
    refine go_bipush (pc := 19) (v := (7 : Int32)) C dX3_offer_19 (by decide) ?_
    refine go_ialdK (pc := 21) (j := 7) C x3aA_1 (by decide) (by decide) dX3_offer_21 ?_
    refine go_istore (pc := 22) C hN dX3_offer_22 (by decide) rfl ?_
    refine go_aload_n (pc := 24) C dX3_offer_24 rfl 1 rfl ?_
    obtain ⟨r1, e1, h⟩ := bnd_some h
    refine go_callVi (pc := 25) C [] (m3_isRiver e1) q1716 q1718 qs92 q144 q1719 x3pd_isRiver (by decide) (by decide) bW_O x3c rfl (Nat.le_of_ble_eq_true rfl) ⟨Nat.zero_le _, Nat.zero_le _⟩ dX3_offer_25 rfl ?_
    refine go_if_eq (pc := 28) (tgt := 74) C dX3_offer_28 (by decide) h (fun h => ?_) (fun h => ?_)
    · refine go_bipush (pc := 74) (v := (-2 : Int32)) C dX3_offer_74 (by decide) ?_
      exact (hE 0 0 _ _ _ (Nat.zero_le _) (Nat.zero_le _)).1 _ rfl dX3_offer_76 ⟨congrArg (fun z => some (Value.int z)) (some2 h).1, congrArg (fun z => bW Γ.d 3 FK3 a z) (some2 h).2⟩
    · refine go_iload_n (pc := 31) C dX3_offer_31 rfl 2 rfl ?_
      refine go_i2l (pc := 32) C dX3_offer_32 ?_
      refine go_lconst (pc := 33) (v := (0 : Int64)) C dX3_offer_33 (by decide) ?_
      refine go_ldc2 (pc := 34) C dX3_offer_34 q1964 ?_
      obtain ⟨r2, e2, h⟩ := bnd_some h
      refine go_callSi (pc := 37) C [.long (v1).toInt64, .long (0 : Int64), .long (50 : Int64)] (m3_in e2) q1564 q1565 q144 q1566 x3pd_in (by decide) (by decide) rfl (Nat.le_of_ble_eq_true rfl) ⟨Nat.zero_le _, Nat.zero_le _⟩ dX3_offer_37 rfl ?_
      refine go_if_eq (pc := 40) (tgt := 74) C dX3_offer_40 (by decide) h (fun h => ?_) (fun h => ?_)
      · refine go_bipush (pc := 74) (v := (-2 : Int32)) C dX3_offer_74 (by decide) ?_
        exact (hE 0 0 _ _ _ (Nat.zero_le _) (Nat.zero_le _)).1 _ rfl dX3_offer_76 ⟨congrArg (fun z => some (Value.int z)) (some2 h).1, congrArg (fun z => bW Γ.d 3 FK3 a z) (some2 h).2⟩
      · refine go_iload_n (pc := 43) C dX3_offer_43 rfl 3 rfl ?_
        refine go_i2l (pc := 44) C dX3_offer_44 ?_
        refine go_lconst (pc := 45) (v := (0 : Int64)) C dX3_offer_45 (by decide) ?_
        refine go_ldc2 (pc := 46) C dX3_offer_46 q1965 ?_
        obtain ⟨r3, e3, h⟩ := bnd_some h
        refine go_callSi (pc := 49) C [.long (v2).toInt64, .long (0 : Int64), .long (99 : Int64)] (m3_in e3) q1564 q1565 q144 q1566 x3pd_in (by decide) (by decide) rfl (Nat.le_of_ble_eq_true rfl) ⟨Nat.zero_le _, Nat.zero_le _⟩ dX3_offer_49 rfl ?_
        refine go_if_eq (pc := 52) (tgt := 74) C dX3_offer_52 (by decide) h (fun h => ?_) (fun h => ?_)
        · refine go_bipush (pc := 74) (v := (-2 : Int32)) C dX3_offer_74 (by decide) ?_
          exact (hE 0 0 _ _ _ (Nat.zero_le _) (Nat.zero_le _)).1 _ rfl dX3_offer_76 ⟨congrArg (fun z => some (Value.int z)) (some2 h).1, congrArg (fun z => bW Γ.d 3 FK3 a z) (some2 h).2⟩
        · refine go_iload_n (pc := 55) C dX3_offer_55 rfl 4 rfl ?_
          refine go_i2l (pc := 56) C dX3_offer_56 ?_
          refine go_lconst (pc := 57) (v := (0 : Int64)) C dX3_offer_57 (by decide) ?_
          refine go_ldc2 (pc := 58) C dX3_offer_58 q1811 ?_
          obtain ⟨r4, e4, h⟩ := bnd_some h
          refine go_callSi (pc := 61) C [.long (v3).toInt64, .long (0 : Int64), .long (9 : Int64)] (m3_in e4) q1564 q1565 q144 q1566 x3pd_in (by decide) (by decide) rfl (Nat.le_of_ble_eq_true rfl) ⟨Nat.zero_le _, Nat.zero_le _⟩ dX3_offer_61 rfl ?_
          refine go_if_eq (pc := 64) (tgt := 74) C dX3_offer_64 (by decide) h (fun h => ?_) (fun h => ?_)
          · refine go_bipush (pc := 74) (v := (-2 : Int32)) C dX3_offer_74 (by decide) ?_
            exact (hE 0 0 _ _ _ (Nat.zero_le _) (Nat.zero_le _)).1 _ rfl dX3_offer_76 ⟨congrArg (fun z => some (Value.int z)) (some2 h).1, congrArg (fun z => bW Γ.d 3 FK3 a z) (some2 h).2⟩
          · refine go_iload (pc := 67) C dX3_offer_67 0 rfl ?_
            refine go_bipush (pc := 69) (v := (6 : Int32)) C dX3_offer_69 (by decide) ?_
            refine go_icmp_ne (pc := 71) (tgt := 77) C dX3_offer_71 (by decide) h (fun h => ?_) (fun h => ?_)
            · refine go_aload_n (pc := 77) C dX3_offer_77 rfl 1 rfl ?_
              refine x3gr_16 (pc := 78) C dX3_offer_78 ?_
              refine go_iload (pc := 81) C dX3_offer_81 0 rfl ?_
              refine go_iload_n (pc := 83) C dX3_offer_83 rfl 2 rfl ?_
              refine go_iast (pc := 84) C x3pA_16 h dX3_offer_84 (fun h => ?_)
              refine go_aload_n (pc := 85) C dX3_offer_85 rfl 1 rfl ?_
              refine x3gr_17 (pc := 86) C dX3_offer_86 ?_
              refine go_iload (pc := 89) C dX3_offer_89 0 rfl ?_
              refine go_iload_n (pc := 91) C dX3_offer_91 rfl 3 rfl ?_
              refine go_iast (pc := 92) C x3pA_17 h dX3_offer_92 (fun h => ?_)
              refine go_aload_n (pc := 93) C dX3_offer_93 rfl 1 rfl ?_
              refine x3gr_18 (pc := 94) C dX3_offer_94 ?_
              refine go_iload (pc := 97) C dX3_offer_97 0 rfl ?_
              refine go_iload_n (pc := 99) C dX3_offer_99 rfl 4 rfl ?_
              refine go_iast (pc := 100) C x3pA_18 h dX3_offer_100 (fun h => ?_)
              refine go_aload_n (pc := 101) C dX3_offer_101 rfl 1 rfl ?_
              refine x3gr_1 (pc := 102) C dX3_offer_102 ?_
              refine go_bipush (pc := 105) (v := (7 : Int32)) C dX3_offer_105 (by decide) ?_
              refine go_dup2 (pc := 107) C dX3_offer_107 rfl rfl ?_
              refine go_ialdK (pc := 108) (j := 7) C x3aA_1 (by decide) (by decide) dX3_offer_108 ?_
              refine go_iconst (pc := 109) (v := (1 : Int32)) C dX3_offer_109 (by decide) ?_
              refine go_iadd (pc := 110) C dX3_offer_110 ?_
              refine go_iastK (pc := 111) (j := 7) C x3pA_1 (by decide) (by decide) dX3_offer_111 ?_
              refine go_nm (pc := 112) (fun z9 => (bW Γ.d 3 FK3 a z9)) (fun s5 es5 => ?_)
              have h := ltv_eq es5 h
              refine go_iload (pc := 112) C dX3_offer_112 0 rfl ?_
              refine go_iconst (pc := 114) (v := (1 : Int32)) C dX3_offer_114 (by decide) ?_
              refine go_iadd (pc := 115) C dX3_offer_115 ?_
              exact (hE 0 0 _ _ _ (Nat.zero_le _) (Nat.zero_le _)).1 _ rfl dX3_offer_116 ⟨congrArg (fun z => some (Value.int z)) (some2 h).1, congrArg (fun z => bW Γ.d 3 FK3 a z) (some2 h).2⟩
            · refine go_bipush (pc := 74) (v := (-2 : Int32)) C dX3_offer_74 (by decide) ?_
              exact (hE 0 0 _ _ _ (Nat.zero_le _) (Nat.zero_le _)).1 _ rfl dX3_offer_76 ⟨congrArg (fun z => some (Value.int z)) (some2 h).1, congrArg (fun z => bW Γ.d 3 FK3 a z) (some2 h).2⟩
  · refine go_aload_n (pc := 5) C dX3_offer_5 rfl 0 rfl ?_
    refine x3gr_1 (pc := 6) C dX3_offer_6 ?_
    refine go_bipush (pc := 9) (v := (7 : Int32)) C dX3_offer_9 (by decide) ?_
    refine go_iconst (pc := 11) (v := (0 : Int32)) C dX3_offer_11 (by decide) ?_
    refine go_iastK (pc := 12) (j := 7) C x3pA_1 (by decide) (by decide) dX3_offer_12 ?_
    refine go_iconst (pc := 13) (v := (0 : Int32)) C dX3_offer_13 (by decide) ?_
    exact (hE 0 0 _ _ _ (Nat.zero_le _) (Nat.zero_le _)).1 _ rfl dX3_offer_14 ⟨congrArg (fun z => some (Value.int z)) (some2 h).1, congrArg (fun z => bW Γ.d 3 FK3 a z) (some2 h).2⟩
theorem m3_soaked {l : Launch} {d : gD} {ws : va_W} {v0 : Int32} {v1 : Int32} {v2 : Int32} {r9 : Int32} (h : f3_soaked v0 v1 v2 = some r9) : Mt l d yX3_soaked cX3_soaked 4 (some .int) (0, 0, 0) 0 ws [.int v0, .int v1, .int v2] (fun v w => v = some (.int r9) ∧ w = ws) := by
  refine Mt.of x3pn (Nat.le_of_ble_eq_true rfl) ?_
  intro Γ hl hd hN C hE
  subst hl; subst hd
  show Go Γ 0 0 ws 0 [(0, .int v0), (1, .int v1), (2, .int v2)] []
  dsimp only [f3_soaked] at h
  refine go_iload_n (pc := 0) C dX3_soaked_0 rfl 0 rfl ?_
  refine go_iload_n (pc := 1) C dX3_soaked_1 rfl 1 rfl ?_
  refine go_iload_n (pc := 2) C dX3_soaked_2 rfl 2 rfl ?_
  refine go_imul (pc := 3) C dX3_soaked_3 ?_
  refine go_isub (pc := 4) C dX3_soaked_4 ?_
  refine go_istore_n (pc := 5) C hN dX3_soaked_5 rfl (by decide) rfl ?_
  refine go_iload_n (pc := 6) C dX3_soaked_6 rfl 0 rfl ?_
  refine go_if_le (pc := 7) (tgt := 14) C dX3_soaked_7 (by decide) h (fun h => ?_) (fun h => ?_)
  · refine go_iconst (pc := 14) (v := (0 : Int32)) C dX3_soaked_14 (by decide) ?_
    exact (hE 0 0 _ _ _ (Nat.zero_le _) (Nat.zero_le _)).1 _ rfl dX3_soaked_15 ⟨congrArg (fun z => some (Value.int z)) (some1 h), rfl⟩
  · refine go_iload_n (pc := 10) C dX3_soaked_10 rfl 0 rfl ?_
    refine go_goto (pc := 11) (tgt := 15) C dX3_soaked_11 (by decide) ?_
    exact (hE 0 0 _ _ _ (Nat.zero_le _) (Nat.zero_le _)).1 _ rfl dX3_soaked_15 ⟨congrArg (fun z => some (Value.int z)) (some1 h), rfl⟩
theorem w3_milesWith_146 {Γ : Gam} {a : Nat → Nat} {s0 : Bl} {v1 : Int32} {v2 : Int32} {v3 : Int32} {v4 : Int32} {z0 : Int32} {r9 : Int32} {K38 : Int32 × Int32 → Option Int32} (hN : Γ.nL = 8) (C : Cx Γ cX3_milesWith RX3 (4, 0, 0) 103) (hE : Rets Γ cX3_milesWith (some .int) 0 0 (fun v w => v = some (.int r9) ∧ w = (bW Γ.d 3 FK3 a s0)))
    (hK38 : ∀ s, K38 s = some r9 → (fun s : Int32 × Int32 => Go Γ 0 0 (bW Γ.d 3 FK3 a s0) 38 [(0, .ref (a 0)), (1, .int v1), (2, .int v2), (3, .int v3), (4, .int s.1), (5, .int s.2)] []) s) (h : g3_milesWith_146 s0 K38 v1 v2 v3 v4 z0 = some r9) : Go Γ 0 0 (bW Γ.d 3 FK3 a s0) 146 [(0, .ref (a 0)), (1, .int v1), (2, .int v2), (3, .int v3), (4, .int v4)] [.int z0] := by
  dsimp only [g3_milesWith_146] at h
  refine go_istore (pc := 146) C hN dX3_milesWith_146 (by decide) rfl ?_
  refine go_iload (pc := 148) C dX3_milesWith_148 5 rfl ?_
  refine go_iload (pc := 150) C dX3_milesWith_150 0 rfl ?_
  refine go_if_eq (pc := 152) (tgt := 159) C dX3_milesWith_152 (by decide) h (fun h => ?_) (fun h => ?_)
  · refine go_iconst (pc := 159) (v := (0 : Int32)) C dX3_milesWith_159 (by decide) ?_
    refine go_iadd (pc := 160) C dX3_milesWith_160 ?_
    refine go_istore (pc := 161) C hN dX3_milesWith_161 (by decide) rfl ?_
    refine go_goto (pc := 163) (tgt := 38) C dX3_milesWith_163 (by decide) ?_
    refine go_sub [2, 3, 4, 5, 0, 1] rfl ?_
    exact hK38 ((v4 + (0 : Int32)), z0) h
  · refine go_iconst (pc := 155) (v := (1 : Int32)) C dX3_milesWith_155 (by decide) ?_
    refine go_goto (pc := 156) (tgt := 160) C dX3_milesWith_156 (by decide) ?_
    refine go_iadd (pc := 160) C dX3_milesWith_160 ?_
    refine go_istore (pc := 161) C hN dX3_milesWith_161 (by decide) rfl ?_
    refine go_goto (pc := 163) (tgt := 38) C dX3_milesWith_163 (by decide) ?_
    refine go_sub [2, 3, 4, 5, 0, 1] rfl ?_
    exact hK38 ((v4 + (1 : Int32)), z0) h
theorem w3_milesWith_81 {Γ : Gam} {a : Nat → Nat} {s0 : Bl} {v1 : Int32} {v2 : Int32} {v3 : Int32} {v4 : Int32} {r9 : Int32} {K38 : Int32 × Int32 → Option Int32} (hN : Γ.nL = 8) (C : Cx Γ cX3_milesWith RX3 (4, 0, 0) 103) (hE : Rets Γ cX3_milesWith (some .int) 0 0 (fun v w => v = some (.int r9) ∧ w = (bW Γ.d 3 FK3 a s0)))
    (hK38 : ∀ s, K38 s = some r9 → (fun s : Int32 × Int32 => Go Γ 0 0 (bW Γ.d 3 FK3 a s0) 38 [(0, .ref (a 0)), (1, .int v1), (2, .int v2), (3, .int v3), (4, .int s.1), (5, .int s.2)] []) s) : ∀ (n : Nat) (s : Int32 × Int32), loop (g3_milesWith_81 s0 v1 v2 v3 v4 K38) n s = some r9 → (fun s : Int32 × Int32 => Go Γ 0 0 (bW Γ.d 3 FK3 a s0) 81 [(0, .ref (a 0)), (1, .int v1), (2, .int v2), (3, .int v3), (4, .int v4), (6, .int s.1), (7, .int s.2)] []) s := by
  refine loop_walk (P := fun s : Int32 × Int32 => Go Γ 0 0 (bW Γ.d 3 FK3 a s0) 81 [(0, .ref (a 0)), (1, .int v1), (2, .int v2), (3, .int v3), (4, .int v4), (6, .int s.1), (7, .int s.2)] []) ?_
  intro K81 hK81 s h
  obtain ⟨v6, v7⟩ := s
  dsimp only [g3_milesWith_81] at h
  show Go Γ 0 0 (bW Γ.d 3 FK3 a s0) 81 [(0, .ref (a 0)), (1, .int v1), (2, .int v2), (3, .int v3), (4, .int v4), (6, .int v6), (7, .int v7)] []
  refine go_iload (pc := 81) C dX3_milesWith_81 6 rfl ?_
  refine go_aload_n (pc := 83) C dX3_milesWith_83 rfl 0 rfl ?_
  refine x3gr_1 (pc := 84) C dX3_milesWith_84 ?_
  refine go_iconst (pc := 87) (v := (3 : Int32)) C dX3_milesWith_87 (by decide) ?_
  refine go_ialdK (pc := 88) (j := 3) C x3aA_1 (by decide) (by decide) dX3_milesWith_88 ?_
  refine go_icmp_ge (pc := 89) (tgt := 135) C dX3_milesWith_89 (by decide) h (fun h => ?_) (fun h => ?_)
  · refine go_iload (pc := 135) C dX3_milesWith_135 5 rfl ?_
    refine go_iload_n (pc := 137) C dX3_milesWith_137 rfl 3 rfl ?_
    refine go_icmp_lt (pc := 138) (tgt := 145) C dX3_milesWith_138 (by decide) h (fun h => ?_) (fun h => ?_)
    · refine go_iconst (pc := 145) (v := (0 : Int32)) C dX3_milesWith_145 (by decide) ?_
      refine go_sub [0, 1, 2, 3, 4] rfl ?_
      exact w3_milesWith_146 hN C hE hK38 h
    · refine go_iconst (pc := 141) (v := (1 : Int32)) C dX3_milesWith_141 (by decide) ?_
      refine go_goto (pc := 142) (tgt := 146) C dX3_milesWith_142 (by decide) ?_
      refine go_sub [0, 1, 2, 3, 4] rfl ?_
      exact w3_milesWith_146 hN C hE hK38 h
  · refine go_iload (pc := 92) C dX3_milesWith_92 5 rfl ?_
    refine go_iload_n (pc := 94) C dX3_milesWith_94 rfl 1 rfl ?_
    refine go_iload (pc := 95) C dX3_milesWith_95 6 rfl ?_
    obtain ⟨r5, e5, h⟩ := bnd_some h
    refine go_callSi (pc := 97) C [.int v1, .int v7] (m3_has e5) q1682 q1683 q144 q1684 x3pd_has (by decide) (by decide) rfl (Nat.le_of_ble_eq_true rfl) ⟨Nat.zero_le _, Nat.zero_le _⟩ dX3_milesWith_97 rfl ?_
    refine go_if_eq (pc := 100) (tgt := 125) C dX3_milesWith_100 (by decide) h (fun h => ?_) (fun h => ?_)
    · refine go_iconst (pc := 125) (v := (0 : Int32)) C dX3_milesWith_125 (by decide) ?_
      refine go_iadd (pc := 126) C dX3_milesWith_126 ?_
      refine go_istore (pc := 127) C hN dX3_milesWith_127 (by decide) rfl ?_
      refine go_iinc (pc := 129) (v := (v7 + (1 : Int32))) C hN dX3_milesWith_129 (q := 6) rfl rfl (by decide) rfl ?_
      refine go_goto (pc := 132) (tgt := 81) C dX3_milesWith_132 (by decide) ?_
      refine go_sub [2, 3, 4, 5, 6, 1, 0] rfl ?_
      exact hK81 ((v6 + (0 : Int32)), (v7 + (1 : Int32))) h
    · refine go_aload_n (pc := 103) C dX3_milesWith_103 rfl 0 rfl ?_
      refine x3gr_7 (pc := 104) C dX3_milesWith_104 ?_
      refine go_iload (pc := 107) C dX3_milesWith_107 6 rfl ?_
      refine go_iald (pc := 109) C x3aA_7 h dX3_milesWith_109 (fun h => ?_)
      refine go_aload_n (pc := 110) C dX3_milesWith_110 rfl 0 rfl ?_
      refine x3gr_8 (pc := 111) C dX3_milesWith_111 ?_
      refine go_iload (pc := 114) C dX3_milesWith_114 6 rfl ?_
      refine go_iald (pc := 116) C x3aA_8 h dX3_milesWith_116 (fun h => ?_)
      refine go_iload (pc := 117) C dX3_milesWith_117 4 rfl ?_
      obtain ⟨r6, e6, h⟩ := bnd_some h
      refine go_callSi (pc := 119) C [.int (s0.2.1 7 (v7).toNatClampNeg), .int (s0.2.1 8 (v7).toNatClampNeg), .int v4] (m3_soaked e6) q1974 q1975 q144 q1976 x3pd_soaked (by decide) (by decide) rfl (Nat.le_of_ble_eq_true rfl) ⟨Nat.zero_le _, Nat.zero_le _⟩ dX3_milesWith_119 rfl ?_
      refine go_goto (pc := 122) (tgt := 126) C dX3_milesWith_122 (by decide) ?_
      refine go_iadd (pc := 126) C dX3_milesWith_126 ?_
      refine go_istore (pc := 127) C hN dX3_milesWith_127 (by decide) rfl ?_
      refine go_iinc (pc := 129) (v := (v7 + (1 : Int32))) C hN dX3_milesWith_129 (q := 6) rfl rfl (by decide) rfl ?_
      refine go_goto (pc := 132) (tgt := 81) C dX3_milesWith_132 (by decide) ?_
      refine go_sub [2, 3, 4, 5, 6, 1, 0] rfl ?_
      exact hK81 ((v6 + r6), (v7 + (1 : Int32))) h
theorem w3_milesWith_38 {Γ : Gam} {a : Nat → Nat} {s0 : Bl} {v1 : Int32} {v2 : Int32} {v3 : Int32} {r9 : Int32} (hN : Γ.nL = 8) (C : Cx Γ cX3_milesWith RX3 (4, 0, 0) 103) (hE : Rets Γ cX3_milesWith (some .int) 0 0 (fun v w => v = some (.int r9) ∧ w = (bW Γ.d 3 FK3 a s0))) : ∀ (n : Nat) (s : Int32 × Int32), loop (g3_milesWith_38 s0 v1 v2 v3) n s = some r9 → (fun s : Int32 × Int32 => Go Γ 0 0 (bW Γ.d 3 FK3 a s0) 38 [(0, .ref (a 0)), (1, .int v1), (2, .int v2), (3, .int v3), (4, .int s.1), (5, .int s.2)] []) s := by
  refine loop_walk (P := fun s : Int32 × Int32 => Go Γ 0 0 (bW Γ.d 3 FK3 a s0) 38 [(0, .ref (a 0)), (1, .int v1), (2, .int v2), (3, .int v3), (4, .int s.1), (5, .int s.2)] []) ?_
  intro K38 hK38 s h
  obtain ⟨v4, v5⟩ := s
  dsimp only [g3_milesWith_38] at h
  show Go Γ 0 0 (bW Γ.d 3 FK3 a s0) 38 [(0, .ref (a 0)), (1, .int v1), (2, .int v2), (3, .int v3), (4, .int v4), (5, .int v5)] []
  refine go_iload (pc := 38) C dX3_milesWith_38 4 rfl ?_
  refine go_bipush (pc := 40) (v := (100 : Int32)) C dX3_milesWith_40 (by decide) ?_
  refine go_icmp_ge (pc := 42) (tgt := 166) C dX3_milesWith_42 (by decide) h (fun h => ?_) (fun h => ?_)
  · refine go_iload (pc := 166) C dX3_milesWith_166 4 rfl ?_
    exact (hE 0 0 _ _ _ (Nat.zero_le _) (Nat.zero_le _)).1 _ rfl dX3_milesWith_168 ⟨congrArg (fun z => some (Value.int z)) (some1 h), rfl⟩
  · refine go_iload (pc := 45) C dX3_milesWith_45 5 rfl ?_
    refine go_if_eq (pc := 47) (tgt := 166) C dX3_milesWith_47 (by decide) h (fun h => ?_) (fun h => ?_)
    · refine go_iload (pc := 166) C dX3_milesWith_166 4 rfl ?_
      exact (hE 0 0 _ _ _ (Nat.zero_le _) (Nat.zero_le _)).1 _ rfl dX3_milesWith_168 ⟨congrArg (fun z => some (Value.int z)) (some1 h), rfl⟩
    · refine go_iload_n (pc := 50) C dX3_milesWith_50 rfl 2 rfl ?_
      refine go_iconst (pc := 51) (v := (-1 : Int32)) C dX3_milesWith_51 (by decide) ?_
      refine go_icmp_ne (pc := 52) (tgt := 59) C dX3_milesWith_52 (by decide) h (fun h => ?_) (fun h => ?_)
      · refine go_aload_n (pc := 59) C dX3_milesWith_59 rfl 0 rfl ?_
        refine x3gr_17 (pc := 60) C dX3_milesWith_60 ?_
        refine go_iload_n (pc := 63) C dX3_milesWith_63 rfl 2 rfl ?_
        refine go_iald (pc := 64) C x3aA_17 h dX3_milesWith_64 (fun h => ?_)
        refine go_aload_n (pc := 65) C dX3_milesWith_65 rfl 0 rfl ?_
        refine x3gr_18 (pc := 66) C dX3_milesWith_66 ?_
        refine go_iload_n (pc := 69) C dX3_milesWith_69 rfl 2 rfl ?_
        refine go_iald (pc := 70) C x3aA_18 h dX3_milesWith_70 (fun h => ?_)
        refine go_iload (pc := 71) C dX3_milesWith_71 4 rfl ?_
        obtain ⟨r4, e4, h⟩ := bnd_some h
        refine go_callSi (pc := 73) C [.int (s0.2.1 17 (v2).toNatClampNeg), .int (s0.2.1 18 (v2).toNatClampNeg), .int v4] (m3_soaked e4) q1974 q1975 q144 q1976 x3pd_soaked (by decide) (by decide) rfl (Nat.le_of_ble_eq_true rfl) ⟨Nat.zero_le _, Nat.zero_le _⟩ dX3_milesWith_73 rfl ?_
        refine go_istore (pc := 76) C hN dX3_milesWith_76 (by decide) rfl ?_
        refine go_iconst (pc := 78) (v := (0 : Int32)) C dX3_milesWith_78 (by decide) ?_
        refine go_istore (pc := 79) C hN dX3_milesWith_79 (by decide) rfl ?_
        refine go_sub [2, 3, 4, 5, 6, 1, 0] rfl ?_
        exact w3_milesWith_81 hN C hE hK38 FU (r4, (0 : Int32)) h
      · refine go_iconst (pc := 55) (v := (0 : Int32)) C dX3_milesWith_55 (by decide) ?_
        refine go_goto (pc := 56) (tgt := 76) C dX3_milesWith_56 (by decide) ?_
        refine go_istore (pc := 76) C hN dX3_milesWith_76 (by decide) rfl ?_
        refine go_iconst (pc := 78) (v := (0 : Int32)) C dX3_milesWith_78 (by decide) ?_
        refine go_istore (pc := 79) C hN dX3_milesWith_79 (by decide) rfl ?_
        refine go_sub [2, 3, 4, 5, 6, 1, 0] rfl ?_
        exact w3_milesWith_81 hN C hE hK38 FU ((0 : Int32), (0 : Int32)) h
theorem m3_milesWith {l : Launch} {d : gD} {a : Nat → Nat} {s0 : Bl} {v1 : Int32} {v2 : Int32} {r9 : Int32} (h : f3_milesWith s0 v1 v2 = some r9) : Mt l d yX3_milesWith cX3_milesWith 8 (some .int) (4, 0, 0) 103 (bW d 3 FK3 a s0) [.ref (a 0), .int v1, .int v2] (fun v w => v = some (.int r9) ∧ w = (bW d 3 FK3 a s0)) := by
  refine Mt.of x3pn (Nat.le_of_ble_eq_true rfl) ?_
  intro Γ hl hd hN C hE
  subst hl; subst hd
  show Go Γ 0 0 (bW Γ.d 3 FK3 a s0) 0 [(0, .ref (a 0)), (1, .int v1), (2, .int v2)] []
  dsimp only [f3_milesWith] at h
  refine go_aload_n (pc := 0) C dX3_milesWith_0 rfl 0 rfl ?_
  refine go_iload_n (pc := 1) C dX3_milesWith_1 rfl 1 rfl ?_
  obtain ⟨r1, e1, h⟩ := bnd_some h
  refine go_callVi (pc := 2) C [.int v1] (m3_weightOf e1) q1740 q1742 qs97 q144 q1743 x3pd_weightOf (by decide) (by decide) bW_O x3c rfl (Nat.le_of_ble_eq_true rfl) ⟨Nat.zero_le _, Nat.zero_le _⟩ dX3_milesWith_2 rfl ?_
  refine go_aload_n (pc := 5) C dX3_milesWith_5 rfl 0 rfl ?_
  refine go_iload_n (pc := 6) C dX3_milesWith_6 rfl 1 rfl ?_
  refine go_aload_n (pc := 7) C dX3_milesWith_7 rfl 0 rfl ?_
  obtain ⟨r2, e2, h⟩ := bnd_some h
  refine go_callVi (pc := 8) C [] (m3_allRopes e2) q1670 q1672 qs85 q144 q1673 x3pd_allRopes (by decide) (by decide) bW_O x3c rfl (Nat.le_of_ble_eq_true rfl) ⟨Nat.zero_le _, Nat.zero_le _⟩ dX3_milesWith_8 rfl ?_
  obtain ⟨r3, e3, h⟩ := bnd_some h
  refine go_callVi (pc := 11) C [.int v1, .int r2] (m3_ridersOf e3) q1744 q1746 qs98 q144 q1747 x3pd_ridersOf (by decide) (by decide) bW_O x3c rfl (Nat.le_of_ble_eq_true rfl) ⟨Nat.zero_le _, Nat.zero_le _⟩ dX3_milesWith_11 rfl ?_
  refine go_iadd (pc := 14) C dX3_milesWith_14 ?_
  refine go_iload_n (pc := 15) C dX3_milesWith_15 rfl 2 rfl ?_
  refine go_iconst (pc := 16) (v := (-1 : Int32)) C dX3_milesWith_16 (by decide) ?_
  refine go_icmp_ne (pc := 17) (tgt := 24) C dX3_milesWith_17 (by decide) h (fun h => ?_) (fun h => ?_)
  · refine go_aload_n (pc := 24) C dX3_milesWith_24 rfl 0 rfl ?_
    refine x3gr_16 (pc := 25) C dX3_milesWith_25 ?_
    refine go_iload_n (pc := 28) C dX3_milesWith_28 rfl 2 rfl ?_
    refine go_iald (pc := 29) C x3aA_16 h dX3_milesWith_29 (fun h => ?_)
    refine go_iadd (pc := 30) C dX3_milesWith_30 ?_
    refine go_istore_n (pc := 31) C hN dX3_milesWith_31 rfl (by decide) rfl ?_
    refine go_iconst (pc := 32) (v := (0 : Int32)) C dX3_milesWith_32 (by decide) ?_
    refine go_istore (pc := 33) C hN dX3_milesWith_33 (by decide) rfl ?_
    refine go_iconst (pc := 35) (v := (1 : Int32)) C dX3_milesWith_35 (by decide) ?_
    refine go_istore (pc := 36) C hN dX3_milesWith_36 (by decide) rfl ?_
    refine go_sub [3, 4, 5, 2, 1, 0] rfl ?_
    exact w3_milesWith_38 hN C hE FU ((0 : Int32), (1 : Int32)) h
  · refine go_iconst (pc := 20) (v := (0 : Int32)) C dX3_milesWith_20 (by decide) ?_
    refine go_goto (pc := 21) (tgt := 30) C dX3_milesWith_21 (by decide) ?_
    refine go_iadd (pc := 30) C dX3_milesWith_30 ?_
    refine go_istore_n (pc := 31) C hN dX3_milesWith_31 rfl (by decide) rfl ?_
    refine go_iconst (pc := 32) (v := (0 : Int32)) C dX3_milesWith_32 (by decide) ?_
    refine go_istore (pc := 33) C hN dX3_milesWith_33 (by decide) rfl ?_
    refine go_iconst (pc := 35) (v := (1 : Int32)) C dX3_milesWith_35 (by decide) ?_
    refine go_istore (pc := 36) C hN dX3_milesWith_36 (by decide) rfl ?_
    refine go_sub [3, 4, 5, 2, 1, 0] rfl ?_
    exact w3_milesWith_38 hN C hE FU ((0 : Int32), (1 : Int32)) h
theorem w3_take_41 {Γ : Gam} {a : Nat → Nat} {s0 : Bl} {v2 : Int32} {v3 : Int32} {r9 : Int32} (hN : Γ.nL = 8) (C : Cx Γ cX3_take RX3 (5, 0, 0) 130) (hE : Rets Γ cX3_take (some .int) 0 0 (fun v w => v = some (.int r9) ∧ w = (bW Γ.d 3 FK3 a s0))) : ∀ (n : Nat) (s : Int32 × Int32 × Int32), loop (g3_take_41 s0 v2 v3) n s = some r9 → (fun s : Int32 × Int32 × Int32 => Go Γ 0 0 (bW Γ.d 3 FK3 a s0) 41 [(0, .ref (a 0)), (2, .int v2), (3, .int v3), (4, .int s.1), (5, .int s.2.1), (6, .int s.2.2)] []) s := by
  refine loop_walk (P := fun s : Int32 × Int32 × Int32 => Go Γ 0 0 (bW Γ.d 3 FK3 a s0) 41 [(0, .ref (a 0)), (2, .int v2), (3, .int v3), (4, .int s.1), (5, .int s.2.1), (6, .int s.2.2)] []) ?_
  intro K41 hK41 s h
  obtain ⟨v4, v5, v6⟩ := s
  dsimp only [g3_take_41] at h
  show Go Γ 0 0 (bW Γ.d 3 FK3 a s0) 41 [(0, .ref (a 0)), (2, .int v2), (3, .int v3), (4, .int v4), (5, .int v5), (6, .int v6)] []
  refine go_iload (pc := 41) C dX3_take_41 5 rfl ?_
  refine go_aload_n (pc := 43) C dX3_take_43 rfl 0 rfl ?_
  refine x3gr_1 (pc := 44) C dX3_take_44 ?_
  refine go_bipush (pc := 47) (v := (7 : Int32)) C dX3_take_47 (by decide) ?_
  refine go_ialdK (pc := 49) (j := 7) C x3aA_1 (by decide) (by decide) dX3_take_49 ?_
  refine go_icmp_ge (pc := 50) (tgt := 83) C dX3_take_50 (by decide) h (fun h => ?_) (fun h => ?_)
  · refine go_iload_n (pc := 83) C dX3_take_83 rfl 1 rfl ?_
    refine go_if_ne (pc := 84) (tgt := 92) C dX3_take_84 (by decide) h (fun h => ?_) (fun h => ?_)
    · refine go_iload (pc := 92) C dX3_take_92 4 rfl ?_
      exact (hE 0 0 _ _ _ (Nat.zero_le _) (Nat.zero_le _)).1 _ rfl dX3_take_94 ⟨congrArg (fun z => some (Value.int z)) (some1 h), rfl⟩
    · refine go_iload (pc := 87) C dX3_take_87 3 rfl ?_
      refine go_goto (pc := 89) (tgt := 94) C dX3_take_89 (by decide) ?_
      exact (hE 0 0 _ _ _ (Nat.zero_le _) (Nat.zero_le _)).1 _ rfl dX3_take_94 ⟨congrArg (fun z => some (Value.int z)) (some1 h), rfl⟩
  · refine go_aload_n (pc := 53) C dX3_take_53 rfl 0 rfl ?_
    refine go_iload_n (pc := 54) C dX3_take_54 rfl 2 rfl ?_
    refine go_iload (pc := 55) C dX3_take_55 5 rfl ?_
    obtain ⟨r5, e5, h⟩ := bnd_some h
    refine go_callVi (pc := 57) C [.int v3, .int v6] (m3_milesWith e5) q1970 q1972 qs133 q144 q1973 x3pd_milesWith (by decide) (by decide) bW_O x3c rfl (Nat.le_of_ble_eq_true rfl) ⟨Nat.zero_le _, Nat.zero_le _⟩ dX3_take_57 rfl ?_
    refine go_istore (pc := 60) C hN dX3_take_60 (by decide) rfl ?_
    refine go_iload (pc := 62) C dX3_take_62 0 rfl ?_
    refine go_iload (pc := 64) C dX3_take_64 5 rfl ?_
    refine go_icmp_le (pc := 66) (tgt := 77) C dX3_take_66 (by decide) h (fun h => ?_) (fun h => ?_)
    · refine go_iinc (pc := 77) (v := (v6 + (1 : Int32))) C hN dX3_take_77 (q := 6) rfl rfl (by decide) rfl ?_
      refine go_goto (pc := 80) (tgt := 41) C dX3_take_80 (by decide) ?_
      refine go_sub [2, 3, 4, 5, 6, 0] rfl ?_
      exact hK41 (v4, v5, (v6 + (1 : Int32))) h
    · refine go_iload (pc := 69) C dX3_take_69 6 rfl ?_
      refine go_istore (pc := 71) C hN dX3_take_71 (by decide) rfl ?_
      refine go_iload (pc := 73) C dX3_take_73 1 rfl ?_
      refine go_istore (pc := 75) C hN dX3_take_75 (by decide) rfl ?_
      refine go_iinc (pc := 77) (v := (v6 + (1 : Int32))) C hN dX3_take_77 (q := 6) rfl rfl (by decide) rfl ?_
      refine go_goto (pc := 80) (tgt := 41) C dX3_take_80 (by decide) ?_
      refine go_sub [4, 5, 6, 2, 1, 0] rfl ?_
      exact hK41 (v6, r5, (v6 + (1 : Int32))) h
theorem m3_take {l : Launch} {d : gD} {a : Nat → Nat} {s0 : Bl} {v1 : Int32} {v2 : Int32} {r9 : Int32} (h : f3_take s0 v1 v2 = some r9) : Mt l d yX3_take cX3_take 8 (some .int) (5, 0, 0) 130 (bW d 3 FK3 a s0) [.ref (a 0), .int v1, .int v2] (fun v w => v = some (.int r9) ∧ w = (bW d 3 FK3 a s0)) := by
  refine Mt.of x3pn (Nat.le_of_ble_eq_true rfl) ?_
  intro Γ hl hd hN C hE
  subst hl; subst hd
  show Go Γ 0 0 (bW Γ.d 3 FK3 a s0) 0 [(0, .ref (a 0)), (1, .int v1), (2, .int v2)] []
  dsimp only [f3_take] at h
  refine go_aload_n (pc := 0) C dX3_take_0 rfl 0 rfl ?_
  refine go_iload_n (pc := 1) C dX3_take_1 rfl 1 rfl ?_
  obtain ⟨r1, e1, h⟩ := bnd_some h
  refine go_callVi (pc := 2) C [.int v1] (m3_isAfloat e1) q1728 q1730 qs94 q144 q1731 x3pd_isAfloat (by decide) (by decide) bW_O x3c rfl (Nat.le_of_ble_eq_true rfl) ⟨Nat.zero_le _, Nat.zero_le _⟩ dX3_take_2 rfl ?_
  refine go_if_eq (pc := 5) (tgt := 18) C dX3_take_5 (by decide) h (fun h => ?_) (fun h => ?_)
  · refine go_iconst (pc := 18) (v := (-1 : Int32)) C dX3_take_18 (by decide) ?_
    exact (hE 0 0 _ _ _ (Nat.zero_le _) (Nat.zero_le _)).1 _ rfl dX3_take_19 ⟨congrArg (fun z => some (Value.int z)) (some1 h), rfl⟩
  · refine go_iload_n (pc := 8) C dX3_take_8 rfl 2 rfl ?_
    refine go_i2l (pc := 9) C dX3_take_9 ?_
    refine go_lconst (pc := 10) (v := (0 : Int64)) C dX3_take_10 (by decide) ?_
    refine go_lconst (pc := 11) (v := (1 : Int64)) C dX3_take_11 (by decide) ?_
    obtain ⟨r2, e2, h⟩ := bnd_some h
    refine go_callSi (pc := 12) C [.long (v2).toInt64, .long (0 : Int64), .long (1 : Int64)] (m3_in e2) q1564 q1565 q144 q1566 x3pd_in (by decide) (by decide) rfl (Nat.le_of_ble_eq_true rfl) ⟨Nat.zero_le _, Nat.zero_le _⟩ dX3_take_12 rfl ?_
    refine go_if_ne (pc := 15) (tgt := 20) C dX3_take_15 (by decide) h (fun h => ?_) (fun h => ?_)
    · refine go_aload_n (pc := 20) C dX3_take_20 rfl 0 rfl ?_
      refine go_iload_n (pc := 21) C dX3_take_21 rfl 1 rfl ?_
      obtain ⟨r3, e3, h⟩ := bnd_some h
      refine go_callVi (pc := 22) C [.int v1] (m3_pieceOf e3) q1700 q1702 qs90 q144 q1703 x3pd_pieceOf (by decide) (by decide) bW_O x3c rfl (Nat.le_of_ble_eq_true rfl) ⟨Nat.zero_le _, Nat.zero_le _⟩ dX3_take_22 rfl ?_
      refine go_istore_n (pc := 25) C hN dX3_take_25 rfl (by decide) rfl ?_
      refine go_bipush (pc := 26) (v := (-2 : Int32)) C dX3_take_26 (by decide) ?_
      refine go_istore (pc := 28) C hN dX3_take_28 (by decide) rfl ?_
      refine go_aload_n (pc := 30) C dX3_take_30 rfl 2 rfl ?_
      refine go_iload_n (pc := 31) C dX3_take_31 rfl 1 rfl ?_
      refine go_iconst (pc := 32) (v := (-1 : Int32)) C dX3_take_32 (by decide) ?_
      obtain ⟨r4, e4, h⟩ := bnd_some h
      refine go_callVi (pc := 33) C [.int r3, .int (-1 : Int32)] (m3_milesWith e4) q1970 q1972 qs133 q144 q1973 x3pd_milesWith (by decide) (by decide) bW_O x3c rfl (Nat.le_of_ble_eq_true rfl) ⟨Nat.zero_le _, Nat.zero_le _⟩ dX3_take_33 rfl ?_
      refine go_istore (pc := 36) C hN dX3_take_36 (by decide) rfl ?_
      refine go_iconst (pc := 38) (v := (0 : Int32)) C dX3_take_38 (by decide) ?_
      refine go_istore (pc := 39) C hN dX3_take_39 (by decide) rfl ?_
      refine go_sub [4, 6, 3, 2, 1, 0] rfl ?_
      exact w3_take_41 hN C hE FU ((-2 : Int32), r4, (0 : Int32)) h
    · refine go_iconst (pc := 18) (v := (-1 : Int32)) C dX3_take_18 (by decide) ?_
      exact (hE 0 0 _ _ _ (Nat.zero_le _) (Nat.zero_le _)).1 _ rfl dX3_take_19 ⟨congrArg (fun z => some (Value.int z)) (some1 h), rfl⟩
theorem w3_winningFrom_2 {Γ : Gam} {a : Nat → Nat} {s0 : Bl} {v1 : Int32} {r9 : Int32} (hN : Γ.nL = 4) (C : Cx Γ cX3_winningFrom RX3 (3, 0, 0) 65) (hE : Rets Γ cX3_winningFrom (some .int) 0 0 (fun v w => v = some (.int r9) ∧ w = (bW Γ.d 3 FK3 a s0))) : ∀ (n : Nat) (s : Int32), loop (g3_winningFrom_2 s0 v1) n s = some r9 → (fun s : Int32 => Go Γ 0 0 (bW Γ.d 3 FK3 a s0) 2 [(0, .ref (a 0)), (1, .int v1), (2, .int s)] []) s := by
  refine loop_walk (P := fun s : Int32 => Go Γ 0 0 (bW Γ.d 3 FK3 a s0) 2 [(0, .ref (a 0)), (1, .int v1), (2, .int s)] []) ?_
  intro K2 hK2 s h
  obtain ⟨v2, rfl⟩ : ∃ z, z = s := ⟨_, rfl⟩
  dsimp only [g3_winningFrom_2] at h
  show Go Γ 0 0 (bW Γ.d 3 FK3 a s0) 2 [(0, .ref (a 0)), (1, .int v1), (2, .int v2)] []
  refine go_iload_n (pc := 2) C dX3_winningFrom_2 rfl 2 rfl ?_
  refine go_aload_n (pc := 3) C dX3_winningFrom_3 rfl 0 rfl ?_
  refine x3gr_1 (pc := 4) C dX3_winningFrom_4 ?_
  refine go_iconst (pc := 7) (v := (3 : Int32)) C dX3_winningFrom_7 (by decide) ?_
  refine go_ialdK (pc := 8) (j := 3) C x3aA_1 (by decide) (by decide) dX3_winningFrom_8 ?_
  refine go_icmp_ge (pc := 9) (tgt := 53) C dX3_winningFrom_9 (by decide) h (fun h => ?_) (fun h => ?_)
  · refine go_iconst (pc := 53) (v := (-1 : Int32)) C dX3_winningFrom_53 (by decide) ?_
    exact (hE 0 0 _ _ _ (Nat.zero_le _) (Nat.zero_le _)).1 _ rfl dX3_winningFrom_54 ⟨congrArg (fun z => some (Value.int z)) (some1 h), rfl⟩
  · refine go_iload_n (pc := 12) C dX3_winningFrom_12 rfl 1 rfl ?_
    refine go_iconst (pc := 13) (v := (1 : Int32)) C dX3_winningFrom_13 (by decide) ?_
    refine go_iload_n (pc := 14) C dX3_winningFrom_14 rfl 2 rfl ?_
    refine go_ishl (pc := 15) C dX3_winningFrom_15 ?_
    refine go_iconst (pc := 16) (v := (-1 : Int32)) C dX3_winningFrom_16 (by decide) ?_
    refine go_ixor (pc := 17) C dX3_winningFrom_17 ?_
    refine go_iand (pc := 18) C dX3_winningFrom_18 ?_
    refine go_istore_n (pc := 19) C hN dX3_winningFrom_19 rfl (by decide) rfl ?_
    refine go_iload_n (pc := 20) C dX3_winningFrom_20 rfl 2 rfl ?_
    refine go_iload_n (pc := 21) C dX3_winningFrom_21 rfl 3 rfl ?_
    obtain ⟨r1, e1, h⟩ := bnd_some h
    refine go_callSi (pc := 22) C [.int v1, .int v2] (m3_has e1) q1682 q1683 q144 q1684 x3pd_has (by decide) (by decide) rfl (Nat.le_of_ble_eq_true rfl) ⟨Nat.zero_le _, Nat.zero_le _⟩ dX3_winningFrom_22 rfl ?_
    refine go_if_eq (pc := 25) (tgt := 47) C dX3_winningFrom_25 (by decide) h (fun h => ?_) (fun h => ?_)
    · refine go_iinc (pc := 47) (v := (v2 + (1 : Int32))) C hN dX3_winningFrom_47 (q := 3) rfl rfl (by decide) rfl ?_
      refine go_goto (pc := 50) (tgt := 2) C dX3_winningFrom_50 (by decide) ?_
      refine go_sub [2, 3, 0] rfl ?_
      exact hK2 (v2 + (1 : Int32)) h
    · refine go_aload_n (pc := 28) C dX3_winningFrom_28 rfl 1 rfl ?_
      refine go_iload_n (pc := 29) C dX3_winningFrom_29 rfl 0 rfl ?_
      obtain ⟨r2, e2, h⟩ := bnd_some h
      refine go_callVi (pc := 30) C [.int (v1 &&& (((1 : Int32) <<< (v2 &&& 31)) ^^^ (-1 : Int32)))] (m3_isBorne e2) q1895 q1897 qs123 q144 q1898 x3pd_isBorne (by decide) (by decide) bW_O x3c rfl (Nat.le_of_ble_eq_true rfl) ⟨Nat.zero_le _, Nat.zero_le _⟩ dX3_winningFrom_30 rfl ?_
      refine go_if_eq (pc := 33) (tgt := 47) C dX3_winningFrom_33 (by decide) h (fun h => ?_) (fun h => ?_)
      · refine go_iinc (pc := 47) (v := (v2 + (1 : Int32))) C hN dX3_winningFrom_47 (q := 3) rfl rfl (by decide) rfl ?_
        refine go_goto (pc := 50) (tgt := 2) C dX3_winningFrom_50 (by decide) ?_
        refine go_sub [2, 3, 0] rfl ?_
        exact hK2 (v2 + (1 : Int32)) h
      · refine go_aload_n (pc := 36) C dX3_winningFrom_36 rfl 1 rfl ?_
        refine x3gr_68 (pc := 37) C dX3_winningFrom_37 ?_
        refine go_iload_n (pc := 40) C dX3_winningFrom_40 rfl 0 rfl ?_
        refine go_zald (pc := 41) C x3aA_68 h dX3_winningFrom_41 (fun h => ?_)
        refine go_if_ne (pc := 42) (tgt := 47) C dX3_winningFrom_42 (by decide) h (fun h => ?_) (fun h => ?_)
        · refine go_iinc (pc := 47) (v := (v2 + (1 : Int32))) C hN dX3_winningFrom_47 (q := 3) rfl rfl (by decide) rfl ?_
          refine go_goto (pc := 50) (tgt := 2) C dX3_winningFrom_50 (by decide) ?_
          refine go_sub [2, 3, 0] rfl ?_
          exact hK2 (v2 + (1 : Int32)) h
        · refine go_iload_n (pc := 45) C dX3_winningFrom_45 rfl 3 rfl ?_
          exact (hE 0 0 _ _ _ (Nat.zero_le _) (Nat.zero_le _)).1 _ rfl dX3_winningFrom_46 ⟨congrArg (fun z => some (Value.int z)) (some1 h), rfl⟩

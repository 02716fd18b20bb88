/-! walks of the Model, printed by gen/model.py -/
set_option maxRecDepth 100000
set_option maxHeartbeats 4000000
theorem m3_readsAll {l : Launch} {d : gD} {a : Nat → Nat} {s0 : Bl} {s9 : Bl} (h : f3_readsAll s0 = some s9) : Mt l d yX3_readsAll cX3_readsAll 3 none (7, 0, 0) 161 (bW d 3 FK3 a s0) [.ref (a 0)] (fun v w => v = none ∧ w = (bW d 3 FK3 a s9)) := by
  refine Mt.of x3pn (Nat.le_of_ble_eq_true rfl) ?_
  intro Γ hl hd hN C hE
  subst hl; subst hd
  show Go Γ 0 0 (bW Γ.d 3 FK3 a s0) 0 [(0, .ref (a 0))] []
  dsimp only [f3_readsAll] at h
  refine go_aload_n (pc := 0) C dX3_readsAll_0 rfl 0 rfl ?_
  obtain ⟨s1, e1, h⟩ := bnd_some h
  refine go_callVv (pc := 1) C [] (m3_starts e1) q1507 q1509 qs56 q144 q1510 x3pd_starts (by decide) (by decide) bW_O x3c rfl (Nat.le_of_ble_eq_true rfl) ⟨Nat.zero_le _, Nat.zero_le _⟩ dX3_readsAll_1 rfl ?_
  refine go_iconst (pc := 4) (v := (0 : Int32)) C dX3_readsAll_4 (by decide) ?_
  refine go_istore_n (pc := 5) C hN dX3_readsAll_5 rfl (by decide) rfl ?_
  refine go_sub [1, 0] rfl ?_
  exact w3_readsAll_6 hN C hE FU (s1, (0 : Int32)) h
theorem w3_copies_2 {Γ : Gam} {a : Nat → Nat} {k0 : Nat} {n0 : Nat} {k1 : Nat} {n1 : Nat} {s9 : Bl} (hN : Γ.nL = 3) (C : Cx Γ cX3_copies RX3 (0, 0, 0) 0) (hE : Rets Γ cX3_copies none 0 0 (fun v w => v = none ∧ w = (bW Γ.d 3 FK3 a s9))) (hk0 : FK3[k0]? = some (1, n0)) (hk1 : FK3[k1]? = some (1, n1)) : ∀ (n : Nat) (s : Bl × Int32), loop (g3_copies_2 k0 n0 k1 n1) n s = some s9 → (fun s : Bl × Int32 => Go Γ 0 0 (bW Γ.d 3 FK3 a s.1) 2 [(0, .ref (a (k0 + 1))), (1, .ref (a (k1 + 1))), (2, .int s.2)] []) s := by
  refine loop_walk (P := fun s : Bl × Int32 => Go Γ 0 0 (bW Γ.d 3 FK3 a s.1) 2 [(0, .ref (a (k0 + 1))), (1, .ref (a (k1 + 1))), (2, .int s.2)] []) ?_
  intro K2 hK2 s h
  obtain ⟨s0, v2⟩ := s
  dsimp only [g3_copies_2] at h
  show Go Γ 0 0 (bW Γ.d 3 FK3 a s0) 2 [(0, .ref (a (k0 + 1))), (1, .ref (a (k1 + 1))), (2, .int v2)] []
  refine go_iload_n (pc := 2) C dX3_copies_2 rfl 2 rfl ?_
  refine go_aload_n (pc := 3) C dX3_copies_3 rfl 0 rfl ?_
  refine go_alen (pc := 4) (t := 0) C (bW_A hk0 (by decide)) rfl rfl dX3_copies_4 ?_
  refine go_icmp_ge (pc := 5) (tgt := 20) C dX3_copies_5 (by decide) h (fun h => ?_) (fun h => ?_)
  · exact (hE 0 0 _ _ _ (Nat.zero_le _) (Nat.zero_le _)).2.2.2.1 rfl dX3_copies_20 ⟨rfl, congrArg (fun z => bW Γ.d 3 FK3 a z) (some1 h)⟩
  · refine go_aload_n (pc := 8) C dX3_copies_8 rfl 1 rfl ?_
    refine go_iload_n (pc := 9) C dX3_copies_9 rfl 2 rfl ?_
    refine go_aload_n (pc := 10) C dX3_copies_10 rfl 0 rfl ?_
    refine go_iload_n (pc := 11) C dX3_copies_11 rfl 2 rfl ?_
    refine go_iald (pc := 12) C (bW_A hk0 (by decide)) h dX3_copies_12 (fun h => ?_)
    refine go_iast (pc := 13) C (bW_putA hk1 (by decide)) h dX3_copies_13 (fun h => ?_)
    refine go_iinc (pc := 14) (v := (v2 + (1 : Int32))) C hN dX3_copies_14 (q := 2) rfl rfl (by decide) rfl ?_
    refine go_goto (pc := 17) (tgt := 2) C dX3_copies_17 (by decide) ?_
    refine go_sub [1, 2, 0] rfl ?_
    exact hK2 ((bA s0 k1 (v2).toNatClampNeg (s0.2.1 k0 (v2).toNatClampNeg)), (v2 + (1 : Int32))) h
theorem m3_copies {l : Launch} {d : gD} {a : Nat → Nat} {s0 : Bl} {k0 : Nat} {n0 : Nat} {k1 : Nat} {n1 : Nat} {s9 : Bl} (h : f3_copies s0 k0 n0 k1 n1 = some s9) (hk0 : FK3[k0]? = some (1, n0)) (hk1 : FK3[k1]? = some (1, n1)) : Mt l d yX3_copies cX3_copies 3 none (0, 0, 0) 0 (bW d 3 FK3 a s0) [.ref (a (k0 + 1)), .ref (a (k1 + 1))] (fun v w => v = none ∧ w = (bW d 3 FK3 a s9)) := by
  refine Mt.of x3pn (Nat.le_of_ble_eq_true rfl) ?_
  intro Γ hl hd hN C hE
  subst hl; subst hd
  show Go Γ 0 0 (bW Γ.d 3 FK3 a s0) 0 [(0, .ref (a (k0 + 1))), (1, .ref (a (k1 + 1)))] []
  dsimp only [f3_copies] at h
  refine go_iconst (pc := 0) (v := (0 : Int32)) C dX3_copies_0 (by decide) ?_
  refine go_istore_n (pc := 1) C hN dX3_copies_1 rfl (by decide) rfl ?_
  refine go_sub [1, 2, 0] rfl ?_
  exact w3_copies_2 hN C hE hk0 hk1 FU (s0, (0 : Int32)) h
theorem w3_river_199 {Γ : Gam} {a : Nat → Nat} {r9 : Int32} {s9 : Bl} (hN : Γ.nL = 2) (C : Cx Γ cX3_river RX3 (8, 0, 0) 183) (hE : Rets Γ cX3_river (some .int) 0 0 (fun v w => v = some (.int r9) ∧ w = (bW Γ.d 3 FK3 a s9))) : ∀ (n : Nat) (s : Bl × Int32), loop (g3_river_199) n s = some (r9, s9) → (fun s : Bl × Int32 => Go Γ 0 0 (bW Γ.d 3 FK3 a s.1) 199 [(0, .ref (a 0)), (1, .int s.2)] []) s := by
  refine loop_walk (P := fun s : Bl × Int32 => Go Γ 0 0 (bW Γ.d 3 FK3 a s.1) 199 [(0, .ref (a 0)), (1, .int s.2)] []) ?_
  intro K199 hK199 s h
  obtain ⟨s0, v1⟩ := s
  dsimp only [g3_river_199] at h
  show Go Γ 0 0 (bW Γ.d 3 FK3 a s0) 199 [(0, .ref (a 0)), (1, .int v1)] []
  refine go_iload_n (pc := 199) C dX3_river_199 rfl 1 rfl ?_
  refine go_bipush (pc := 200) (v := (8 : Int32)) C dX3_river_200 (by decide) ?_
  refine go_icmp_ge (pc := 202) (tgt := 226) C dX3_river_202 (by decide) h (fun h => ?_) (fun h => ?_)
  · refine go_aload_n (pc := 226) C dX3_river_226 rfl 0 rfl ?_
    refine go_iconst (pc := 227) (v := (0 : Int32)) C dX3_river_227 (by decide) ?_
    refine x3pi_55 (pc := 228) C dX3_river_228 ?_
    refine go_aload_n (pc := 231) C dX3_river_231 rfl 0 rfl ?_
    refine x3gr_1 (pc := 232) C dX3_river_232 ?_
    refine go_iconst (pc := 235) (v := (3 : Int32)) C dX3_river_235 (by decide) ?_
    refine go_ialdK (pc := 236) (j := 3) C x3aA_1 (by decide) (by decide) dX3_river_236 ?_
    exact (hE 0 0 _ _ _ (Nat.zero_le _) (Nat.zero_le _)).1 _ rfl dX3_river_237 ⟨congrArg (fun z => some (Value.int z)) (some2 h).1, congrArg (fun z => bW Γ.d 3 FK3 a z) (some2 h).2⟩
  · refine go_aload_n (pc := 205) C dX3_river_205 rfl 0 rfl ?_
    refine x3gr_9 (pc := 206) C dX3_river_206 ?_
    refine go_iload_n (pc := 209) C dX3_river_209 rfl 1 rfl ?_
    refine go_iconst (pc := 210) (v := (0 : Int32)) C dX3_river_210 (by decide) ?_
    refine go_iast (pc := 211) C x3pA_9 h dX3_river_211 (fun h => ?_)
    refine go_aload_n (pc := 212) C dX3_river_212 rfl 0 rfl ?_
    refine x3gr_10 (pc := 213) C dX3_river_213 ?_
    refine go_iload_n (pc := 216) C dX3_river_216 rfl 1 rfl ?_
    refine go_bipush (pc := 217) (v := (-2 : Int32)) C dX3_river_217 (by decide) ?_
    refine go_iast (pc := 219) C x3pA_10 h dX3_river_219 (fun h => ?_)
    refine go_iinc (pc := 220) (v := (v1 + (1 : Int32))) C hN dX3_river_220 (q := 1) rfl rfl (by decide) rfl ?_
    refine go_goto (pc := 223) (tgt := 199) C dX3_river_223 (by decide) ?_
    refine go_sub [1, 0] rfl ?_
    exact hK199 ((bA (bA s0 9 (v1).toNatClampNeg (0 : Int32)) 10 (v1).toNatClampNeg (-2 : Int32)), (v1 + (1 : Int32))) h
theorem w3_river_178 {Γ : Gam} {a : Nat → Nat} {r9 : Int32} {s9 : Bl} (hN : Γ.nL = 2) (C : Cx Γ cX3_river RX3 (8, 0, 0) 183) (hE : Rets Γ cX3_river (some .int) 0 0 (fun v w => v = some (.int r9) ∧ w = (bW Γ.d 3 FK3 a s9))) : ∀ (n : Nat) (s : Bl × Int32), loop (g3_river_178) n s = some (r9, s9) → (fun s : Bl × Int32 => Go Γ 0 0 (bW Γ.d 3 FK3 a s.1) 178 [(0, .ref (a 0)), (1, .int s.2)] []) s := by
  refine loop_walk (P := fun s : Bl × Int32 => Go Γ 0 0 (bW Γ.d 3 FK3 a s.1) 178 [(0, .ref (a 0)), (1, .int s.2)] []) ?_
  intro K178 hK178 s h
  obtain ⟨s0, v1⟩ := s
  dsimp only [g3_river_178] at h
  show Go Γ 0 0 (bW Γ.d 3 FK3 a s0) 178 [(0, .ref (a 0)), (1, .int v1)] []
  refine go_iload_n (pc := 178) C dX3_river_178 rfl 1 rfl ?_
  refine go_bipush (pc := 179) (v := (6 : Int32)) C dX3_river_179 (by decide) ?_
  refine go_icmp_ge (pc := 181) (tgt := 197) C dX3_river_181 (by decide) h (fun h => ?_) (fun h => ?_)
  · refine go_iconst (pc := 197) (v := (0 : Int32)) C dX3_river_197 (by decide) ?_
    refine go_istore_n (pc := 198) C hN dX3_river_198 rfl (by decide) rfl ?_
    refine go_sub [1, 0] rfl ?_
    exact w3_river_199 hN C hE FU (s0, (0 : Int32)) h
  · refine go_aload_n (pc := 184) C dX3_river_184 rfl 0 rfl ?_
    refine x3gr_4 (pc := 185) C dX3_river_185 ?_
    refine go_iload_n (pc := 188) C dX3_river_188 rfl 1 rfl ?_
    refine go_iconst (pc := 189) (v := (0 : Int32)) C dX3_river_189 (by decide) ?_
    refine go_iast (pc := 190) C x3pA_4 h dX3_river_190 (fun h => ?_)
    refine go_iinc (pc := 191) (v := (v1 + (1 : Int32))) C hN dX3_river_191 (q := 1) rfl rfl (by decide) rfl ?_
    refine go_goto (pc := 194) (tgt := 178) C dX3_river_194 (by decide) ?_
    refine go_sub [1, 0] rfl ?_
    exact hK178 ((bA s0 4 (v1).toNatClampNeg (0 : Int32)), (v1 + (1 : Int32))) h
theorem w3_river_21 {Γ : Gam} {a : Nat → Nat} {r9 : Int32} {s9 : Bl} (hN : Γ.nL = 2) (C : Cx Γ cX3_river RX3 (8, 0, 0) 183) (hE : Rets Γ cX3_river (some .int) 0 0 (fun v w => v = some (.int r9) ∧ w = (bW Γ.d 3 FK3 a s9))) : ∀ (n : Nat) (s : Bl × Int32), loop (g3_river_21) n s = some (r9, s9) → (fun s : Bl × Int32 => Go Γ 0 0 (bW Γ.d 3 FK3 a s.1) 21 [(0, .ref (a 0)), (1, .int s.2)] []) s := by
  refine loop_walk (P := fun s : Bl × Int32 => Go Γ 0 0 (bW Γ.d 3 FK3 a s.1) 21 [(0, .ref (a 0)), (1, .int s.2)] []) ?_
  intro K21 hK21 s h
  obtain ⟨s0, v1⟩ := s
  dsimp only [g3_river_21] at h
  show Go Γ 0 0 (bW Γ.d 3 FK3 a s0) 21 [(0, .ref (a 0)), (1, .int v1)] []
  refine go_iload_n (pc := 21) C dX3_river_21 rfl 1 rfl ?_
  refine go_bipush (pc := 22) (v := (8 : Int32)) C dX3_river_22 (by decide) ?_
  refine go_icmp_ge (pc := 24) (tgt := 55) C dX3_river_24 (by decide) h (fun h => ?_) (fun h => ?_)
  · refine go_aload_n (pc := 55) C dX3_river_55 rfl 0 rfl ?_
    refine x3gr_20 (pc := 56) C dX3_river_56 ?_
    refine go_aload_n (pc := 59) C dX3_river_59 rfl 0 rfl ?_
    refine x3gr_2 (pc := 60) C dX3_river_60 ?_
    obtain ⟨s2, e2, h⟩ := bnd_some h
    refine go_callSv (pc := 63) C [.ref (a (20 + 1)), .ref (a (2 + 1))] (m3_copies e2 x3fk_20 x3fk_2) q1583 q1584 q144 q1585 x3pd_copies (by decide) (by decide) rfl (Nat.le_of_ble_eq_true rfl) ⟨Nat.zero_le _, Nat.zero_le _⟩ dX3_river_63 rfl ?_
    refine go_aload_n (pc := 66) C dX3_river_66 rfl 0 rfl ?_
    refine x3gr_21 (pc := 67) C dX3_river_67 ?_
    refine go_aload_n (pc := 70) C dX3_river_70 rfl 0 rfl ?_
    refine x3gr_3 (pc := 71) C dX3_river_71 ?_
    obtain ⟨s3, e3, h⟩ := bnd_some h
    refine go_callSv (pc := 74) C [.ref (a (21 + 1)), .ref (a (3 + 1))] (m3_copies e3 x3fk_21 x3fk_3) q1583 q1584 q144 q1585 x3pd_copies (by decide) (by decide) rfl (Nat.le_of_ble_eq_true rfl) ⟨Nat.zero_le _, Nat.zero_le _⟩ dX3_river_74 rfl ?_
    refine go_aload_n (pc := 77) C dX3_river_77 rfl 0 rfl ?_
    refine x3gr_22 (pc := 78) C dX3_river_78 ?_
    refine go_aload_n (pc := 81) C dX3_river_81 rfl 0 rfl ?_
    refine x3gr_5 (pc := 82) C dX3_river_82 ?_
    obtain ⟨s4, e4, h⟩ := bnd_some h
    refine go_callSv (pc := 85) C [.ref (a (22 + 1)), .ref (a (5 + 1))] (m3_copies e4 x3fk_22 x3fk_5) q1583 q1584 q144 q1585 x3pd_copies (by decide) (by decide) rfl (Nat.le_of_ble_eq_true rfl) ⟨Nat.zero_le _, Nat.zero_le _⟩ dX3_river_85 rfl ?_
    refine go_aload_n (pc := 88) C dX3_river_88 rfl 0 rfl ?_
    refine x3gr_23 (pc := 89) C dX3_river_89 ?_
    refine go_aload_n (pc := 92) C dX3_river_92 rfl 0 rfl ?_
    refine x3gr_6 (pc := 93) C dX3_river_93 ?_
    obtain ⟨s5, e5, h⟩ := bnd_some h
    refine go_callSv (pc := 96) C [.ref (a (23 + 1)), .ref (a (6 + 1))] (m3_copies e5 x3fk_23 x3fk_6) q1583 q1584 q144 q1585 x3pd_copies (by decide) (by decide) rfl (Nat.le_of_ble_eq_true rfl) ⟨Nat.zero_le _, Nat.zero_le _⟩ dX3_river_96 rfl ?_
    refine go_aload_n (pc := 99) C dX3_river_99 rfl 0 rfl ?_
    refine x3gr_24 (pc := 100) C dX3_river_100 ?_
    refine go_aload_n (pc := 103) C dX3_river_103 rfl 0 rfl ?_
    refine x3gr_7 (pc := 104) C dX3_river_104 ?_
    obtain ⟨s6, e6, h⟩ := bnd_some h
    refine go_callSv (pc := 107) C [.ref (a (24 + 1)), .ref (a (7 + 1))] (m3_copies e6 x3fk_24 x3fk_7) q1583 q1584 q144 q1585 x3pd_copies (by decide) (by decide) rfl (Nat.le_of_ble_eq_true rfl) ⟨Nat.zero_le _, Nat.zero_le _⟩ dX3_river_107 rfl ?_
    refine go_aload_n (pc := 110) C dX3_river_110 rfl 0 rfl ?_
    refine x3gr_25 (pc := 111) C dX3_river_111 ?_
    refine go_aload_n (pc := 114) C dX3_river_114 rfl 0 rfl ?_
    refine x3gr_8 (pc := 115) C dX3_river_115 ?_
    obtain ⟨s7, e7, h⟩ := bnd_some h
    refine go_callSv (pc := 118) C [.ref (a (25 + 1)), .ref (a (8 + 1))] (m3_copies e7 x3fk_25 x3fk_8) q1583 q1584 q144 q1585 x3pd_copies (by decide) (by decide) rfl (Nat.le_of_ble_eq_true rfl) ⟨Nat.zero_le _, Nat.zero_le _⟩ dX3_river_118 rfl ?_
    refine go_aload_n (pc := 121) C dX3_river_121 rfl 0 rfl ?_
    refine x3gr_26 (pc := 122) C dX3_river_122 ?_
    refine go_aload_n (pc := 125) C dX3_river_125 rfl 0 rfl ?_
    refine x3gr_11 (pc := 126) C dX3_river_126 ?_
    obtain ⟨s8, e8, h⟩ := bnd_some h
    refine go_callSv (pc := 129) C [.ref (a (26 + 1)), .ref (a (11 + 1))] (m3_copies e8 x3fk_26 x3fk_11) q1583 q1584 q144 q1585 x3pd_copies (by decide) (by decide) rfl (Nat.le_of_ble_eq_true rfl) ⟨Nat.zero_le _, Nat.zero_le _⟩ dX3_river_129 rfl ?_
    refine go_aload_n (pc := 132) C dX3_river_132 rfl 0 rfl ?_
    refine x3gr_27 (pc := 133) C dX3_river_133 ?_
    refine go_aload_n (pc := 136) C dX3_river_136 rfl 0 rfl ?_
    refine x3gr_12 (pc := 137) C dX3_river_137 ?_
    obtain ⟨s9, e9, h⟩ := bnd_some h
    refine go_callSv (pc := 140) C [.ref (a (27 + 1)), .ref (a (12 + 1))] (m3_copies e9 x3fk_27 x3fk_12) q1583 q1584 q144 q1585 x3pd_copies (by decide) (by decide) rfl (Nat.le_of_ble_eq_true rfl) ⟨Nat.zero_le _, Nat.zero_le _⟩ dX3_river_140 rfl ?_
    refine go_aload_n (pc := 143) C dX3_river_143 rfl 0 rfl ?_
    refine x3gr_28 (pc := 144) C dX3_river_144 ?_
    refine go_aload_n (pc := 147) C dX3_river_147 rfl 0 rfl ?_
    refine x3gr_13 (pc := 148) C dX3_river_148 ?_
    obtain ⟨s10, e10, h⟩ := bnd_some h
    refine go_callSv (pc := 151) C [.ref (a (28 + 1)), .ref (a (13 + 1))] (m3_copies e10 x3fk_28 x3fk_13) q1583 q1584 q144 q1585 x3pd_copies (by decide) (by decide) rfl (Nat.le_of_ble_eq_true rfl) ⟨Nat.zero_le _, Nat.zero_le _⟩ dX3_river_151 rfl ?_
    refine go_aload_n (pc := 154) C dX3_river_154 rfl 0 rfl ?_
    refine x3gr_29 (pc := 155) C dX3_river_155 ?_
    refine go_aload_n (pc := 158) C dX3_river_158 rfl 0 rfl ?_
    refine x3gr_14 (pc := 159) C dX3_river_159 ?_
    obtain ⟨s11, e11, h⟩ := bnd_some h
    refine go_callSv (pc := 162) C [.ref (a (29 + 1)), .ref (a (14 + 1))] (m3_copies e11 x3fk_29 x3fk_14) q1583 q1584 q144 q1585 x3pd_copies (by decide) (by decide) rfl (Nat.le_of_ble_eq_true rfl) ⟨Nat.zero_le _, Nat.zero_le _⟩ dX3_river_162 rfl ?_
    refine go_aload_n (pc := 165) C dX3_river_165 rfl 0 rfl ?_
    refine x3gr_30 (pc := 166) C dX3_river_166 ?_
    refine go_aload_n (pc := 169) C dX3_river_169 rfl 0 rfl ?_
    refine x3gr_15 (pc := 170) C dX3_river_170 ?_
    obtain ⟨s12, e12, h⟩ := bnd_some h
    refine go_callSv (pc := 173) C [.ref (a (30 + 1)), .ref (a (15 + 1))] (m3_copies e12 x3fk_30 x3fk_15) q1583 q1584 q144 q1585 x3pd_copies (by decide) (by decide) rfl (Nat.le_of_ble_eq_true rfl) ⟨Nat.zero_le _, Nat.zero_le _⟩ dX3_river_173 rfl ?_
    refine go_iconst (pc := 176) (v := (0 : Int32)) C dX3_river_176 (by decide) ?_
    refine go_istore_n (pc := 177) C hN dX3_river_177 rfl (by decide) rfl ?_
    refine go_sub [1, 0] rfl ?_
    exact w3_river_178 hN C hE FU (s12, (0 : Int32)) h
  · refine go_aload_n (pc := 27) C dX3_river_27 rfl 0 rfl ?_
    refine x3gr_1 (pc := 28) C dX3_river_28 ?_
    refine go_iload_n (pc := 31) C dX3_river_31 rfl 1 rfl ?_
    refine go_iload_n (pc := 32) C dX3_river_32 rfl 1 rfl ?_
    refine go_bipush (pc := 33) (v := (6 : Int32)) C dX3_river_33 (by decide) ?_
    refine go_icmp_ge (pc := 35) (tgt := 47) C dX3_river_35 (by decide) h (fun h => ?_) (fun h => ?_)
    · refine go_iconst (pc := 47) (v := (0 : Int32)) C dX3_river_47 (by decide) ?_
      refine go_iast (pc := 48) C x3pA_1 h dX3_river_48 (fun h => ?_)
      refine go_iinc (pc := 49) (v := (v1 + (1 : Int32))) C hN dX3_river_49 (q := 1) rfl rfl (by decide) rfl ?_
      refine go_goto (pc := 52) (tgt := 21) C dX3_river_52 (by decide) ?_
      refine go_sub [1, 0] rfl ?_
      exact hK21 ((bA s0 1 (v1).toNatClampNeg (0 : Int32)), (v1 + (1 : Int32))) h
    · refine go_aload_n (pc := 38) C dX3_river_38 rfl 0 rfl ?_
      refine x3gr_19 (pc := 39) C dX3_river_39 ?_
      refine go_iload_n (pc := 42) C dX3_river_42 rfl 1 rfl ?_
      refine go_iald (pc := 43) C x3aA_19 h dX3_river_43 (fun h => ?_)
      refine go_goto (pc := 44) (tgt := 48) C dX3_river_44 (by decide) ?_
      refine go_iast (pc := 48) C x3pA_1 h dX3_river_48 (fun h => ?_)
      refine go_iinc (pc := 49) (v := (v1 + (1 : Int32))) C hN dX3_river_49 (q := 1) rfl rfl (by decide) rfl ?_
      refine go_goto (pc := 52) (tgt := 21) C dX3_river_52 (by decide) ?_
      refine go_sub [1, 0] rfl ?_
      exact hK21 ((bA s0 1 (v1).toNatClampNeg (s0.2.1 19 (v1).toNatClampNeg)), (v1 + (1 : Int32))) h
theorem m3_river {l : Launch} {d : gD} {a : Nat → Nat} {s0 : Bl} {r9 : Int32} {s9 : Bl} (h : f3_river s0 = some (r9, s9)) : Mt l d yX3_river cX3_river 2 (some .int) (8, 0, 0) 183 (bW d 3 FK3 a s0) [.ref (a 0)] (fun v w => v = some (.int r9) ∧ w = (bW d 3 FK3 a s9)) := by
  refine Mt.of x3pn (Nat.le_of_ble_eq_true rfl) ?_
  intro Γ hl hd hN C hE
  subst hl; subst hd
  show Go Γ 0 0 (bW Γ.d 3 FK3 a s0) 0 [(0, .ref (a 0))] []
  dsimp only [f3_river] at h
  refine go_aload_n (pc := 0) C dX3_river_0 rfl 0 rfl ?_
  obtain ⟨s1, e1, h⟩ := bnd_some h
  refine go_callVv (pc := 1) C [] (m3_readsAll e1) q1503 q1505 qs55 q144 q1506 x3pd_readsAll (by decide) (by decide) bW_O x3c rfl (Nat.le_of_ble_eq_true rfl) ⟨Nat.zero_le _, Nat.zero_le _⟩ dX3_river_1 rfl ?_
  refine go_aload_n (pc := 4) C dX3_river_4 rfl 0 rfl ?_
  refine x3gi_33 (pc := 5) C dX3_river_5 ?_
  refine go_if_le (pc := 8) (tgt := 19) C dX3_river_8 (by decide) h (fun h => ?_) (fun h => ?_)
  · refine go_iconst (pc := 19) (v := (0 : Int32)) C dX3_river_19 (by decide) ?_
    refine go_istore_n (pc := 20) C hN dX3_river_20 rfl (by decide) rfl ?_
    refine go_sub [1, 0] rfl ?_
    exact w3_river_21 hN C hE FU (s1, (0 : Int32)) h
  · refine go_bipush (pc := 11) (v := (-2 : Int32)) C dX3_river_11 (by decide) ?_
    refine go_aload_n (pc := 13) C dX3_river_13 rfl 0 rfl ?_
    refine x3gi_33 (pc := 14) C dX3_river_14 ?_
    refine go_isub (pc := 17) C dX3_river_17 ?_
    exact (hE 0 0 _ _ _ (Nat.zero_le _) (Nat.zero_le _)).1 _ rfl dX3_river_18 ⟨congrArg (fun z => some (Value.int z)) (some2 h).1, congrArg (fun z => bW Γ.d 3 FK3 a z) (some2 h).2⟩
theorem m3_isCounted {l : Launch} {d : gD} {a : Nat → Nat} {s0 : Bl} {v1 : Int32} {s9 : Bl} (h : f3_isCounted s0 v1 = some s9) : Mt l d yX3_isCounted cX3_isCounted 2 none (1, 0, 0) 22 (bW d 3 FK3 a s0) [.ref (a 0), .int v1] (fun v w => v = none ∧ w = (bW d 3 FK3 a s9)) := by
  refine Mt.of x3pn (Nat.le_of_ble_eq_true rfl) ?_
  intro Γ hl hd hN C hE
  subst hl; subst hd
  show Go Γ 0 0 (bW Γ.d 3 FK3 a s0) 0 [(0, .ref (a 0)), (1, .int v1)] []
  dsimp only [f3_isCounted] at h
  refine go_aload_n (pc := 0) C dX3_isCounted_0 rfl 0 rfl ?_
  refine x3gi_38 (pc := 1) C dX3_isCounted_1 ?_
  refine go_bipush (pc := 4) (v := (60 : Int32)) C dX3_isCounted_4 (by decide) ?_
  refine go_icmp_ne (pc := 6) (tgt := 15) C dX3_isCounted_6 (by decide) h (fun h => ?_) (fun h => ?_)
  · refine go_aload_n (pc := 15) C dX3_isCounted_15 rfl 0 rfl ?_
    refine go_dup (pc := 16) C dX3_isCounted_16 rfl ?_
    refine x3gi_38 (pc := 17) C dX3_isCounted_17 ?_
    refine go_iconst (pc := 20) (v := (1 : Int32)) C dX3_isCounted_20 (by decide) ?_
    refine go_iadd (pc := 21) C dX3_isCounted_21 ?_
    refine x3pi_38 (pc := 22) C dX3_isCounted_22 ?_
    exact (hE 0 0 _ _ _ (Nat.zero_le _) (Nat.zero_le _)).2.2.2.1 rfl dX3_isCounted_25 ⟨rfl, congrArg (fun z => bW Γ.d 3 FK3 a z) (some1 h)⟩
  · refine go_aload_n (pc := 9) C dX3_isCounted_9 rfl 0 rfl ?_
    refine go_iconst (pc := 10) (v := (3 : Int32)) C dX3_isCounted_10 (by decide) ?_
    refine go_iload_n (pc := 11) C dX3_isCounted_11 rfl 1 rfl ?_
    obtain ⟨s1, e1, h⟩ := bnd_some h
    refine go_callVv (pc := 12) C [.int (3 : Int32), .int v1] (m3_fails e1) q1537 q1539 qs61 q144 q1540 x3pd_fails (by decide) (by decide) bW_O x3c rfl (Nat.le_of_ble_eq_true rfl) ⟨Nat.zero_le _, Nat.zero_le _⟩ dX3_isCounted_12 rfl ?_
    refine go_aload_n (pc := 15) C dX3_isCounted_15 rfl 0 rfl ?_
    refine go_dup (pc := 16) C dX3_isCounted_16 rfl ?_
    refine x3gi_38 (pc := 17) C dX3_isCounted_17 ?_
    refine go_iconst (pc := 20) (v := (1 : Int32)) C dX3_isCounted_20 (by decide) ?_
    refine go_iadd (pc := 21) C dX3_isCounted_21 ?_
    refine x3pi_38 (pc := 22) C dX3_isCounted_22 ?_
    exact (hE 0 0 _ _ _ (Nat.zero_le _) (Nat.zero_le _)).2.2.2.1 rfl dX3_isCounted_25 ⟨rfl, congrArg (fun z => bW Γ.d 3 FK3 a z) (some1 h)⟩
theorem m3_entry {l : Launch} {d : gD} {a : Nat → Nat} {s0 : Bl} {v1 : Int32} {v2 : Int32} {s9 : Bl} (h : f3_entry s0 v1 v2 = some s9) : Mt l d yX3_entry cX3_entry 3 none (0, 0, 0) 0 (bW d 3 FK3 a s0) [.ref (a 0), .int v1, .int v2] (fun v w => v = none ∧ w = (bW d 3 FK3 a s9)) := by
  refine Mt.of x3pn (Nat.le_of_ble_eq_true rfl) ?_
  intro Γ hl hd hN C hE
  subst hl; subst hd
  show Go Γ 0 0 (bW Γ.d 3 FK3 a s0) 0 [(0, .ref (a 0)), (1, .int v1), (2, .int v2)] []
  dsimp only [f3_entry] at h
  refine go_aload_n (pc := 0) C dX3_entry_0 rfl 0 rfl ?_
  refine x3gi_33 (pc := 1) C dX3_entry_1 ?_
  refine go_if_ne (pc := 4) (tgt := 55) C dX3_entry_4 (by decide) h (fun h => ?_) (fun h => ?_)
  · exact (hE 0 0 _ _ _ (Nat.zero_le _) (Nat.zero_le _)).2.2.2.1 rfl dX3_entry_55 ⟨rfl, congrArg (fun z => bW Γ.d 3 FK3 a z) (some1 h)⟩
  · refine go_aload_n (pc := 7) C dX3_entry_7 rfl 0 rfl ?_
    refine x3gr_42 (pc := 8) C dX3_entry_8 ?_
    refine go_sipush (pc := 11) (v := (300 : Int32)) C dX3_entry_11 (by decide) ?_
    refine go_aload_n (pc := 14) C dX3_entry_14 rfl 0 rfl ?_
    refine x3gi_34 (pc := 15) C dX3_entry_15 ?_
    refine go_imul (pc := 18) C dX3_entry_18 ?_
    refine go_aload_n (pc := 19) C dX3_entry_19 rfl 0 rfl ?_
    refine x3gi_36 (pc := 20) C dX3_entry_20 ?_
    refine go_iadd (pc := 23) C dX3_entry_23 ?_
    refine go_iload_n (pc := 24) C dX3_entry_24 rfl 1 rfl ?_
    refine go_iast (pc := 25) C x3pA_42 h dX3_entry_25 (fun h => ?_)
    refine go_aload_n (pc := 26) C dX3_entry_26 rfl 0 rfl ?_
    refine x3gr_43 (pc := 27) C dX3_entry_27 ?_
    refine go_sipush (pc := 30) (v := (300 : Int32)) C dX3_entry_30 (by decide) ?_
    refine go_aload_n (pc := 33) C dX3_entry_33 rfl 0 rfl ?_
    refine x3gi_34 (pc := 34) C dX3_entry_34 ?_
    refine go_imul (pc := 37) C dX3_entry_37 ?_
    refine go_aload_n (pc := 38) C dX3_entry_38 rfl 0 rfl ?_
    refine x3gi_36 (pc := 39) C dX3_entry_39 ?_
    refine go_iadd (pc := 42) C dX3_entry_42 ?_
    refine go_iload_n (pc := 43) C dX3_entry_43 rfl 2 rfl ?_
    refine go_iast (pc := 44) C x3pA_43 h dX3_entry_44 (fun h => ?_)
    refine go_nm (pc := 45) (fun z9 => (bW Γ.d 3 FK3 a z9)) (fun s1 es1 => ?_)
    have h := ltv_eq es1 h
    refine go_aload_n (pc := 45) C dX3_entry_45 rfl 0 rfl ?_
    refine go_dup (pc := 46) C dX3_entry_46 rfl ?_
    refine x3gi_36 (pc := 47) C dX3_entry_47 ?_
    refine go_iconst (pc := 50) (v := (1 : Int32)) C dX3_entry_50 (by decide) ?_
    refine go_iadd (pc := 51) C dX3_entry_51 ?_
    refine x3pi_36 (pc := 52) C dX3_entry_52 ?_
    exact (hE 0 0 _ _ _ (Nat.zero_le _) (Nat.zero_le _)).2.2.2.1 rfl dX3_entry_55 ⟨rfl, congrArg (fun z => bW Γ.d 3 FK3 a z) (some1 h)⟩
theorem m3_wordOf {l : Launch} {d : gD} {ws : va_W} {v0 : Int32} {r9 : Nat} (h : f3_wordOf v0 = some r9) : Mt l d yX3_wordOf cX3_wordOf 1 (some (.object "java/lang/String")) (0, 0, 0) 0 ws [.int v0] (fun v w => v = some (.ref (d.2.2.1 r9)) ∧ w = ws) := by
  refine Mt.of x3pn (Nat.le_of_ble_eq_true rfl) ?_
  intro Γ hl hd hN C hE
  subst hl; subst hd
  show Go Γ 0 0 ws 0 [(0, .int v0)] []
  dsimp only [f3_wordOf] at h
  refine go_iload_n (pc := 0) C dX3_wordOf_0 rfl 0 rfl ?_
  by_cases c1_0 : v0 = (0 : Int32)
  · have h := (if_pos c1_0).symm.trans h
    refine go_tableK (pc := 1) (tgt := 60) C c1_0 dX3_wordOf_1 (by decide) (by decide) rfl (by decide) ?_
    refine go_ldcS (pc := 60) 7 C dX3_wordOf_60 (by decide) ?_
    exact (hE 0 0 _ _ _ (Nat.zero_le _) (Nat.zero_le _)).2.2.2.2.1 _ _ rfl dX3_wordOf_62 ⟨congrArg (fun z => some (Value.ref (Γ.d.2.2.1 z))) (some1 h), rfl⟩
  have h := (if_neg c1_0).symm.trans h
  by_cases c1_1 : v0 = (1 : Int32)
  · have h := (if_pos c1_1).symm.trans h
    refine go_tableK (pc := 1) (tgt := 63) C c1_1 dX3_wordOf_1 (by decide) (by decide) rfl (by decide) ?_
    refine go_ldcS (pc := 63) 8 C dX3_wordOf_63 (by decide) ?_
    exact (hE 0 0 _ _ _ (Nat.zero_le _) (Nat.zero_le _)).2.2.2.2.1 _ _ rfl dX3_wordOf_65 ⟨congrArg (fun z => some (Value.ref (Γ.d.2.2.1 z))) (some1 h), rfl⟩
  have h := (if_neg c1_1).symm.trans h
  by_cases c1_2 : v0 = (2 : Int32)
  · have h := (if_pos c1_2).symm.trans h
    refine go_tableK (pc := 1) (tgt := 66) C c1_2 dX3_wordOf_1 (by decide) (by decide) rfl (by decide) ?_
    refine go_ldcS (pc := 66) 9 C dX3_wordOf_66 (by decide) ?_
    exact (hE 0 0 _ _ _ (Nat.zero_le _) (Nat.zero_le _)).2.2.2.2.1 _ _ rfl dX3_wordOf_68 ⟨congrArg (fun z => some (Value.ref (Γ.d.2.2.1 z))) (some1 h), rfl⟩
  have h := (if_neg c1_2).symm.trans h
  by_cases c1_3 : v0 = (3 : Int32)
  · have h := (if_pos c1_3).symm.trans h
    refine go_tableK (pc := 1) (tgt := 69) C c1_3 dX3_wordOf_1 (by decide) (by decide) rfl (by decide) ?_
    refine go_ldcS (pc := 69) 10 C dX3_wordOf_69 (by decide) ?_
    exact (hE 0 0 _ _ _ (Nat.zero_le _) (Nat.zero_le _)).2.2.2.2.1 _ _ rfl dX3_wordOf_71 ⟨congrArg (fun z => some (Value.ref (Γ.d.2.2.1 z))) (some1 h), rfl⟩
  have h := (if_neg c1_3).symm.trans h
  by_cases c1_4 : v0 = (4 : Int32)
  · have h := (if_pos c1_4).symm.trans h
    refine go_tableK (pc := 1) (tgt := 72) C c1_4 dX3_wordOf_1 (by decide) (by decide) rfl (by decide) ?_
    refine go_ldcS (pc := 72) 11 C dX3_wordOf_72 (by decide) ?_
    exact (hE 0 0 _ _ _ (Nat.zero_le _) (Nat.zero_le _)).2.2.2.2.1 _ _ rfl dX3_wordOf_74 ⟨congrArg (fun z => some (Value.ref (Γ.d.2.2.1 z))) (some1 h), rfl⟩
  have h := (if_neg c1_4).symm.trans h
  by_cases c1_5 : v0 = (5 : Int32)
  · have h := (if_pos c1_5).symm.trans h
    refine go_tableK (pc := 1) (tgt := 75) C c1_5 dX3_wordOf_1 (by decide) (by decide) rfl (by decide) ?_
    refine go_ldcS (pc := 75) 12 C dX3_wordOf_75 (by decide) ?_
    exact (hE 0 0 _ _ _ (Nat.zero_le _) (Nat.zero_le _)).2.2.2.2.1 _ _ rfl dX3_wordOf_77 ⟨congrArg (fun z => some (Value.ref (Γ.d.2.2.1 z))) (some1 h), rfl⟩
  have h := (if_neg c1_5).symm.trans h
  by_cases c1_6 : v0 = (6 : Int32)
  · have h := (if_pos c1_6).symm.trans h
    refine go_tableK (pc := 1) (tgt := 78) C c1_6 dX3_wordOf_1 (by decide) (by decide) rfl (by decide) ?_
    refine go_ldcS (pc := 78) 13 C dX3_wordOf_78 (by decide) ?_
    exact (hE 0 0 _ _ _ (Nat.zero_le _) (Nat.zero_le _)).2.2.2.2.1 _ _ rfl dX3_wordOf_80 ⟨congrArg (fun z => some (Value.ref (Γ.d.2.2.1 z))) (some1 h), rfl⟩
  have h := (if_neg c1_6).symm.trans h
  by_cases c1_7 : v0 = (7 : Int32)
  · have h := (if_pos c1_7).symm.trans h
    refine go_tableK (pc := 1) (tgt := 81) C c1_7 dX3_wordOf_1 (by decide) (by decide) rfl (by decide) ?_
    refine go_ldcS (pc := 81) 14 C dX3_wordOf_81 (by decide) ?_
    exact (hE 0 0 _ _ _ (Nat.zero_le _) (Nat.zero_le _)).2.2.2.2.1 _ _ rfl dX3_wordOf_83 ⟨congrArg (fun z => some (Value.ref (Γ.d.2.2.1 z))) (some1 h), rfl⟩
  have h := (if_neg c1_7).symm.trans h
  by_cases c1_8 : v0 = (8 : Int32)
  · have h := (if_pos c1_8).symm.trans h
    refine go_tableK (pc := 1) (tgt := 84) C c1_8 dX3_wordOf_1 (by decide) (by decide) rfl (by decide) ?_
    refine go_ldcS (pc := 84) 15 C dX3_wordOf_84 (by decide) ?_
    exact (hE 0 0 _ _ _ (Nat.zero_le _) (Nat.zero_le _)).2.2.2.2.1 _ _ rfl dX3_wordOf_86 ⟨congrArg (fun z => some (Value.ref (Γ.d.2.2.1 z))) (some1 h), rfl⟩
  have h := (if_neg c1_8).symm.trans h
  by_cases c1_9 : v0 = (9 : Int32)
  · have h := (if_pos c1_9).symm.trans h
    refine go_tableK (pc := 1) (tgt := 87) C c1_9 dX3_wordOf_1 (by decide) (by decide) rfl (by decide) ?_
    refine go_ldcS (pc := 87) 16 C dX3_wordOf_87 (by decide) ?_
    exact (hE 0 0 _ _ _ (Nat.zero_le _) (Nat.zero_le _)).2.2.2.2.1 _ _ rfl dX3_wordOf_89 ⟨congrArg (fun z => some (Value.ref (Γ.d.2.2.1 z))) (some1 h), rfl⟩
  have h := (if_neg c1_9).symm.trans h
  by_cases c1_10 : v0 = (10 : Int32)
  · have h := (if_pos c1_10).symm.trans h
    refine go_tableK (pc := 1) (tgt := 90) C c1_10 dX3_wordOf_1 (by decide) (by decide) rfl (by decide) ?_
    refine go_ldcS (pc := 90) 17 C dX3_wordOf_90 (by decide) ?_
    exact (hE 0 0 _ _ _ (Nat.zero_le _) (Nat.zero_le _)).2.2.2.2.1 _ _ rfl dX3_wordOf_92 ⟨congrArg (fun z => some (Value.ref (Γ.d.2.2.1 z))) (some1 h), rfl⟩
  have h := (if_neg c1_10).symm.trans h
  refine go_tableD (pc := 1) (tgt := 93) C [(0 : Int32), (1 : Int32), (2 : Int32), (3 : Int32), (4 : Int32), (5 : Int32), (6 : Int32), (7 : Int32), (8 : Int32), (9 : Int32), (10 : Int32)] (List.forall_mem_cons.mpr ⟨c1_0, List.forall_mem_cons.mpr ⟨c1_1, List.forall_mem_cons.mpr ⟨c1_2, List.forall_mem_cons.mpr ⟨c1_3, List.forall_mem_cons.mpr ⟨c1_4, List.forall_mem_cons.mpr ⟨c1_5, List.forall_mem_cons.mpr ⟨c1_6, List.forall_mem_cons.mpr ⟨c1_7, List.forall_mem_cons.mpr ⟨c1_8, List.forall_mem_cons.mpr ⟨c1_9, List.forall_mem_cons.mpr ⟨c1_10, fun _ h9 => absurd h9 List.not_mem_nil⟩⟩⟩⟩⟩⟩⟩⟩⟩⟩⟩) dX3_wordOf_1 (by decide) (by decide +kernel) (by decide) (by decide) (by decide) ?_
  refine go_ldcS (pc := 93) 18 C dX3_wordOf_93 (by decide) ?_
  exact (hE 0 0 _ _ _ (Nat.zero_le _) (Nat.zero_le _)).2.2.2.2.1 _ _ rfl dX3_wordOf_95 ⟨congrArg (fun z => some (Value.ref (Γ.d.2.2.1 z))) (some1 h), rfl⟩
theorem w3_value_63 {Γ : Gam} {a : Nat → Nat} {s0 : Bl} {v1 : Int32} {v2 : Int32} {s9 : Bl} (hN : Γ.nL = 3) (C : Cx Γ cX3_value RX3 (5, 0, 0) 109) (hE : Rets Γ cX3_value none 0 0 (fun v w => v = none ∧ w = (bW Γ.d 3 FK3 a s9))) (h : g3_value_63 s0 v1 v2 = some s9) : Go Γ 0 0 (bW Γ.d 3 FK3 a s0) 63 [(0, .ref (a 0)), (1, .int v1), (2, .int v2)] [] := by
  dsimp only [g3_value_63] at h
  refine go_iload_n (pc := 63) C dX3_value_63 rfl 2 rfl ?_
  refine go_aload_n (pc := 64) C dX3_value_64 rfl 0 rfl ?_
  refine x3gi_40 (pc := 65) C dX3_value_65 ?_
  refine go_icmp_ne (pc := 68) (tgt := 78) C dX3_value_68 (by decide) h (fun h => ?_) (fun h => ?_)
  · refine go_aload_n (pc := 78) C dX3_value_78 rfl 0 rfl ?_
    refine go_iload_n (pc := 79) C dX3_value_79 rfl 1 rfl ?_
    obtain ⟨s3, e3, h⟩ := bnd_some h
    refine go_callVv (pc := 80) C [.int v1] (m3_isCounted e3) q1607 q1609 qs75 q144 q1610 x3pd_isCounted (by decide) (by decide) bW_O x3c rfl (Nat.le_of_ble_eq_true rfl) ⟨Nat.zero_le _, Nat.zero_le _⟩ dX3_value_80 rfl ?_
    refine go_aload_n (pc := 83) C dX3_value_83 rfl 0 rfl ?_
    refine go_dup (pc := 84) C dX3_value_84 rfl ?_
    refine x3gi_32 (pc := 85) C dX3_value_85 ?_
    refine go_iload_n (pc := 88) C dX3_value_88 rfl 2 rfl ?_
    obtain ⟨r4, e4, h⟩ := bnd_some h
    refine go_callSa (pc := 89) C [.int v2] (m3_wordOf e4) q1615 q1616 q144 q1617 x3pd_wordOf (by decide) (by decide) rfl (Nat.le_of_ble_eq_true rfl) ⟨Nat.zero_le _, Nat.zero_le _⟩ dX3_value_89 rfl ?_
    obtain ⟨hi9, h⟩ := chk_some h
    refine go_callVSi (pc := 92) C (of_decide_eq_true hi9) [] (m_J3_length (of_decide_eq_true hi9)) q1535 q579 q580 q581 pd_J3_length (by decide) (by decide) rfl (Nat.le_of_ble_eq_true rfl) ⟨Nat.zero_le _, Nat.zero_le _⟩ dX3_value_92 rfl ?_
    refine go_iadd (pc := 95) C dX3_value_95 ?_
    refine x3pi_32 (pc := 96) C dX3_value_96 ?_
    refine go_aload_n (pc := 99) C dX3_value_99 rfl 0 rfl ?_
    refine go_iconst (pc := 100) (v := (1 : Int32)) C dX3_value_100 (by decide) ?_
    refine go_iload_n (pc := 101) C dX3_value_101 rfl 2 rfl ?_
    obtain ⟨s5, e5, h⟩ := bnd_some h
    refine go_callVv (pc := 102) C [.int (1 : Int32), .int v2] (m3_entry e5) q1611 q1613 qs76 q144 q1614 x3pd_entry (by decide) (by decide) bW_O x3c rfl (Nat.le_of_ble_eq_true rfl) ⟨Nat.zero_le _, Nat.zero_le _⟩ dX3_value_102 rfl ?_
    exact (hE 0 0 _ _ _ (Nat.zero_le _) (Nat.zero_le _)).2.2.2.1 rfl dX3_value_105 ⟨rfl, congrArg (fun z => bW Γ.d 3 FK3 a z) (some1 h)⟩
  · refine go_aload_n (pc := 71) C dX3_value_71 rfl 0 rfl ?_
    refine go_iconst (pc := 72) (v := (0 : Int32)) C dX3_value_72 (by decide) ?_
    refine go_iload_n (pc := 73) C dX3_value_73 rfl 1 rfl ?_
    obtain ⟨s6, e6, h⟩ := bnd_some h
    refine go_callVv (pc := 74) C [.int (0 : Int32), .int v1] (m3_fails e6) q1537 q1539 qs61 q144 q1540 x3pd_fails (by decide) (by decide) bW_O x3c rfl (Nat.le_of_ble_eq_true rfl) ⟨Nat.zero_le _, Nat.zero_le _⟩ dX3_value_74 rfl ?_
    exact (hE 0 0 _ _ _ (Nat.zero_le _) (Nat.zero_le _)).2.2.2.1 rfl dX3_value_77 ⟨rfl, congrArg (fun z => bW Γ.d 3 FK3 a z) (some1 h)⟩
theorem w3_value_38 {Γ : Gam} {a : Nat → Nat} {s0 : Bl} {v1 : Int32} {s9 : Bl} (hN : Γ.nL = 3) (C : Cx Γ cX3_value RX3 (5, 0, 0) 109) (hE : Rets Γ cX3_value none 0 0 (fun v w => v = none ∧ w = (bW Γ.d 3 FK3 a s9))) : ∀ (n : Nat) (s : Int32), loop (g3_value_38 s0 v1) n s = some s9 → (fun s : Int32 => Go Γ 0 0 (bW Γ.d 3 FK3 a s0) 38 [(0, .ref (a 0)), (1, .int v1), (2, .int s)] []) s := by
  refine loop_walk (P := fun s : Int32 => Go Γ 0 0 (bW Γ.d 3 FK3 a s0) 38 [(0, .ref (a 0)), (1, .int v1), (2, .int s)] []) ?_
  intro K38 hK38 s h
  obtain ⟨v2, rfl⟩ : ∃ z, z = s := ⟨_, rfl⟩
  dsimp only [g3_value_38] at h
  show Go Γ 0 0 (bW Γ.d 3 FK3 a s0) 38 [(0, .ref (a 0)), (1, .int v1), (2, .int v2)] []
  refine go_iload_n (pc := 38) C dX3_value_38 rfl 2 rfl ?_
  refine go_aload_n (pc := 39) C dX3_value_39 rfl 0 rfl ?_
  refine x3gi_40 (pc := 40) C dX3_value_40 ?_
  refine go_icmp_ge (pc := 43) (tgt := 63) C dX3_value_43 (by decide) h (fun h => ?_) (fun h => ?_)
  · exact w3_value_63 hN C hE h
  · refine go_aload_n (pc := 46) C dX3_value_46 rfl 0 rfl ?_
    refine go_iload_n (pc := 47) C dX3_value_47 rfl 2 rfl ?_
    obtain ⟨r7, e7, h⟩ := bnd_some h
    refine go_callSa (pc := 48) C [.int v2] (m3_wordOf e7) q1615 q1616 q144 q1617 x3pd_wordOf (by decide) (by decide) rfl (Nat.le_of_ble_eq_true rfl) ⟨Nat.zero_le _, Nat.zero_le _⟩ dX3_value_48 rfl ?_
    obtain ⟨r8, e8, h⟩ := bnd_some h
    refine go_callVi (pc := 51) C [.ref (Γ.d.2.2.1 r7)] (m3_stood e8) q1531 q1533 qs60 q144 q1534 x3pd_stood (by decide) (by decide) bW_O x3c rfl (Nat.le_of_ble_eq_true rfl) ⟨Nat.zero_le _, Nat.zero_le _⟩ dX3_value_51 rfl ?_
    refine go_if_ne (pc := 54) (tgt := 63) C dX3_value_54 (by decide) h (fun h => ?_) (fun h => ?_)
    · exact w3_value_63 hN C hE h
    · refine go_iinc (pc := 57) (v := (v2 + (1 : Int32))) C hN dX3_value_57 (q := 2) rfl rfl (by decide) rfl ?_
      refine go_goto (pc := 60) (tgt := 38) C dX3_value_60 (by decide) ?_
      refine go_sub [1, 2, 0] rfl ?_
      exact hK38 (v2 + (1 : Int32)) h
theorem m3_value {l : Launch} {d : gD} {a : Nat → Nat} {s0 : Bl} {s9 : Bl} (h : f3_value s0 = some s9) : Mt l d yX3_value cX3_value 3 none (5, 0, 0) 109 (bW d 3 FK3 a s0) [.ref (a 0)] (fun v w => v = none ∧ w = (bW d 3 FK3 a s9)) := by
  refine Mt.of x3pn (Nat.le_of_ble_eq_true rfl) ?_
  intro Γ hl hd hN C hE
  subst hl; subst hd
  show Go Γ 0 0 (bW Γ.d 3 FK3 a s0) 0 [(0, .ref (a 0))] []
  dsimp only [f3_value] at h
  refine go_aload_n (pc := 0) C dX3_value_0 rfl 0 rfl ?_
  obtain ⟨s1, e1, h⟩ := bnd_some h
  refine go_callVv (pc := 1) C [] (m3_blanks e1) q1515 q1517 qs58 q144 q1518 x3pd_blanks (by decide) (by decide) bW_O x3c rfl (Nat.le_of_ble_eq_true rfl) ⟨Nat.zero_le _, Nat.zero_le _⟩ dX3_value_1 rfl ?_
  refine go_aload_n (pc := 4) C dX3_value_4 rfl 0 rfl ?_
  refine x3gi_32 (pc := 5) C dX3_value_5 ?_
  refine go_istore_n (pc := 8) C hN dX3_value_8 rfl (by decide) rfl ?_
  refine go_aload_n (pc := 9) C dX3_value_9 rfl 1 rfl ?_
  obtain ⟨r2, e2, h⟩ := bnd_some h
  refine go_callVi (pc := 10) C [] (m3_isDigit e2) q1558 q1560 qs66 q144 q1561 x3pd_isDigit (by decide) (by decide) bW_O x3c rfl (Nat.le_of_ble_eq_true rfl) ⟨Nat.zero_le _, Nat.zero_le _⟩ dX3_value_10 rfl ?_
  refine go_if_eq (pc := 13) (tgt := 36) C dX3_value_13 (by decide) h (fun h => ?_) (fun h => ?_)
  · refine go_iconst (pc := 36) (v := (0 : Int32)) C dX3_value_36 (by decide) ?_
    refine go_istore_n (pc := 37) C hN dX3_value_37 rfl (by decide) rfl ?_
    refine go_sub [2, 1, 0] rfl ?_
    exact w3_value_38 hN C hE FU (0 : Int32) h
  · refine go_aload_n (pc := 16) C dX3_value_16 rfl 1 rfl ?_
    refine go_ldc_w (pc := 17) C dX3_value_17 q1553 ?_
    obtain ⟨r9, s9, e9, h⟩ := bnd2_some h
    refine go_callVi (pc := 20) C [.int (99999 : Int32)] (m3_digits e9) q1554 q1556 qs65 q144 q1557 x3pd_digits (by decide) (by decide) bW_O x3c rfl (Nat.le_of_ble_eq_true rfl) ⟨Nat.zero_le _, Nat.zero_le _⟩ dX3_value_20 rfl ?_
    refine go_istore_n (pc := 23) C hN dX3_value_23 rfl (by decide) rfl ?_
    refine go_aload_n (pc := 24) C dX3_value_24 rfl 2 rfl ?_
    refine go_iload_n (pc := 25) C dX3_value_25 rfl 1 rfl ?_
    obtain ⟨s10, e10, h⟩ := bnd_some h
    refine go_callVv (pc := 26) C [.int (s1.1 32)] (m3_isCounted e10) q1607 q1609 qs75 q144 q1610 x3pd_isCounted (by decide) (by decide) bW_O x3c rfl (Nat.le_of_ble_eq_true rfl) ⟨Nat.zero_le _, Nat.zero_le _⟩ dX3_value_26 rfl ?_
    refine go_aload_n (pc := 29) C dX3_value_29 rfl 2 rfl ?_
    refine go_iconst (pc := 30) (v := (0 : Int32)) C dX3_value_30 (by decide) ?_
    refine go_iload_n (pc := 31) C dX3_value_31 rfl 0 rfl ?_
    obtain ⟨s11, e11, h⟩ := bnd_some h
    refine go_callVv (pc := 32) C [.int (0 : Int32), .int r9] (m3_entry e11) q1611 q1613 qs76 q144 q1614 x3pd_entry (by decide) (by decide) bW_O x3c rfl (Nat.le_of_ble_eq_true rfl) ⟨Nat.zero_le _, Nat.zero_le _⟩ dX3_value_32 rfl ?_
    exact (hE 0 0 _ _ _ (Nat.zero_le _) (Nat.zero_le _)).2.2.2.1 rfl dX3_value_35 ⟨rfl, congrArg (fun z => bW Γ.d 3 FK3 a z) (some1 h)⟩
theorem w3_term_72 {Γ : Gam} {a : Nat → Nat} {s0 : Bl} {z0 : Int32} {s9 : Bl} {K8 : Bl → Option Bl} (hN : Γ.nL = 2) (C : Cx Γ cX3_term RX3 (6, 0, 0) 131) (hE : Rets Γ cX3_term none 0 0 (fun v w => v = none ∧ w = (bW Γ.d 3 FK3 a s9)))
    (hK8 : ∀ s, K8 s = some s9 → (fun s : Bl => Go Γ 0 0 (bW Γ.d 3 FK3 a s) 8 [(0, .ref (a 0))] []) s) (h : g3_term_72 K8 s0 z0 = some s9) : Go Γ 0 0 (bW Γ.d 3 FK3 a s0) 72 [(0, .ref (a 0))] [.int z0] := by
  dsimp only [g3_term_72] at h
  refine go_istore_n (pc := 72) C hN dX3_term_72 rfl (by decide) rfl ?_
  refine go_aload_n (pc := 73) C dX3_term_73 rfl 1 rfl ?_
  refine go_dup (pc := 74) C dX3_term_74 rfl ?_
  refine x3gi_32 (pc := 75) C dX3_term_75 ?_
  refine go_iconst (pc := 78) (v := (1 : Int32)) C dX3_term_78 (by decide) ?_
  refine go_iadd (pc := 79) C dX3_term_79 ?_
  refine x3pi_32 (pc := 80) C dX3_term_80 ?_
  refine go_aload_n (pc := 83) C dX3_term_83 rfl 1 rfl ?_
  obtain ⟨s6, e6, h⟩ := bnd_some h
  refine go_callVv (pc := 84) C [] (m3_value e6) q1603 q1605 qs74 q144 q1606 x3pd_value (by decide) (by decide) bW_O x3c rfl (Nat.le_of_ble_eq_true rfl) ⟨Nat.zero_le _, Nat.zero_le _⟩ dX3_term_84 rfl ?_
  refine go_aload_n (pc := 87) C dX3_term_87 rfl 1 rfl ?_
  refine go_iload_n (pc := 88) C dX3_term_88 rfl 0 rfl ?_
  refine go_iconst (pc := 89) (v := (0 : Int32)) C dX3_term_89 (by decide) ?_
  obtain ⟨s7, e7, h⟩ := bnd_some h
  refine go_callVv (pc := 90) C [.int z0, .int (0 : Int32)] (m3_entry e7) q1611 q1613 qs76 q144 q1614 x3pd_entry (by decide) (by decide) bW_O x3c rfl (Nat.le_of_ble_eq_true rfl) ⟨Nat.zero_le _, Nat.zero_le _⟩ dX3_term_90 rfl ?_
  refine go_aload_n (pc := 93) C dX3_term_93 rfl 1 rfl ?_
  obtain ⟨s8, e8, h⟩ := bnd_some h
  refine go_callVv (pc := 94) C [] (m3_blanks e8) q1515 q1517 qs58 q144 q1518 x3pd_blanks (by decide) (by decide) bW_O x3c rfl (Nat.le_of_ble_eq_true rfl) ⟨Nat.zero_le _, Nat.zero_le _⟩ dX3_term_94 rfl ?_
  refine go_goto (pc := 97) (tgt := 8) C dX3_term_97 (by decide) ?_
  refine go_sub [1] rfl ?_
  exact hK8 s8 h
theorem w3_term_42 {Γ : Gam} {a : Nat → Nat} {s0 : Bl} {s9 : Bl} {K8 : Bl → Option Bl} (hN : Γ.nL = 2) (C : Cx Γ cX3_term RX3 (6, 0, 0) 131) (hE : Rets Γ cX3_term none 0 0 (fun v w => v = none ∧ w = (bW Γ.d 3 FK3 a s9)))
    (hK8 : ∀ s, K8 s = some s9 → (fun s : Bl => Go Γ 0 0 (bW Γ.d 3 FK3 a s) 8 [(0, .ref (a 0))] []) s) (h : g3_term_42 K8 s0 = some s9) : Go Γ 0 0 (bW Γ.d 3 FK3 a s0) 42 [(0, .ref (a 0))] [] := by
  dsimp only [g3_term_42] at h
  refine go_aload_n (pc := 42) C dX3_term_42 rfl 0 rfl ?_
  obtain ⟨r4, e4, h⟩ := bnd_some h
  refine go_callVi (pc := 43) C [] (m3_sign e4) q1519 q1521 qs59 q144 q1522 x3pd_sign (by decide) (by decide) bW_O x3c rfl (Nat.le_of_ble_eq_true rfl) ⟨Nat.zero_le _, Nat.zero_le _⟩ dX3_term_43 rfl ?_
  refine go_bipush (pc := 46) (v := (42 : Int32)) C dX3_term_46 (by decide) ?_
  refine go_icmp_ne (pc := 48) (tgt := 56) C dX3_term_48 (by decide) h (fun h => ?_) (fun h => ?_)
  · refine go_aload_n (pc := 56) C dX3_term_56 rfl 0 rfl ?_
    obtain ⟨r5, e5, h⟩ := bnd_some h
    refine go_callVi (pc := 57) C [] (m3_sign e5) q1519 q1521 qs59 q144 q1522 x3pd_sign (by decide) (by decide) bW_O x3c rfl (Nat.le_of_ble_eq_true rfl) ⟨Nat.zero_le _, Nat.zero_le _⟩ dX3_term_57 rfl ?_
    refine go_bipush (pc := 60) (v := (47 : Int32)) C dX3_term_60 (by decide) ?_
    refine go_icmp_ne (pc := 62) (tgt := 70) C dX3_term_62 (by decide) h (fun h => ?_) (fun h => ?_)
    · refine go_bipush (pc := 70) (v := (15 : Int32)) C dX3_term_70 (by decide) ?_
      exact w3_term_72 hN C hE hK8 h
    · refine go_bipush (pc := 65) (v := (14 : Int32)) C dX3_term_65 (by decide) ?_
      refine go_goto (pc := 67) (tgt := 72) C dX3_term_67 (by decide) ?_
      exact w3_term_72 hN C hE hK8 h
  · refine go_bipush (pc := 51) (v := (13 : Int32)) C dX3_term_51 (by decide) ?_
    refine go_goto (pc := 53) (tgt := 72) C dX3_term_53 (by decide) ?_
    exact w3_term_72 hN C hE hK8 h
theorem w3_term_8 {Γ : Gam} {a : Nat → Nat} {s9 : Bl} (hN : Γ.nL = 2) (C : Cx Γ cX3_term RX3 (6, 0, 0) 131) (hE : Rets Γ cX3_term none 0 0 (fun v w => v = none ∧ w = (bW Γ.d 3 FK3 a s9))) : ∀ (n : Nat) (s : Bl), loop (g3_term_8) n s = some s9 → (fun s : Bl => Go Γ 0 0 (bW Γ.d 3 FK3 a s) 8 [(0, .ref (a 0))] []) s := by
  refine loop_walk (P := fun s : Bl => Go Γ 0 0 (bW Γ.d 3 FK3 a s) 8 [(0, .ref (a 0))] []) ?_
  intro K8 hK8 s h
  obtain ⟨s0, rfl⟩ : ∃ z, z = s := ⟨_, rfl⟩
  dsimp only [g3_term_8] at h
  show Go Γ 0 0 (bW Γ.d 3 FK3 a s0) 8 [(0, .ref (a 0))] []
  refine go_aload_n (pc := 8) C dX3_term_8 rfl 0 rfl ?_
  refine x3gi_33 (pc := 9) C dX3_term_9 ?_
  refine go_if_ne (pc := 12) (tgt := 100) C dX3_term_12 (by decide) h (fun h => ?_) (fun h => ?_)
  · exact (hE 0 0 _ _ _ (Nat.zero_le _) (Nat.zero_le _)).2.2.2.1 rfl dX3_term_100 ⟨rfl, congrArg (fun z => bW Γ.d 3 FK3 a z) (some1 h)⟩
  · refine go_aload_n (pc := 15) C dX3_term_15 rfl 0 rfl ?_
    obtain ⟨r3, e3, h⟩ := bnd_some h
    refine go_callVi (pc := 16) C [] (m3_sign e3) q1519 q1521 qs59 q144 q1522 x3pd_sign (by decide) (by decide) bW_O x3c rfl (Nat.le_of_ble_eq_true rfl) ⟨Nat.zero_le _, Nat.zero_le _⟩ dX3_term_16 rfl ?_
    refine go_bipush (pc := 19) (v := (42 : Int32)) C dX3_term_19 (by decide) ?_
    refine go_icmp_eq (pc := 21) (tgt := 42) C dX3_term_21 (by decide) h (fun h => ?_) (fun h => ?_)
    · exact w3_term_42 hN C hE hK8 h
    · refine go_aload_n (pc := 24) C dX3_term_24 rfl 0 rfl ?_
      obtain ⟨r9, e9, h⟩ := bnd_some h
      refine go_callVi (pc := 25) C [] (m3_sign e9) q1519 q1521 qs59 q144 q1522 x3pd_sign (by decide) (by decide) bW_O x3c rfl (Nat.le_of_ble_eq_true rfl) ⟨Nat.zero_le _, Nat.zero_le _⟩ dX3_term_25 rfl ?_
      refine go_bipush (pc := 28) (v := (47 : Int32)) C dX3_term_28 (by decide) ?_
      refine go_icmp_eq (pc := 30) (tgt := 42) C dX3_term_30 (by decide) h (fun h => ?_) (fun h => ?_)
      · exact w3_term_42 hN C hE hK8 h
      · refine go_aload_n (pc := 33) C dX3_term_33 rfl 0 rfl ?_
        obtain ⟨r10, e10, h⟩ := bnd_some h
        refine go_callVi (pc := 34) C [] (m3_sign e10) q1519 q1521 qs59 q144 q1522 x3pd_sign (by decide) (by decide) bW_O x3c rfl (Nat.le_of_ble_eq_true rfl) ⟨Nat.zero_le _, Nat.zero_le _⟩ dX3_term_34 rfl ?_
        refine go_bipush (pc := 37) (v := (37 : Int32)) C dX3_term_37 (by decide) ?_
        refine go_icmp_ne (pc := 39) (tgt := 100) C dX3_term_39 (by decide) h (fun h => ?_) (fun h => ?_)
        · exact (hE 0 0 _ _ _ (Nat.zero_le _) (Nat.zero_le _)).2.2.2.1 rfl dX3_term_100 ⟨rfl, congrArg (fun z => bW Γ.d 3 FK3 a z) (some1 h)⟩
        · exact w3_term_42 hN C hE hK8 h
theorem m3_term {l : Launch} {d : gD} {a : Nat → Nat} {s0 : Bl} {s9 : Bl} (h : f3_term s0 = some s9) : Mt l d yX3_term cX3_term 2 none (6, 0, 0) 131 (bW d 3 FK3 a s0) [.ref (a 0)] (fun v w => v = none ∧ w = (bW d 3 FK3 a s9)) := by
  refine Mt.of x3pn (Nat.le_of_ble_eq_true rfl) ?_
  intro Γ hl hd hN C hE
  subst hl; subst hd
  show Go Γ 0 0 (bW Γ.d 3 FK3 a s0) 0 [(0, .ref (a 0))] []
  dsimp only [f3_term] at h
  refine go_aload_n (pc := 0) C dX3_term_0 rfl 0 rfl ?_
  obtain ⟨s1, e1, h⟩ := bnd_some h
  refine go_callVv (pc := 1) C [] (m3_value e1) q1603 q1605 qs74 q144 q1606 x3pd_value (by decide) (by decide) bW_O x3c rfl (Nat.le_of_ble_eq_true rfl) ⟨Nat.zero_le _, Nat.zero_le _⟩ dX3_term_1 rfl ?_
  refine go_aload_n (pc := 4) C dX3_term_4 rfl 0 rfl ?_
  obtain ⟨s2, e2, h⟩ := bnd_some h
  refine go_callVv (pc := 5) C [] (m3_blanks e2) q1515 q1517 qs58 q144 q1518 x3pd_blanks (by decide) (by decide) bW_O x3c rfl (Nat.le_of_ble_eq_true rfl) ⟨Nat.zero_le _, Nat.zero_le _⟩ dX3_term_5 rfl ?_
  exact w3_term_8 hN C hE FU s2 h
theorem w3_sum_43 {Γ : Gam} {a : Nat → Nat} {s0 : Bl} {z0 : Int32} {s9 : Bl} {K4 : Bl → Option Bl} (hN : Γ.nL = 2) (C : Cx Γ cX3_sum RX3 (7, 0, 0) 152) (hE : Rets Γ cX3_sum none 0 0 (fun v w => v = none ∧ w = (bW Γ.d 3 FK3 a s9)))
    (hK4 : ∀ s, K4 s = some s9 → (fun s : Bl => Go Γ 0 0 (bW Γ.d 3 FK3 a s) 4 [(0, .ref (a 0))] []) s) (h : g3_sum_43 K4 s0 z0 = some s9) : Go Γ 0 0 (bW Γ.d 3 FK3 a s0) 43 [(0, .ref (a 0))] [.int z0] := by
  dsimp only [g3_sum_43] at h
  refine go_istore_n (pc := 43) C hN dX3_sum_43 rfl (by decide) rfl ?_
  refine go_aload_n (pc := 44) C dX3_sum_44 rfl 1 rfl ?_
  refine go_dup (pc := 45) C dX3_sum_45 rfl ?_
  refine x3gi_32 (pc := 46) C dX3_sum_46 ?_
  refine go_iconst (pc := 49) (v := (1 : Int32)) C dX3_sum_49 (by decide) ?_
  refine go_iadd (pc := 50) C dX3_sum_50 ?_
  refine x3pi_32 (pc := 51) C dX3_sum_51 ?_
  refine go_aload_n (pc := 54) C dX3_sum_54 rfl 1 rfl ?_
  obtain ⟨s4, e4, h⟩ := bnd_some h
  refine go_callVv (pc := 55) C [] (m3_term e4) q1599 q1601 qs73 q144 q1602 x3pd_term (by decide) (by decide) bW_O x3c rfl (Nat.le_of_ble_eq_true rfl) ⟨Nat.zero_le _, Nat.zero_le _⟩ dX3_sum_55 rfl ?_
  refine go_aload_n (pc := 58) C dX3_sum_58 rfl 1 rfl ?_
  refine go_iload_n (pc := 59) C dX3_sum_59 rfl 0 rfl ?_
  refine go_iconst (pc := 60) (v := (0 : Int32)) C dX3_sum_60 (by decide) ?_
  obtain ⟨s5, e5, h⟩ := bnd_some h
  refine go_callVv (pc := 61) C [.int z0, .int (0 : Int32)] (m3_entry e5) q1611 q1613 qs76 q144 q1614 x3pd_entry (by decide) (by decide) bW_O x3c rfl (Nat.le_of_ble_eq_true rfl) ⟨Nat.zero_le _, Nat.zero_le _⟩ dX3_sum_61 rfl ?_
  refine go_goto (pc := 64) (tgt := 4) C dX3_sum_64 (by decide) ?_
  refine go_sub [1] rfl ?_
  exact hK4 s5 h
theorem w3_sum_4 {Γ : Gam} {a : Nat → Nat} {s9 : Bl} (hN : Γ.nL = 2) (C : Cx Γ cX3_sum RX3 (7, 0, 0) 152) (hE : Rets Γ cX3_sum none 0 0 (fun v w => v = none ∧ w = (bW Γ.d 3 FK3 a s9))) : ∀ (n : Nat) (s : Bl), loop (g3_sum_4) n s = some s9 → (fun s : Bl => Go Γ 0 0 (bW Γ.d 3 FK3 a s) 4 [(0, .ref (a 0))] []) s := by
  refine loop_walk (P := fun s : Bl => Go Γ 0 0 (bW Γ.d 3 FK3 a s) 4 [(0, .ref (a 0))] []) ?_
  intro K4 hK4 s h
  obtain ⟨s0, rfl⟩ : ∃ z, z = s := ⟨_, rfl⟩
  dsimp only [g3_sum_4] at h
  show Go Γ 0 0 (bW Γ.d 3 FK3 a s0) 4 [(0, .ref (a 0))] []
  refine go_aload_n (pc := 4) C dX3_sum_4 rfl 0 rfl ?_
  refine x3gi_33 (pc := 5) C dX3_sum_5 ?_
  refine go_if_ne (pc := 8) (tgt := 67) C dX3_sum_8 (by decide) h (fun h => ?_) (fun h => ?_)
  · exact (hE 0 0 _ _ _ (Nat.zero_le _) (Nat.zero_le _)).2.2.2.1 rfl dX3_sum_67 ⟨rfl, congrArg (fun z => bW Γ.d 3 FK3 a z) (some1 h)⟩
  · refine go_aload_n (pc := 11) C dX3_sum_11 rfl 0 rfl ?_
    obtain ⟨r2, e2, h⟩ := bnd_some h
    refine go_callVi (pc := 12) C [] (m3_sign e2) q1519 q1521 qs59 q144 q1522 x3pd_sign (by decide) (by decide) bW_O x3c rfl (Nat.le_of_ble_eq_true rfl) ⟨Nat.zero_le _, Nat.zero_le _⟩ dX3_sum_12 rfl ?_
    refine go_bipush (pc := 15) (v := (43 : Int32)) C dX3_sum_15 (by decide) ?_
    refine go_icmp_eq (pc := 17) (tgt := 29) C dX3_sum_17 (by decide) h (fun h => ?_) (fun h => ?_)
    · refine go_aload_n (pc := 29) C dX3_sum_29 rfl 0 rfl ?_
      obtain ⟨r3, e3, h⟩ := bnd_some h
      refine go_callVi (pc := 30) C [] (m3_sign e3) q1519 q1521 qs59 q144 q1522 x3pd_sign (by decide) (by decide) bW_O x3c rfl (Nat.le_of_ble_eq_true rfl) ⟨Nat.zero_le _, Nat.zero_le _⟩ dX3_sum_30 rfl ?_
      refine go_bipush (pc := 33) (v := (43 : Int32)) C dX3_sum_33 (by decide) ?_
      refine go_icmp_ne (pc := 35) (tgt := 42) C dX3_sum_35 (by decide) h (fun h => ?_) (fun h => ?_)
      · refine go_iconst (pc := 42) (v := (3 : Int32)) C dX3_sum_42 (by decide) ?_
        exact w3_sum_43 hN C hE hK4 h
      · refine go_iconst (pc := 38) (v := (2 : Int32)) C dX3_sum_38 (by decide) ?_
        refine go_goto (pc := 39) (tgt := 43) C dX3_sum_39 (by decide) ?_
        exact w3_sum_43 hN C hE hK4 h
    · refine go_aload_n (pc := 20) C dX3_sum_20 rfl 0 rfl ?_
      obtain ⟨r6, e6, h⟩ := bnd_some h
      refine go_callVi (pc := 21) C [] (m3_sign e6) q1519 q1521 qs59 q144 q1522 x3pd_sign (by decide) (by decide) bW_O x3c rfl (Nat.le_of_ble_eq_true rfl) ⟨Nat.zero_le _, Nat.zero_le _⟩ dX3_sum_21 rfl ?_
      refine go_bipush (pc := 24) (v := (45 : Int32)) C dX3_sum_24 (by decide) ?_
      refine go_icmp_ne (pc := 26) (tgt := 67) C dX3_sum_26 (by decide) h (fun h => ?_) (fun h => ?_)
      · exact (hE 0 0 _ _ _ (Nat.zero_le _) (Nat.zero_le _)).2.2.2.1 rfl dX3_sum_67 ⟨rfl, congrArg (fun z => bW Γ.d 3 FK3 a z) (some1 h)⟩
      · refine go_aload_n (pc := 29) C dX3_sum_29 rfl 0 rfl ?_
        obtain ⟨r7, e7, h⟩ := bnd_some h
        refine go_callVi (pc := 30) C [] (m3_sign e7) q1519 q1521 qs59 q144 q1522 x3pd_sign (by decide) (by decide) bW_O x3c rfl (Nat.le_of_ble_eq_true rfl) ⟨Nat.zero_le _, Nat.zero_le _⟩ dX3_sum_30 rfl ?_
        refine go_bipush (pc := 33) (v := (43 : Int32)) C dX3_sum_33 (by decide) ?_
        refine go_icmp_ne (pc := 35) (tgt := 42) C dX3_sum_35 (by decide) h (fun h => ?_) (fun h => ?_)
        · refine go_iconst (pc := 42) (v := (3 : Int32)) C dX3_sum_42 (by decide) ?_
          exact w3_sum_43 hN C hE hK4 h
        · refine go_iconst (pc := 38) (v := (2 : Int32)) C dX3_sum_38 (by decide) ?_
          refine go_goto (pc := 39) (tgt := 43) C dX3_sum_39 (by decide) ?_
          exact w3_sum_43 hN C hE hK4 h
theorem m3_sum {l : Launch} {d : gD} {a : Nat → Nat} {s0 : Bl} {s9 : Bl} (h : f3_sum s0 = some s9) : Mt l d yX3_sum cX3_sum 2 none (7, 0, 0) 152 (bW d 3 FK3 a s0) [.ref (a 0)] (fun v w => v = none ∧ w = (bW d 3 FK3 a s9)) := by
  refine Mt.of x3pn (Nat.le_of_ble_eq_true rfl) ?_
  intro Γ hl hd hN C hE
  subst hl; subst hd
  show Go Γ 0 0 (bW Γ.d 3 FK3 a s0) 0 [(0, .ref (a 0))] []
  dsimp only [f3_sum] at h
  refine go_aload_n (pc := 0) C dX3_sum_0 rfl 0 rfl ?_
  obtain ⟨s1, e1, h⟩ := bnd_some h
  refine go_callVv (pc := 1) C [] (m3_term e1) q1599 q1601 qs73 q144 q1602 x3pd_term (by decide) (by decide) bW_O x3c rfl (Nat.le_of_ble_eq_true rfl) ⟨Nat.zero_le _, Nat.zero_le _⟩ dX3_sum_1 rfl ?_
  exact w3_sum_4 hN C hE FU s1 h
theorem m3_takes {l : Launch} {d : gD} {a : Nat → Nat} {s0 : Bl} {k1 : Nat} {r9 : Int32} {s9 : Bl} (h : f3_takes s0 k1 = some (r9, s9)) : Mt l d yX3_takes cX3_takes 3 (some .boolean) (5, 0, 0) 109 (bW d 3 FK3 a s0) [.ref (a 0), .ref (d.2.2.1 k1)] (fun v w => v = some (.int r9) ∧ w = (bW d 3 FK3 a s9)) := by
  refine Mt.of x3pn (Nat.le_of_ble_eq_true rfl) ?_
  intro Γ hl hd hN C hE
  subst hl; subst hd
  show Go Γ 0 0 (bW Γ.d 3 FK3 a s0) 0 [(0, .ref (a 0)), (1, .ref (Γ.d.2.2.1 k1))] []
  dsimp only [f3_takes] at h
  refine go_aload_n (pc := 0) C dX3_takes_0 rfl 0 rfl ?_
  obtain ⟨s1, e1, h⟩ := bnd_some h
  refine go_callVv (pc := 1) C [] (m3_blanks e1) q1515 q1517 qs58 q144 q1518 x3pd_blanks (by decide) (by decide) bW_O x3c rfl (Nat.le_of_ble_eq_true rfl) ⟨Nat.zero_le _, Nat.zero_le _⟩ dX3_takes_1 rfl ?_
  refine go_aload_n (pc := 4) C dX3_takes_4 rfl 0 rfl ?_
  refine go_aload_n (pc := 5) C dX3_takes_5 rfl 1 rfl ?_
  obtain ⟨r2, e2, h⟩ := bnd_some h
  refine go_callVi (pc := 6) C [.ref (Γ.d.2.2.1 k1)] (m3_stood e2) q1531 q1533 qs60 q144 q1534 x3pd_stood (by decide) (by decide) bW_O x3c rfl (Nat.le_of_ble_eq_true rfl) ⟨Nat.zero_le _, Nat.zero_le _⟩ dX3_takes_6 rfl ?_
  refine go_istore_n (pc := 9) C hN dX3_takes_9 rfl (by decide) rfl ?_
  refine go_aload_n (pc := 10) C dX3_takes_10 rfl 1 rfl ?_
  refine go_dup (pc := 11) C dX3_takes_11 rfl ?_
  refine x3gi_32 (pc := 12) C dX3_takes_12 ?_
  refine go_iload_n (pc := 15) C dX3_takes_15 rfl 0 rfl ?_
  refine go_if_eq (pc := 16) (tgt := 26) C dX3_takes_16 (by decide) h (fun h => ?_) (fun h => ?_)
  · refine go_iconst (pc := 26) (v := (0 : Int32)) C dX3_takes_26 (by decide) ?_
    refine go_iadd (pc := 27) C dX3_takes_27 ?_
    refine x3pi_32 (pc := 28) C dX3_takes_28 ?_
    refine go_iload_n (pc := 31) C dX3_takes_31 rfl 0 rfl ?_
    obtain ⟨hz, h⟩ := chk_some h
    exact (hE 0 0 _ _ _ (Nat.zero_le _) (Nat.zero_le _)).2.1 _ rfl (isB_or hz) dX3_takes_32 ⟨congrArg (fun z => some (Value.int z)) (some2 h).1, congrArg (fun z => bW Γ.d 3 FK3 a z) (some2 h).2⟩
  · refine go_aload_n (pc := 19) C dX3_takes_19 rfl 2 rfl ?_
    obtain ⟨hi9, h⟩ := chk_some h
    refine go_callVSi (pc := 20) C (of_decide_eq_true hi9) [] (m_J3_length (of_decide_eq_true hi9)) q1535 q579 q580 q581 pd_J3_length (by decide) (by decide) rfl (Nat.le_of_ble_eq_true rfl) ⟨Nat.zero_le _, Nat.zero_le _⟩ dX3_takes_20 rfl ?_
    refine go_goto (pc := 23) (tgt := 27) C dX3_takes_23 (by decide) ?_
    refine go_iadd (pc := 27) C dX3_takes_27 ?_
    refine x3pi_32 (pc := 28) C dX3_takes_28 ?_
    refine go_iload_n (pc := 31) C dX3_takes_31 rfl 0 rfl ?_
    obtain ⟨hz, h⟩ := chk_some h
    exact (hE 0 0 _ _ _ (Nat.zero_le _) (Nat.zero_le _)).2.1 _ rfl (isB_or hz) dX3_takes_32 ⟨congrArg (fun z => some (Value.int z)) (some2 h).1, congrArg (fun z => bW Γ.d 3 FK3 a z) (some2 h).2⟩
theorem w3_opens_30 {Γ : Gam} {a : Nat → Nat} {s0 : Bl} {v1 : Int32} {s9 : Bl} (hN : Γ.nL = 2) (C : Cx Γ cX3_opens RX3 (1, 0, 0) 22) (hE : Rets Γ cX3_opens none 0 0 (fun v w => v = none ∧ w = (bW Γ.d 3 FK3 a s9))) (h : g3_opens_30 s0 v1 = some s9) : Go Γ 0 0 (bW Γ.d 3 FK3 a s0) 30 [(0, .ref (a 0)), (1, .int v1)] [] := by
  dsimp only [g3_opens_30] at h
  refine go_aload_n (pc := 30) C dX3_opens_30 rfl 0 rfl ?_
  refine go_dup (pc := 31) C dX3_opens_31 rfl ?_
  refine x3gi_37 (pc := 32) C dX3_opens_32 ?_
  refine go_iconst (pc := 35) (v := (1 : Int32)) C dX3_opens_35 (by decide) ?_
  refine go_iadd (pc := 36) C dX3_opens_36 ?_
  refine x3pi_37 (pc := 37) C dX3_opens_37 ?_
  refine go_aload_n (pc := 40) C dX3_opens_40 rfl 0 rfl ?_
  refine x3gr_48 (pc := 41) C dX3_opens_41 ?_
  refine go_aload_n (pc := 44) C dX3_opens_44 rfl 0 rfl ?_
  refine x3gi_39 (pc := 45) C dX3_opens_45 ?_
  refine go_iload_n (pc := 48) C dX3_opens_48 rfl 1 rfl ?_
  refine go_iast (pc := 49) C x3pA_48 h dX3_opens_49 (fun h => ?_)
  refine go_aload_n (pc := 50) C dX3_opens_50 rfl 0 rfl ?_
  refine go_dup (pc := 51) C dX3_opens_51 rfl ?_
  refine x3gi_39 (pc := 52) C dX3_opens_52 ?_
  refine go_iconst (pc := 55) (v := (1 : Int32)) C dX3_opens_55 (by decide) ?_
  refine go_iadd (pc := 56) C dX3_opens_56 ?_
  refine x3pi_39 (pc := 57) C dX3_opens_57 ?_
  refine go_nm (pc := 60) (fun z9 => (bW Γ.d 3 FK3 a z9)) (fun s1 es1 => ?_)
  have h := ltv_eq es1 h
  exact (hE 0 0 _ _ _ (Nat.zero_le _) (Nat.zero_le _)).2.2.2.1 rfl dX3_opens_60 ⟨rfl, congrArg (fun z => bW Γ.d 3 FK3 a z) (some1 h)⟩
theorem m3_opens {l : Launch} {d : gD} {a : Nat → Nat} {s0 : Bl} {v1 : Int32} {s9 : Bl} (h : f3_opens s0 v1 = some s9) : Mt l d yX3_opens cX3_opens 2 none (1, 0, 0) 22 (bW d 3 FK3 a s0) [.ref (a 0), .int v1] (fun v w => v = none ∧ w = (bW d 3 FK3 a s9)) := by
  refine Mt.of x3pn (Nat.le_of_ble_eq_true rfl) ?_
  intro Γ hl hd hN C hE
  subst hl; subst hd
  show Go Γ 0 0 (bW Γ.d 3 FK3 a s0) 0 [(0, .ref (a 0)), (1, .int v1)] []
  dsimp only [f3_opens] at h
  refine go_iload_n (pc := 0) C dX3_opens_0 rfl 1 rfl ?_
  refine go_bipush (pc := 1) (v := (9 : Int32)) C dX3_opens_1 (by decide) ?_
  refine go_icmp_eq (pc := 3) (tgt := 12) C dX3_opens_3 (by decide) h (fun h => ?_) (fun h => ?_)
  · refine go_aload_n (pc := 12) C dX3_opens_12 rfl 0 rfl ?_
    refine x3gi_37 (pc := 13) C dX3_opens_13 ?_
    refine go_bipush (pc := 16) (v := (10 : Int32)) C dX3_opens_16 (by decide) ?_
    refine go_icmp_ne (pc := 18) (tgt := 30) C dX3_opens_18 (by decide) h (fun h => ?_) (fun h => ?_)
    · exact w3_opens_30 hN C hE h
    · refine go_aload_n (pc := 21) C dX3_opens_21 rfl 0 rfl ?_
      refine go_iconst (pc := 22) (v := (2 : Int32)) C dX3_opens_22 (by decide) ?_
      refine go_aload_n (pc := 23) C dX3_opens_23 rfl 0 rfl ?_
      refine x3gi_32 (pc := 24) C dX3_opens_24 ?_
      obtain ⟨s2, e2, h⟩ := bnd_some h
      refine go_callVv (pc := 27) C [.int (2 : Int32), .int (s0.1 32)] (m3_fails e2) q1537 q1539 qs61 q144 q1540 x3pd_fails (by decide) (by decide) bW_O x3c rfl (Nat.le_of_ble_eq_true rfl) ⟨Nat.zero_le _, Nat.zero_le _⟩ dX3_opens_27 rfl ?_
      exact w3_opens_30 hN C hE h
  · refine go_iload_n (pc := 6) C dX3_opens_6 rfl 1 rfl ?_
    refine go_bipush (pc := 7) (v := (12 : Int32)) C dX3_opens_7 (by decide) ?_
    refine go_icmp_ne (pc := 9) (tgt := 40) C dX3_opens_9 (by decide) h (fun h => ?_) (fun h => ?_)
    · refine go_aload_n (pc := 40) C dX3_opens_40 rfl 0 rfl ?_
      refine x3gr_48 (pc := 41) C dX3_opens_41 ?_
      refine go_aload_n (pc := 44) C dX3_opens_44 rfl 0 rfl ?_
      refine x3gi_39 (pc := 45) C dX3_opens_45 ?_
      refine go_iload_n (pc := 48) C dX3_opens_48 rfl 1 rfl ?_
      refine go_iast (pc := 49) C x3pA_48 h dX3_opens_49 (fun h => ?_)
      refine go_aload_n (pc := 50) C dX3_opens_50 rfl 0 rfl ?_
      refine go_dup (pc := 51) C dX3_opens_51 rfl ?_
      refine x3gi_39 (pc := 52) C dX3_opens_52 ?_
      refine go_iconst (pc := 55) (v := (1 : Int32)) C dX3_opens_55 (by decide) ?_
      refine go_iadd (pc := 56) C dX3_opens_56 ?_
      refine x3pi_39 (pc := 57) C dX3_opens_57 ?_
      exact (hE 0 0 _ _ _ (Nat.zero_le _) (Nat.zero_le _)).2.2.2.1 rfl dX3_opens_60 ⟨rfl, congrArg (fun z => bW Γ.d 3 FK3 a z) (some1 h)⟩
    · refine go_aload_n (pc := 12) C dX3_opens_12 rfl 0 rfl ?_
      refine x3gi_37 (pc := 13) C dX3_opens_13 ?_
      refine go_bipush (pc := 16) (v := (10 : Int32)) C dX3_opens_16 (by decide) ?_
      refine go_icmp_ne (pc := 18) (tgt := 30) C dX3_opens_18 (by decide) h (fun h => ?_) (fun h => ?_)
      · exact w3_opens_30 hN C hE h
      · refine go_aload_n (pc := 21) C dX3_opens_21 rfl 0 rfl ?_
        refine go_iconst (pc := 22) (v := (2 : Int32)) C dX3_opens_22 (by decide) ?_
        refine go_aload_n (pc := 23) C dX3_opens_23 rfl 0 rfl ?_
        refine x3gi_32 (pc := 24) C dX3_opens_24 ?_
        obtain ⟨s3, e3, h⟩ := bnd_some h
        refine go_callVv (pc := 27) C [.int (2 : Int32), .int (s0.1 32)] (m3_fails e3) q1537 q1539 qs61 q144 q1540 x3pd_fails (by decide) (by decide) bW_O x3c rfl (Nat.le_of_ble_eq_true rfl) ⟨Nat.zero_le _, Nat.zero_le _⟩ dX3_opens_27 rfl ?_
        exact w3_opens_30 hN C hE h
theorem w3_compared_90 {Γ : Gam} {a : Nat → Nat} {s0 : Bl} {v1 : Int32} {v2 : Int32} {z0 : Int32} {z1 : Int32} {s9 : Bl} (hN : Γ.nL = 3) (C : Cx Γ cX3_compared RX3 (8, 0, 0) 173) (hE : Rets Γ cX3_compared none 0 0 (fun v w => v = none ∧ w = (bW Γ.d 3 FK3 a s9))) (h : g3_compared_90 s0 v1 v2 z0 z1 = some s9) : Go Γ 0 0 (bW Γ.d 3 FK3 a s0) 90 [(0, .ref (a 0)), (1, .int v1), (2, .int v2)] [.int z0, .int z1, .ref (a 0)] := by
  dsimp only [g3_compared_90] at h
  refine go_iadd (pc := 90) C dX3_compared_90 ?_
  refine x3pi_32 (pc := 91) C dX3_compared_91 ?_
  refine go_aload_n (pc := 94) C dX3_compared_94 rfl 0 rfl ?_
  obtain ⟨s4, e4, h⟩ := bnd_some h
  refine go_callVv (pc := 95) C [] (m3_sum e4) q1595 q1597 qs72 q144 q1598 x3pd_sum (by decide) (by decide) bW_O x3c rfl (Nat.le_of_ble_eq_true rfl) ⟨Nat.zero_le _, Nat.zero_le _⟩ dX3_compared_95 rfl ?_
  refine go_aload_n (pc := 98) C dX3_compared_98 rfl 0 rfl ?_
  refine go_iload_n (pc := 99) C dX3_compared_99 rfl 1 rfl ?_
  refine go_bipush (pc := 100) (v := (61 : Int32)) C dX3_compared_100 (by decide) ?_
  refine go_icmp_ne (pc := 102) (tgt := 110) C dX3_compared_102 (by decide) h (fun h => ?_) (fun h => ?_)
  · refine go_iload_n (pc := 110) C dX3_compared_110 rfl 1 rfl ?_
    refine go_bipush (pc := 111) (v := (60 : Int32)) C dX3_compared_111 (by decide) ?_
    refine go_icmp_ne (pc := 113) (tgt := 128) C dX3_compared_113 (by decide) h (fun h => ?_) (fun h => ?_)
    · refine go_iload_n (pc := 128) C dX3_compared_128 rfl 2 rfl ?_
      refine go_if_eq (pc := 129) (tgt := 137) C dX3_compared_129 (by decide) h (fun h => ?_) (fun h => ?_)
      · refine go_bipush (pc := 137) (v := (8 : Int32)) C dX3_compared_137 (by decide) ?_
        refine go_iconst (pc := 139) (v := (0 : Int32)) C dX3_compared_139 (by decide) ?_
        obtain ⟨s5, e5, h⟩ := bnd_some h
        refine go_callVv (pc := 140) C [.int (8 : Int32), .int (0 : Int32)] (m3_entry e5) q1611 q1613 qs76 q144 q1614 x3pd_entry (by decide) (by decide) bW_O x3c rfl (Nat.le_of_ble_eq_true rfl) ⟨Nat.zero_le _, Nat.zero_le _⟩ dX3_compared_140 rfl ?_
        exact (hE 0 0 _ _ _ (Nat.zero_le _) (Nat.zero_le _)).2.2.2.1 rfl dX3_compared_143 ⟨rfl, congrArg (fun z => bW Γ.d 3 FK3 a z) (some1 h)⟩
      · refine go_bipush (pc := 132) (v := (7 : Int32)) C dX3_compared_132 (by decide) ?_
        refine go_goto (pc := 134) (tgt := 139) C dX3_compared_134 (by decide) ?_
        refine go_iconst (pc := 139) (v := (0 : Int32)) C dX3_compared_139 (by decide) ?_
        obtain ⟨s6, e6, h⟩ := bnd_some h
        refine go_callVv (pc := 140) C [.int (7 : Int32), .int (0 : Int32)] (m3_entry e6) q1611 q1613 qs76 q144 q1614 x3pd_entry (by decide) (by decide) bW_O x3c rfl (Nat.le_of_ble_eq_true rfl) ⟨Nat.zero_le _, Nat.zero_le _⟩ dX3_compared_140 rfl ?_
        exact (hE 0 0 _ _ _ (Nat.zero_le _) (Nat.zero_le _)).2.2.2.1 rfl dX3_compared_143 ⟨rfl, congrArg (fun z => bW Γ.d 3 FK3 a z) (some1 h)⟩
    · refine go_iload_n (pc := 116) C dX3_compared_116 rfl 2 rfl ?_
      refine go_if_eq (pc := 117) (tgt := 124) C dX3_compared_117 (by decide) h (fun h => ?_) (fun h => ?_)
      · refine go_iconst (pc := 124) (v := (4 : Int32)) C dX3_compared_124 (by decide) ?_
        refine go_goto (pc := 125) (tgt := 139) C dX3_compared_125 (by decide) ?_
        refine go_iconst (pc := 139) (v := (0 : Int32)) C dX3_compared_139 (by decide) ?_
        obtain ⟨s7, e7, h⟩ := bnd_some h
        refine go_callVv (pc := 140) C [.int (4 : Int32), .int (0 : Int32)] (m3_entry e7) q1611 q1613 qs76 q144 q1614 x3pd_entry (by decide) (by decide) bW_O x3c rfl (Nat.le_of_ble_eq_true rfl) ⟨Nat.zero_le _, Nat.zero_le _⟩ dX3_compared_140 rfl ?_
        exact (hE 0 0 _ _ _ (Nat.zero_le _) (Nat.zero_le _)).2.2.2.1 rfl dX3_compared_143 ⟨rfl, congrArg (fun z => bW Γ.d 3 FK3 a z) (some1 h)⟩
      · refine go_iconst (pc := 120) (v := (5 : Int32)) C dX3_compared_120 (by decide) ?_
        refine go_goto (pc := 121) (tgt := 139) C dX3_compared_121 (by decide) ?_
        refine go_iconst (pc := 139) (v := (0 : Int32)) C dX3_compared_139 (by decide) ?_
        obtain ⟨s8, e8, h⟩ := bnd_some h
        refine go_callVv (pc := 140) C [.int (5 : Int32), .int (0 : Int32)] (m3_entry e8) q1611 q1613 qs76 q144 q1614 x3pd_entry (by decide) (by decide) bW_O x3c rfl (Nat.le_of_ble_eq_true rfl) ⟨Nat.zero_le _, Nat.zero_le _⟩ dX3_compared_140 rfl ?_
        exact (hE 0 0 _ _ _ (Nat.zero_le _) (Nat.zero_le _)).2.2.2.1 rfl dX3_compared_143 ⟨rfl, congrArg (fun z => bW Γ.d 3 FK3 a z) (some1 h)⟩
  · refine go_bipush (pc := 105) (v := (6 : Int32)) C dX3_compared_105 (by decide) ?_
    refine go_goto (pc := 107) (tgt := 139) C dX3_compared_107 (by decide) ?_
    refine go_iconst (pc := 139) (v := (0 : Int32)) C dX3_compared_139 (by decide) ?_
    obtain ⟨s9, e9, h⟩ := bnd_some h
    refine go_callVv (pc := 140) C [.int (6 : Int32), .int (0 : Int32)] (m3_entry e9) q1611 q1613 qs76 q144 q1614 x3pd_entry (by decide) (by decide) bW_O x3c rfl (Nat.le_of_ble_eq_true rfl) ⟨Nat.zero_le _, Nat.zero_le _⟩ dX3_compared_140 rfl ?_
    exact (hE 0 0 _ _ _ (Nat.zero_le _) (Nat.zero_le _)).2.2.2.1 rfl dX3_compared_143 ⟨rfl, congrArg (fun z => bW Γ.d 3 FK3 a z) (some1 h)⟩
theorem w3_compared_37 {Γ : Gam} {a : Nat → Nat} {s0 : Bl} {v1 : Int32} {s9 : Bl} (hN : Γ.nL = 3) (C : Cx Γ cX3_compared RX3 (8, 0, 0) 173) (hE : Rets Γ cX3_compared none 0 0 (fun v w => v = none ∧ w = (bW Γ.d 3 FK3 a s9))) (h : g3_compared_37 s0 v1 = some s9) : Go Γ 0 0 (bW Γ.d 3 FK3 a s0) 37 [(0, .ref (a 0)), (1, .int v1)] [] := by
  dsimp only [g3_compared_37] at h
  refine go_aload_n (pc := 37) C dX3_compared_37 rfl 0 rfl ?_
  refine go_aload_n (pc := 38) C dX3_compared_38 rfl 0 rfl ?_
  refine x3gi_32 (pc := 39) C dX3_compared_39 ?_
  obtain ⟨s3, e3, h⟩ := bnd_some h
  refine go_callVv (pc := 42) C [.int (s0.1 32)] (m3_isCounted e3) q1607 q1609 qs75 q144 q1610 x3pd_isCounted (by decide) (by decide) bW_O x3c rfl (Nat.le_of_ble_eq_true rfl) ⟨Nat.zero_le _, Nat.zero_le _⟩ dX3_compared_42 rfl ?_
  refine go_aload_n (pc := 45) C dX3_compared_45 rfl 0 rfl ?_
  refine go_dup (pc := 46) C dX3_compared_46 rfl ?_
  refine x3gi_32 (pc := 47) C dX3_compared_47 ?_
  refine go_iconst (pc := 50) (v := (1 : Int32)) C dX3_compared_50 (by decide) ?_
  refine go_iadd (pc := 51) C dX3_compared_51 ?_
  refine x3pi_32 (pc := 52) C dX3_compared_52 ?_
  refine go_iload_n (pc := 55) C dX3_compared_55 rfl 1 rfl ?_
  refine go_bipush (pc := 56) (v := (61 : Int32)) C dX3_compared_56 (by decide) ?_
  refine go_icmp_eq (pc := 58) (tgt := 74) C dX3_compared_58 (by decide) h (fun h => ?_) (fun h => ?_)
  · refine go_iconst (pc := 74) (v := (0 : Int32)) C dX3_compared_74 (by decide) ?_
    refine go_istore_n (pc := 75) C hN dX3_compared_75 rfl (by decide) rfl ?_
    refine go_aload_n (pc := 76) C dX3_compared_76 rfl 1 rfl ?_
    refine go_dup (pc := 77) C dX3_compared_77 rfl ?_
    refine x3gi_32 (pc := 78) C dX3_compared_78 ?_
    refine go_iload_n (pc := 81) C dX3_compared_81 rfl 0 rfl ?_
    refine go_if_eqT (pc := 82) (tgt := 89) C dX3_compared_82 (by decide) (by decide) ?_
    refine go_iconst (pc := 89) (v := (0 : Int32)) C dX3_compared_89 (by decide) ?_
    refine go_sub [1, 2, 0] rfl ?_
    exact w3_compared_90 hN C hE h
  · refine go_aload_n (pc := 61) C dX3_compared_61 rfl 0 rfl ?_
    obtain ⟨r10, e10, h⟩ := bnd_some h
    refine go_callVi (pc := 62) C [] (m3_sign e10) q1519 q1521 qs59 q144 q1522 x3pd_sign (by decide) (by decide) bW_O x3c rfl (Nat.le_of_ble_eq_true rfl) ⟨Nat.zero_le _, Nat.zero_le _⟩ dX3_compared_62 rfl ?_
    refine go_bipush (pc := 65) (v := (61 : Int32)) C dX3_compared_65 (by decide) ?_
    refine go_icmp_ne (pc := 67) (tgt := 74) C dX3_compared_67 (by decide) h (fun h => ?_) (fun h => ?_)
    · refine go_iconst (pc := 74) (v := (0 : Int32)) C dX3_compared_74 (by decide) ?_
      refine go_istore_n (pc := 75) C hN dX3_compared_75 rfl (by decide) rfl ?_
      refine go_aload_n (pc := 76) C dX3_compared_76 rfl 1 rfl ?_
      refine go_dup (pc := 77) C dX3_compared_77 rfl ?_
      refine x3gi_32 (pc := 78) C dX3_compared_78 ?_
      refine go_iload_n (pc := 81) C dX3_compared_81 rfl 0 rfl ?_
      refine go_if_eqT (pc := 82) (tgt := 89) C dX3_compared_82 (by decide) (by decide) ?_
      refine go_iconst (pc := 89) (v := (0 : Int32)) C dX3_compared_89 (by decide) ?_
      refine go_sub [1, 2, 0] rfl ?_
      exact w3_compared_90 hN C hE h
    · refine go_iconst (pc := 70) (v := (1 : Int32)) C dX3_compared_70 (by decide) ?_
      refine go_goto (pc := 71) (tgt := 75) C dX3_compared_71 (by decide) ?_
      refine go_istore_n (pc := 75) C hN dX3_compared_75 rfl (by decide) rfl ?_
      refine go_aload_n (pc := 76) C dX3_compared_76 rfl 1 rfl ?_
      refine go_dup (pc := 77) C dX3_compared_77 rfl ?_
      refine x3gi_32 (pc := 78) C dX3_compared_78 ?_
      refine go_iload_n (pc := 81) C dX3_compared_81 rfl 0 rfl ?_
      refine go_if_eqF (pc := 82) (tgt := 89) C dX3_compared_82 (by decide) (by decide) ?_
      refine go_iconst (pc := 85) (v := (1 : Int32)) C dX3_compared_85 (by decide) ?_
      refine go_goto (pc := 86) (tgt := 90) C dX3_compared_86 (by decide) ?_
      refine go_sub [1, 2, 0] rfl ?_
      exact w3_compared_90 hN C hE h
theorem m3_compared {l : Launch} {d : gD} {a : Nat → Nat} {s0 : Bl} {s9 : Bl} (h : f3_compared s0 = some s9) : Mt l d yX3_compared cX3_compared 3 none (8, 0, 0) 173 (bW d 3 FK3 a s0) [.ref (a 0)] (fun v w => v = none ∧ w = (bW d 3 FK3 a s9)) := by
  refine Mt.of x3pn (Nat.le_of_ble_eq_true rfl) ?_
  intro Γ hl hd hN C hE
  subst hl; subst hd
  show Go Γ 0 0 (bW Γ.d 3 FK3 a s0) 0 [(0, .ref (a 0))] []
  dsimp only [f3_compared] at h
  refine go_aload_n (pc := 0) C dX3_compared_0 rfl 0 rfl ?_
  obtain ⟨s1, e1, h⟩ := bnd_some h
  refine go_callVv (pc := 1) C [] (m3_sum e1) q1595 q1597 qs72 q144 q1598 x3pd_sum (by decide) (by decide) bW_O x3c rfl (Nat.le_of_ble_eq_true rfl) ⟨Nat.zero_le _, Nat.zero_le _⟩ dX3_compared_1 rfl ?_
  refine go_aload_n (pc := 4) C dX3_compared_4 rfl 0 rfl ?_
  obtain ⟨r2, e2, h⟩ := bnd_some h
  refine go_callVi (pc := 5) C [] (m3_sign e2) q1519 q1521 qs59 q144 q1522 x3pd_sign (by decide) (by decide) bW_O x3c rfl (Nat.le_of_ble_eq_true rfl) ⟨Nat.zero_le _, Nat.zero_le _⟩ dX3_compared_5 rfl ?_
  refine go_istore_n (pc := 8) C hN dX3_compared_8 rfl (by decide) rfl ?_
  refine go_iload_n (pc := 9) C dX3_compared_9 rfl 0 rfl ?_
  refine go_bipush (pc := 10) (v := (60 : Int32)) C dX3_compared_10 (by decide) ?_
  refine go_icmp_eq (pc := 12) (tgt := 37) C dX3_compared_12 (by decide) h (fun h => ?_) (fun h => ?_)
  · refine go_sub [1, 0] rfl ?_
    exact w3_compared_37 hN C hE h
  · refine go_iload_n (pc := 15) C dX3_compared_15 rfl 0 rfl ?_
    refine go_bipush (pc := 16) (v := (61 : Int32)) C dX3_compared_16 (by decide) ?_
    refine go_icmp_eq (pc := 18) (tgt := 37) C dX3_compared_18 (by decide) h (fun h => ?_) (fun h => ?_)
    · refine go_sub [1, 0] rfl ?_
      exact w3_compared_37 hN C hE h
    · refine go_iload_n (pc := 21) C dX3_compared_21 rfl 0 rfl ?_
      refine go_bipush (pc := 22) (v := (62 : Int32)) C dX3_compared_22 (by decide) ?_
      refine go_icmp_eq (pc := 24) (tgt := 37) C dX3_compared_24 (by decide) h (fun h => ?_) (fun h => ?_)
      · refine go_sub [1, 0] rfl ?_
        exact w3_compared_37 hN C hE h
      · refine go_aload_n (pc := 27) C dX3_compared_27 rfl 1 rfl ?_
        refine go_iconst (pc := 28) (v := (0 : Int32)) C dX3_compared_28 (by decide) ?_
        refine go_aload_n (pc := 29) C dX3_compared_29 rfl 1 rfl ?_
        refine x3gi_32 (pc := 30) C dX3_compared_30 ?_
        obtain ⟨s11, e11, h⟩ := bnd_some h
        refine go_callVv (pc := 33) C [.int (0 : Int32), .int (s1.1 32)] (m3_fails e11) q1537 q1539 qs61 q144 q1540 x3pd_fails (by decide) (by decide) bW_O x3c rfl (Nat.le_of_ble_eq_true rfl) ⟨Nat.zero_le _, Nat.zero_le _⟩ dX3_compared_33 rfl ?_
        exact (hE 0 0 _ _ _ (Nat.zero_le _) (Nat.zero_le _)).2.2.2.1 rfl dX3_compared_36 ⟨rfl, congrArg (fun z => bW Γ.d 3 FK3 a z) (some1 h)⟩
theorem m3_fact {l : Launch} {d : gD} {a : Nat → Nat} {s0 : Bl} {r9 : Int32} {s9 : Bl} (h : f3_fact s0 = some (r9, s9)) : Mt l d yX3_fact cX3_fact 1 (some .boolean) (9, 0, 0) 195 (bW d 3 FK3 a s0) [.ref (a 0)] (fun v w => v = some (.int r9) ∧ w = (bW d 3 FK3 a s9)) := by
  refine Mt.of x3pn (Nat.le_of_ble_eq_true rfl) ?_
  intro Γ hl hd hN C hE
  subst hl; subst hd
  show Go Γ 0 0 (bW Γ.d 3 FK3 a s0) 0 [(0, .ref (a 0))] []
  dsimp only [f3_fact] at h
  refine go_aload_n (pc := 0) C dX3_fact_0 rfl 0 rfl ?_
  obtain ⟨s1, e1, h⟩ := bnd_some h
  refine go_callVv (pc := 1) C [] (m3_blanks e1) q1515 q1517 qs58 q144 q1518 x3pd_blanks (by decide) (by decide) bW_O x3c rfl (Nat.le_of_ble_eq_true rfl) ⟨Nat.zero_le _, Nat.zero_le _⟩ dX3_fact_1 rfl ?_
  refine go_aload_n (pc := 4) C dX3_fact_4 rfl 0 rfl ?_
  refine go_ldcwS (pc := 5) 20 C dX3_fact_5 (by decide) ?_
  obtain ⟨r2, e2, h⟩ := bnd_some h
  refine go_callVi (pc := 8) C [.ref (Γ.d.2.2.1 20)] (m3_stood e2) q1531 q1533 qs60 q144 q1534 x3pd_stood (by decide) (by decide) bW_O x3c rfl (Nat.le_of_ble_eq_true rfl) ⟨Nat.zero_le _, Nat.zero_le _⟩ dX3_fact_8 rfl ?_
  refine go_if_eq (pc := 11) (tgt := 32) C dX3_fact_11 (by decide) h (fun h => ?_) (fun h => ?_)
  · refine go_aload_n (pc := 32) C dX3_fact_32 rfl 0 rfl ?_
    obtain ⟨r3, e3, h⟩ := bnd_some h
    refine go_callVi (pc := 33) C [] (m3_sign e3) q1519 q1521 qs59 q144 q1522 x3pd_sign (by decide) (by decide) bW_O x3c rfl (Nat.le_of_ble_eq_true rfl) ⟨Nat.zero_le _, Nat.zero_le _⟩ dX3_fact_33 rfl ?_
    refine go_bipush (pc := 36) (v := (91 : Int32)) C dX3_fact_36 (by decide) ?_
    refine go_icmp_ne (pc := 38) (tgt := 59) C dX3_fact_38 (by decide) h (fun h => ?_) (fun h => ?_)
    · refine go_aload_n (pc := 59) C dX3_fact_59 rfl 0 rfl ?_
      obtain ⟨s4, e4, h⟩ := bnd_some h
      refine go_callVv (pc := 60) C [] (m3_compared e4) q1648 q1650 qs81 q144 q1651 x3pd_compared (by decide) (by decide) bW_O x3c rfl (Nat.le_of_ble_eq_true rfl) ⟨Nat.zero_le _, Nat.zero_le _⟩ dX3_fact_60 rfl ?_
      refine go_iconst (pc := 63) (v := (1 : Int32)) C dX3_fact_63 (by decide) ?_
      exact (hE 0 0 _ _ _ (Nat.zero_le _) (Nat.zero_le _)).2.1 _ rfl (Or.inr rfl) dX3_fact_64 ⟨congrArg (fun z => some (Value.int z)) (some2 h).1, congrArg (fun z => bW Γ.d 3 FK3 a z) (some2 h).2⟩
    · refine go_aload_n (pc := 41) C dX3_fact_41 rfl 0 rfl ?_
      refine go_bipush (pc := 42) (v := (12 : Int32)) C dX3_fact_42 (by decide) ?_
      obtain ⟨s5, e5, h⟩ := bnd_some h
      refine go_callVv (pc := 44) C [.int (12 : Int32)] (m3_opens e5) q1644 q1646 qs80 q144 q1647 x3pd_opens (by decide) (by decide) bW_O x3c rfl (Nat.le_of_ble_eq_true rfl) ⟨Nat.zero_le _, Nat.zero_le _⟩ dX3_fact_44 rfl ?_
      refine go_aload_n (pc := 47) C dX3_fact_47 rfl 0 rfl ?_
      refine go_dup (pc := 48) C dX3_fact_48 rfl ?_
      refine x3gi_32 (pc := 49) C dX3_fact_49 ?_
      refine go_iconst (pc := 52) (v := (1 : Int32)) C dX3_fact_52 (by decide) ?_
      refine go_iadd (pc := 53) C dX3_fact_53 ?_
      refine x3pi_32 (pc := 54) C dX3_fact_54 ?_
      refine go_iconst (pc := 57) (v := (0 : Int32)) C dX3_fact_57 (by decide) ?_
      exact (hE 0 0 _ _ _ (Nat.zero_le _) (Nat.zero_le _)).2.1 _ rfl (Or.inl rfl) dX3_fact_58 ⟨congrArg (fun z => some (Value.int z)) (some2 h).1, congrArg (fun z => bW Γ.d 3 FK3 a z) (some2 h).2⟩
  · refine go_aload_n (pc := 14) C dX3_fact_14 rfl 0 rfl ?_
    refine go_bipush (pc := 15) (v := (9 : Int32)) C dX3_fact_15 (by decide) ?_
    obtain ⟨s6, e6, h⟩ := bnd_some h
    refine go_callVv (pc := 17) C [.int (9 : Int32)] (m3_opens e6) q1644 q1646 qs80 q144 q1647 x3pd_opens (by decide) (by decide) bW_O x3c rfl (Nat.le_of_ble_eq_true rfl) ⟨Nat.zero_le _, Nat.zero_le _⟩ dX3_fact_17 rfl ?_
    refine go_aload_n (pc := 20) C dX3_fact_20 rfl 0 rfl ?_
    refine go_dup (pc := 21) C dX3_fact_21 rfl ?_
    refine x3gi_32 (pc := 22) C dX3_fact_22 ?_
    refine go_iconst (pc := 25) (v := (3 : Int32)) C dX3_fact_25 (by decide) ?_
    refine go_iadd (pc := 26) C dX3_fact_26 ?_
    refine x3pi_32 (pc := 27) C dX3_fact_27 ?_
    refine go_iconst (pc := 30) (v := (0 : Int32)) C dX3_fact_30 (by decide) ?_
    exact (hE 0 0 _ _ _ (Nat.zero_le _) (Nat.zero_le _)).2.1 _ rfl (Or.inl rfl) dX3_fact_31 ⟨congrArg (fun z => some (Value.int z)) (some2 h).1, congrArg (fun z => bW Γ.d 3 FK3 a z) (some2 h).2⟩
theorem m3_top {l : Launch} {d : gD} {a : Nat → Nat} {s0 : Bl} {r9 : Int32} (h : f3_top s0 = some r9) : Mt l d yX3_top cX3_top 1 (some .int) (0, 0, 0) 0 (bW d 3 FK3 a s0) [.ref (a 0)] (fun v w => v = some (.int r9) ∧ w = (bW d 3 FK3 a s0)) := by
  refine Mt.of x3pn (Nat.le_of_ble_eq_true rfl) ?_
  intro Γ hl hd hN C hE
  subst hl; subst hd
  show Go Γ 0 0 (bW Γ.d 3 FK3 a s0) 0 [(0, .ref (a 0))] []
  dsimp only [f3_top] at h
  refine go_aload_n (pc := 0) C dX3_top_0 rfl 0 rfl ?_
  refine x3gi_39 (pc := 1) C dX3_top_1 ?_
  refine go_if_ne (pc := 4) (tgt := 11) C dX3_top_4 (by decide) h (fun h => ?_) (fun h => ?_)
  · refine go_aload_n (pc := 11) C dX3_top_11 rfl 0 rfl ?_
    refine x3gr_48 (pc := 12) C dX3_top_12 ?_
    refine go_aload_n (pc := 15) C dX3_top_15 rfl 0 rfl ?_
    refine x3gi_39 (pc := 16) C dX3_top_16 ?_
    refine go_iconst (pc := 19) (v := (1 : Int32)) C dX3_top_19 (by decide) ?_
    refine go_isub (pc := 20) C dX3_top_20 ?_
    refine go_iald (pc := 21) C x3aA_48 h dX3_top_21 (fun h => ?_)
    exact (hE 0 0 _ _ _ (Nat.zero_le _) (Nat.zero_le _)).1 _ rfl dX3_top_22 ⟨congrArg (fun z => some (Value.int z)) (some1 h), rfl⟩
  · refine go_iconst (pc := 7) (v := (-1 : Int32)) C dX3_top_7 (by decide) ?_
    refine go_goto (pc := 8) (tgt := 22) C dX3_top_8 (by decide) ?_
    exact (hE 0 0 _ _ _ (Nat.zero_le _) (Nat.zero_le _)).1 _ rfl dX3_top_22 ⟨congrArg (fun z => some (Value.int z)) (some1 h), rfl⟩
theorem w3_answers_0 {Γ : Gam} {a : Nat → Nat} {v1 : Int32} {s9 : Bl} (hN : Γ.nL = 2) (C : Cx Γ cX3_answers RX3 (1, 0, 0) 22) (hE : Rets Γ cX3_answers none 0 0 (fun v w => v = none ∧ w = (bW Γ.d 3 FK3 a s9))) : ∀ (n : Nat) (s : Bl), loop (g3_answers_0 v1) n s = some s9 → (fun s : Bl => Go Γ 0 0 (bW Γ.d 3 FK3 a s) 0 [(0, .ref (a 0)), (1, .int v1)] []) s := by
  refine loop_walk (P := fun s : Bl => Go Γ 0 0 (bW Γ.d 3 FK3 a s) 0 [(0, .ref (a 0)), (1, .int v1)] []) ?_
  intro K0 hK0 s h
  obtain ⟨s0, rfl⟩ : ∃ z, z = s := ⟨_, rfl⟩
  dsimp only [g3_answers_0] at h
  show Go Γ 0 0 (bW Γ.d 3 FK3 a s0) 0 [(0, .ref (a 0)), (1, .int v1)] []
  refine go_aload_n (pc := 0) C dX3_answers_0 rfl 0 rfl ?_
  obtain ⟨r1, e1, h⟩ := bnd_some h
  refine go_callVi (pc := 1) C [] (m3_top e1) q1656 q1658 qs83 q144 q1659 x3pd_top (by decide) (by decide) bW_O x3c rfl (Nat.le_of_ble_eq_true rfl) ⟨Nat.zero_le _, Nat.zero_le _⟩ dX3_answers_1 rfl ?_
  refine go_iload_n (pc := 4) C dX3_answers_4 rfl 1 rfl ?_
  refine go_icmp_ne (pc := 5) (tgt := 54) C dX3_answers_5 (by decide) h (fun h => ?_) (fun h => ?_)
  · exact (hE 0 0 _ _ _ (Nat.zero_le _) (Nat.zero_le _)).2.2.2.1 rfl dX3_answers_54 ⟨rfl, congrArg (fun z => bW Γ.d 3 FK3 a z) (some1 h)⟩
  · refine go_aload_n (pc := 8) C dX3_answers_8 rfl 0 rfl ?_
    refine x3gi_33 (pc := 9) C dX3_answers_9 ?_
    refine go_if_ne (pc := 12) (tgt := 54) C dX3_answers_12 (by decide) h (fun h => ?_) (fun h => ?_)
    · exact (hE 0 0 _ _ _ (Nat.zero_le _) (Nat.zero_le _)).2.2.2.1 rfl dX3_answers_54 ⟨rfl, congrArg (fun z => bW Γ.d 3 FK3 a z) (some1 h)⟩
    · refine go_aload_n (pc := 15) C dX3_answers_15 rfl 0 rfl ?_
      refine go_iload_n (pc := 16) C dX3_answers_16 rfl 1 rfl ?_
      refine go_iconst (pc := 17) (v := (0 : Int32)) C dX3_answers_17 (by decide) ?_
      obtain ⟨s2, e2, h⟩ := bnd_some h
      refine go_callVv (pc := 18) C [.int v1, .int (0 : Int32)] (m3_entry e2) q1611 q1613 qs76 q144 q1614 x3pd_entry (by decide) (by decide) bW_O x3c rfl (Nat.le_of_ble_eq_true rfl) ⟨Nat.zero_le _, Nat.zero_le _⟩ dX3_answers_18 rfl ?_
      refine go_aload_n (pc := 21) C dX3_answers_21 rfl 0 rfl ?_
      refine go_dup (pc := 22) C dX3_answers_22 rfl ?_
      refine x3gi_39 (pc := 23) C dX3_answers_23 ?_
      refine go_iconst (pc := 26) (v := (1 : Int32)) C dX3_answers_26 (by decide) ?_
      refine go_isub (pc := 27) C dX3_answers_27 ?_
      refine x3pi_39 (pc := 28) C dX3_answers_28 ?_
      refine go_aload_n (pc := 31) C dX3_answers_31 rfl 0 rfl ?_
      refine go_dup (pc := 32) C dX3_answers_32 rfl ?_
      refine x3gi_37 (pc := 33) C dX3_answers_33 ?_
      refine go_iload_n (pc := 36) C dX3_answers_36 rfl 1 rfl ?_
      refine go_bipush (pc := 37) (v := (9 : Int32)) C dX3_answers_37 (by decide) ?_
      refine go_icmp_ne (pc := 39) (tgt := 46) C dX3_answers_39 (by decide) h (fun h => ?_) (fun h => ?_)
      · refine go_iconst (pc := 46) (v := (0 : Int32)) C dX3_answers_46 (by decide) ?_
        refine go_isub (pc := 47) C dX3_answers_47 ?_
        refine x3pi_37 (pc := 48) C dX3_answers_48 ?_
        refine go_goto (pc := 51) (tgt := 0) C dX3_answers_51 (by decide) ?_
        exact hK0 (bI (bI s2 39 ((s2.1 39) - (1 : Int32))) 37 (((bI s2 39 ((s2.1 39) - (1 : Int32))).1 37) - (0 : Int32))) h
      · refine go_iconst (pc := 42) (v := (1 : Int32)) C dX3_answers_42 (by decide) ?_
        refine go_goto (pc := 43) (tgt := 47) C dX3_answers_43 (by decide) ?_
        refine go_isub (pc := 47) C dX3_answers_47 ?_
        refine x3pi_37 (pc := 48) C dX3_answers_48 ?_
        refine go_goto (pc := 51) (tgt := 0) C dX3_answers_51 (by decide) ?_
        exact hK0 (bI (bI s2 39 ((s2.1 39) - (1 : Int32))) 37 (((bI s2 39 ((s2.1 39) - (1 : Int32))).1 37) - (1 : Int32))) h
theorem m3_answers {l : Launch} {d : gD} {a : Nat → Nat} {s0 : Bl} {v1 : Int32} {s9 : Bl} (h : f3_answers s0 v1 = some s9) : Mt l d yX3_answers cX3_answers 2 none (1, 0, 0) 22 (bW d 3 FK3 a s0) [.ref (a 0), .int v1] (fun v w => v = none ∧ w = (bW d 3 FK3 a s9)) := by
  refine Mt.of x3pn (Nat.le_of_ble_eq_true rfl) ?_
  intro Γ hl hd hN C hE
  subst hl; subst hd
  show Go Γ 0 0 (bW Γ.d 3 FK3 a s0) 0 [(0, .ref (a 0)), (1, .int v1)] []
  dsimp only [f3_answers] at h
  exact w3_answers_0 hN C hE FU s0 h
theorem w3_test_105 {Γ : Gam} {a : Nat → Nat} {s0 : Bl} {v2 : Int32} {v3 : Int32} {z0 : Int32} {s9 : Bl} {K9 : Bl × Int32 × Int32 → Option Bl} (hN : Γ.nL = 5) (C : Cx Γ cX3_test RX3 (10, 0, 0) 215) (hE : Rets Γ cX3_test none 0 0 (fun v w => v = none ∧ w = (bW Γ.d 3 FK3 a s9)))
    (hK9 : ∀ s, K9 s = some s9 → (fun s : Bl × Int32 × Int32 => Go Γ 0 0 (bW Γ.d 3 FK3 a s.1) 9 [(0, .ref (a 0)), (1, .int s.2.1), (2, .int s.2.2)] []) s) (h : g3_test_105 K9 s0 v2 v3 z0 = some s9) : Go Γ 0 0 (bW Γ.d 3 FK3 a s0) 105 [(0, .ref (a 0)), (2, .int v2), (3, .int v3)] [.int z0, .ref (a 0)] := by
  dsimp only [g3_test_105] at h
  obtain ⟨s6, e6, h⟩ := bnd_some h
  refine go_callVv (pc := 105) C [.int z0] (m3_opens e6) q1644 q1646 qs80 q144 q1647 x3pd_opens (by decide) (by decide) bW_O x3c rfl (Nat.le_of_ble_eq_true rfl) ⟨Nat.zero_le _, Nat.zero_le _⟩ dX3_test_105 rfl ?_
  refine go_aload_n (pc := 108) C dX3_test_108 rfl 0 rfl ?_
  refine go_dup (pc := 109) C dX3_test_109 rfl ?_
  refine x3gi_32 (pc := 110) C dX3_test_110 ?_
  refine go_iload_n (pc := 113) C dX3_test_113 rfl 2 rfl ?_
  refine go_if_eq (pc := 114) (tgt := 121) C dX3_test_114 (by decide) h (fun h => ?_) (fun h => ?_)
  · refine go_iconst (pc := 121) (v := (2 : Int32)) C dX3_test_121 (by decide) ?_
    refine go_iadd (pc := 122) C dX3_test_122 ?_
    refine x3pi_32 (pc := 123) C dX3_test_123 ?_
    refine go_iconst (pc := 126) (v := (1 : Int32)) C dX3_test_126 (by decide) ?_
    refine go_istore_n (pc := 127) C hN dX3_test_127 rfl (by decide) rfl ?_
    refine go_goto (pc := 128) (tgt := 199) C dX3_test_128 (by decide) ?_
    refine go_goto (pc := 199) (tgt := 9) C dX3_test_199 (by decide) ?_
    refine go_sub [1, 0, 2] rfl ?_
    exact hK9 ((bI s6 32 ((s6.1 32) + (2 : Int32))), (1 : Int32), v2) h
  · refine go_iconst (pc := 117) (v := (3 : Int32)) C dX3_test_117 (by decide) ?_
    refine go_goto (pc := 118) (tgt := 122) C dX3_test_118 (by decide) ?_
    refine go_iadd (pc := 122) C dX3_test_122 ?_
    refine x3pi_32 (pc := 123) C dX3_test_123 ?_
    refine go_iconst (pc := 126) (v := (1 : Int32)) C dX3_test_126 (by decide) ?_
    refine go_istore_n (pc := 127) C hN dX3_test_127 rfl (by decide) rfl ?_
    refine go_goto (pc := 128) (tgt := 199) C dX3_test_128 (by decide) ?_
    refine go_goto (pc := 199) (tgt := 9) C dX3_test_199 (by decide) ?_
    refine go_sub [1, 0, 2] rfl ?_
    exact hK9 ((bI s6 32 ((s6.1 32) + (3 : Int32))), (1 : Int32), v2) h
theorem w3_test_82 {Γ : Gam} {a : Nat → Nat} {s0 : Bl} {v2 : Int32} {v3 : Int32} {v4 : Int32} {s9 : Bl} {K9 : Bl × Int32 × Int32 → Option Bl} (hN : Γ.nL = 5) (C : Cx Γ cX3_test RX3 (10, 0, 0) 215) (hE : Rets Γ cX3_test none 0 0 (fun v w => v = none ∧ w = (bW Γ.d 3 FK3 a s9)))
    (hK9 : ∀ s, K9 s = some s9 → (fun s : Bl × Int32 × Int32 => Go Γ 0 0 (bW Γ.d 3 FK3 a s.1) 9 [(0, .ref (a 0)), (1, .int s.2.1), (2, .int s.2.2)] []) s) (h : g3_test_82 K9 s0 v2 v3 v4 = some s9) : Go Γ 0 0 (bW Γ.d 3 FK3 a s0) 82 [(0, .ref (a 0)), (2, .int v2), (3, .int v3), (4, .int v4)] [] := by
  dsimp only [g3_test_82] at h
  refine go_iload (pc := 82) C dX3_test_82 3 rfl ?_
  refine go_if_eq (pc := 84) (tgt := 93) C dX3_test_84 (by decide) h (fun h => ?_) (fun h => ?_)
  · refine go_aload_n (pc := 93) C dX3_test_93 rfl 0 rfl ?_
    refine go_iload_n (pc := 94) C dX3_test_94 rfl 2 rfl ?_
    refine go_if_eq (pc := 95) (tgt := 103) C dX3_test_95 (by decide) h (fun h => ?_) (fun h => ?_)
    · refine go_bipush (pc := 103) (v := (11 : Int32)) C dX3_test_103 (by decide) ?_
      refine go_sub [0, 1, 2] rfl ?_
      exact w3_test_105 hN C hE hK9 h
    · refine go_bipush (pc := 98) (v := (10 : Int32)) C dX3_test_98 (by decide) ?_
      refine go_goto (pc := 100) (tgt := 105) C dX3_test_100 (by decide) ?_
      refine go_sub [0, 1, 2] rfl ?_
      exact w3_test_105 hN C hE hK9 h
  · refine go_aload_n (pc := 87) C dX3_test_87 rfl 0 rfl ?_
    refine go_bipush (pc := 88) (v := (11 : Int32)) C dX3_test_88 (by decide) ?_
    obtain ⟨s7, e7, h⟩ := bnd_some h
    refine go_callVv (pc := 90) C [.int (11 : Int32)] (m3_answers e7) q1652 q1654 qs82 q144 q1655 x3pd_answers (by decide) (by decide) bW_O x3c rfl (Nat.le_of_ble_eq_true rfl) ⟨Nat.zero_le _, Nat.zero_le _⟩ dX3_test_90 rfl ?_
    refine go_aload_n (pc := 93) C dX3_test_93 rfl 0 rfl ?_
    refine go_iload_n (pc := 94) C dX3_test_94 rfl 2 rfl ?_
    refine go_if_eq (pc := 95) (tgt := 103) C dX3_test_95 (by decide) h (fun h => ?_) (fun h => ?_)
    · refine go_bipush (pc := 103) (v := (11 : Int32)) C dX3_test_103 (by decide) ?_
      refine go_sub [0, 1, 2] rfl ?_
      exact w3_test_105 hN C hE hK9 h
    · refine go_bipush (pc := 98) (v := (10 : Int32)) C dX3_test_98 (by decide) ?_
      refine go_goto (pc := 100) (tgt := 105) C dX3_test_100 (by decide) ?_
      refine go_sub [0, 1, 2] rfl ?_
      exact w3_test_105 hN C hE hK9 h
theorem w3_test_164 {Γ : Gam} {a : Nat → Nat} {s0 : Bl} {v1 : Int32} {v2 : Int32} {s9 : Bl} {K9 : Bl × Int32 × Int32 → Option Bl} (hN : Γ.nL = 5) (C : Cx Γ cX3_test RX3 (10, 0, 0) 215) (hE : Rets Γ cX3_test none 0 0 (fun v w => v = none ∧ w = (bW Γ.d 3 FK3 a s9)))
    (hK9 : ∀ s, K9 s = some s9 → (fun s : Bl × Int32 × Int32 => Go Γ 0 0 (bW Γ.d 3 FK3 a s.1) 9 [(0, .ref (a 0)), (1, .int s.2.1), (2, .int s.2.2)] []) s) (h : g3_test_164 K9 s0 v1 v2 = some s9) : Go Γ 0 0 (bW Γ.d 3 FK3 a s0) 164 [(0, .ref (a 0)), (1, .int v1), (2, .int v2)] [] := by
  dsimp only [g3_test_164] at h
  refine go_aload_n (pc := 164) C dX3_test_164 rfl 0 rfl ?_
  refine go_dup (pc := 165) C dX3_test_165 rfl ?_
  refine x3gi_32 (pc := 166) C dX3_test_166 ?_
  refine go_iconst (pc := 169) (v := (1 : Int32)) C dX3_test_169 (by decide) ?_
  refine go_iadd (pc := 170) C dX3_test_170 ?_
  refine x3pi_32 (pc := 171) C dX3_test_171 ?_
  refine go_aload_n (pc := 174) C dX3_test_174 rfl 0 rfl ?_
  refine go_dup (pc := 175) C dX3_test_175 rfl ?_
  refine x3gi_39 (pc := 176) C dX3_test_176 ?_
  refine go_iconst (pc := 179) (v := (1 : Int32)) C dX3_test_179 (by decide) ?_
  refine go_isub (pc := 180) C dX3_test_180 ?_
  refine x3pi_39 (pc := 181) C dX3_test_181 ?_
  refine go_aload_n (pc := 184) C dX3_test_184 rfl 0 rfl ?_
  refine go_dup (pc := 185) C dX3_test_185 rfl ?_
  refine x3gi_37 (pc := 186) C dX3_test_186 ?_
  refine go_iconst (pc := 189) (v := (1 : Int32)) C dX3_test_189 (by decide) ?_
  refine go_isub (pc := 190) C dX3_test_190 ?_
  refine x3pi_37 (pc := 191) C dX3_test_191 ?_
  refine go_nm (pc := 194) (fun z9 => (bW Γ.d 3 FK3 a z9)) (fun s11 es11 => ?_)
  have h := ltv_eq es11 h
  refine go_goto (pc := 194) (tgt := 199) C dX3_test_194 (by decide) ?_
  refine go_goto (pc := 199) (tgt := 9) C dX3_test_199 (by decide) ?_
  exact hK9 (s11, v1, v2) h
theorem w3_test_9 {Γ : Gam} {a : Nat → Nat} {s9 : Bl} (hN : Γ.nL = 5) (C : Cx Γ cX3_test RX3 (10, 0, 0) 215) (hE : Rets Γ cX3_test none 0 0 (fun v w => v = none ∧ w = (bW Γ.d 3 FK3 a s9))) : ∀ (n : Nat) (s : Bl × Int32 × Int32), loop (g3_test_9) n s = some s9 → (fun s : Bl × Int32 × Int32 => Go Γ 0 0 (bW Γ.d 3 FK3 a s.1) 9 [(0, .ref (a 0)), (1, .int s.2.1), (2, .int s.2.2)] []) s := by
  refine loop_walk (P := fun s : Bl × Int32 × Int32 => Go Γ 0 0 (bW Γ.d 3 FK3 a s.1) 9 [(0, .ref (a 0)), (1, .int s.2.1), (2, .int s.2.2)] []) ?_
  intro K9 hK9 s h
  obtain ⟨s0, v1, v2⟩ := s
  dsimp only [g3_test_9] at h
  show Go Γ 0 0 (bW Γ.d 3 FK3 a s0) 9 [(0, .ref (a 0)), (1, .int v1), (2, .int v2)] []
  refine go_iload_n (pc := 9) C dX3_test_9 rfl 2 rfl ?_
  refine go_if_eq (pc := 10) (tgt := 202) C dX3_test_10 (by decide) h (fun h => ?_) (fun h => ?_)
  · exact (hE 0 0 _ _ _ (Nat.zero_le _) (Nat.zero_le _)).2.2.2.1 rfl dX3_test_202 ⟨rfl, congrArg (fun z => bW Γ.d 3 FK3 a z) (some1 h)⟩
  · refine go_aload_n (pc := 13) C dX3_test_13 rfl 0 rfl ?_
    refine x3gi_33 (pc := 14) C dX3_test_14 ?_
    refine go_if_ne (pc := 17) (tgt := 202) C dX3_test_17 (by decide) h (fun h => ?_) (fun h => ?_)
    · exact (hE 0 0 _ _ _ (Nat.zero_le _) (Nat.zero_le _)).2.2.2.1 rfl dX3_test_202 ⟨rfl, congrArg (fun z => bW Γ.d 3 FK3 a z) (some1 h)⟩
    · refine go_iload_n (pc := 20) C dX3_test_20 rfl 1 rfl ?_
      refine go_if_eq (pc := 21) (tgt := 40) C dX3_test_21 (by decide) h (fun h => ?_) (fun h => ?_)
      · refine go_aload_n (pc := 40) C dX3_test_40 rfl 0 rfl ?_
        refine go_bipush (pc := 41) (v := (9 : Int32)) C dX3_test_41 (by decide) ?_
        obtain ⟨s1, e1, h⟩ := bnd_some h
        refine go_callVv (pc := 43) C [.int (9 : Int32)] (m3_answers e1) q1652 q1654 qs82 q144 q1655 x3pd_answers (by decide) (by decide) bW_O x3c rfl (Nat.le_of_ble_eq_true rfl) ⟨Nat.zero_le _, Nat.zero_le _⟩ dX3_test_43 rfl ?_
        refine go_aload_n (pc := 46) C dX3_test_46 rfl 0 rfl ?_
        obtain ⟨s2, e2, h⟩ := bnd_some h
        refine go_callVv (pc := 47) C [] (m3_blanks e2) q1515 q1517 qs58 q144 q1518 x3pd_blanks (by decide) (by decide) bW_O x3c rfl (Nat.le_of_ble_eq_true rfl) ⟨Nat.zero_le _, Nat.zero_le _⟩ dX3_test_47 rfl ?_
        refine go_aload_n (pc := 50) C dX3_test_50 rfl 0 rfl ?_
        refine go_ldcwS (pc := 51) 21 C dX3_test_51 (by decide) ?_
        obtain ⟨r3, e3, h⟩ := bnd_some h
        refine go_callVi (pc := 54) C [.ref (Γ.d.2.2.1 21)] (m3_stood e3) q1531 q1533 qs60 q144 q1534 x3pd_stood (by decide) (by decide) bW_O x3c rfl (Nat.le_of_ble_eq_true rfl) ⟨Nat.zero_le _, Nat.zero_le _⟩ dX3_test_54 rfl ?_
        refine go_istore_n (pc := 57) C hN dX3_test_57 rfl (by decide) rfl ?_
        refine go_aload_n (pc := 58) C dX3_test_58 rfl 1 rfl ?_
        refine go_ldcwS (pc := 59) 22 C dX3_test_59 (by decide) ?_
        obtain ⟨r4, e4, h⟩ := bnd_some h
        refine go_callVi (pc := 62) C [.ref (Γ.d.2.2.1 22)] (m3_stood e4) q1531 q1533 qs60 q144 q1534 x3pd_stood (by decide) (by decide) bW_O x3c rfl (Nat.le_of_ble_eq_true rfl) ⟨Nat.zero_le _, Nat.zero_le _⟩ dX3_test_62 rfl ?_
        refine go_istore (pc := 65) C hN dX3_test_65 (by decide) rfl ?_
        refine go_aload_n (pc := 67) C dX3_test_67 rfl 2 rfl ?_
        refine go_bipush (pc := 68) (v := (10 : Int32)) C dX3_test_68 (by decide) ?_
        obtain ⟨s5, e5, h⟩ := bnd_some h
        refine go_callVv (pc := 70) C [.int (10 : Int32)] (m3_answers e5) q1652 q1654 qs82 q144 q1655 x3pd_answers (by decide) (by decide) bW_O x3c rfl (Nat.le_of_ble_eq_true rfl) ⟨Nat.zero_le _, Nat.zero_le _⟩ dX3_test_70 rfl ?_
        refine go_iload_n (pc := 73) C dX3_test_73 rfl 1 rfl ?_
        refine go_if_ne (pc := 74) (tgt := 82) C dX3_test_74 (by decide) h (fun h => ?_) (fun h => ?_)
        · refine go_sub [2, 4, 1, 0] rfl ?_
          exact w3_test_82 hN C hE hK9 h
        · refine go_iload (pc := 77) C dX3_test_77 0 rfl ?_
          refine go_if_eq (pc := 79) (tgt := 131) C dX3_test_79 (by decide) h (fun h => ?_) (fun h => ?_)
          · refine go_aload_n (pc := 131) C dX3_test_131 rfl 2 rfl ?_
            refine go_bipush (pc := 132) (v := (11 : Int32)) C dX3_test_132 (by decide) ?_
            obtain ⟨s8, e8, h⟩ := bnd_some h
            refine go_callVv (pc := 134) C [.int (11 : Int32)] (m3_answers e8) q1652 q1654 qs82 q144 q1655 x3pd_answers (by decide) (by decide) bW_O x3c rfl (Nat.le_of_ble_eq_true rfl) ⟨Nat.zero_le _, Nat.zero_le _⟩ dX3_test_134 rfl ?_
            refine go_aload_n (pc := 137) C dX3_test_137 rfl 2 rfl ?_
            obtain ⟨r9, e9, h⟩ := bnd_some h
            refine go_callVi (pc := 138) C [] (m3_top e9) q1656 q1658 qs83 q144 q1659 x3pd_top (by decide) (by decide) bW_O x3c rfl (Nat.le_of_ble_eq_true rfl) ⟨Nat.zero_le _, Nat.zero_le _⟩ dX3_test_138 rfl ?_
            refine go_bipush (pc := 141) (v := (12 : Int32)) C dX3_test_141 (by decide) ?_
            refine go_icmp_ne (pc := 143) (tgt := 197) C dX3_test_143 (by decide) h (fun h => ?_) (fun h => ?_)
            · refine go_iconst (pc := 197) (v := (0 : Int32)) C dX3_test_197 (by decide) ?_
              refine go_istore_n (pc := 198) C hN dX3_test_198 rfl (by decide) rfl ?_
              refine go_goto (pc := 199) (tgt := 9) C dX3_test_199 (by decide) ?_
              refine go_sub [3, 4, 0] rfl ?_
              exact hK9 (s8, v1, (0 : Int32)) h
            · refine go_aload_n (pc := 146) C dX3_test_146 rfl 2 rfl ?_
              obtain ⟨r10, e10, h⟩ := bnd_some h
              refine go_callVi (pc := 147) C [] (m3_sign e10) q1519 q1521 qs59 q144 q1522 x3pd_sign (by decide) (by decide) bW_O x3c rfl (Nat.le_of_ble_eq_true rfl) ⟨Nat.zero_le _, Nat.zero_le _⟩ dX3_test_147 rfl ?_
              refine go_bipush (pc := 150) (v := (93 : Int32)) C dX3_test_150 (by decide) ?_
              refine go_icmp_eq (pc := 152) (tgt := 164) C dX3_test_152 (by decide) h (fun h => ?_) (fun h => ?_)
              · refine go_sub [2, 3, 4] rfl ?_
                exact w3_test_164 hN C hE hK9 h
              · refine go_aload_n (pc := 155) C dX3_test_155 rfl 2 rfl ?_
                refine go_iconst (pc := 156) (v := (0 : Int32)) C dX3_test_156 (by decide) ?_
                refine go_aload_n (pc := 157) C dX3_test_157 rfl 2 rfl ?_
                refine x3gi_32 (pc := 158) C dX3_test_158 ?_
                obtain ⟨s12, e12, h⟩ := bnd_some h
                refine go_callVv (pc := 161) C [.int (0 : Int32), .int (s8.1 32)] (m3_fails e12) q1537 q1539 qs61 q144 q1540 x3pd_fails (by decide) (by decide) bW_O x3c rfl (Nat.le_of_ble_eq_true rfl) ⟨Nat.zero_le _, Nat.zero_le _⟩ dX3_test_161 rfl ?_
                refine go_sub [2, 3, 4] rfl ?_
                exact w3_test_164 hN C hE hK9 h
          · refine go_sub [2, 4, 1, 0] rfl ?_
            exact w3_test_82 hN C hE hK9 h
      · refine go_aload_n (pc := 24) C dX3_test_24 rfl 0 rfl ?_
        obtain ⟨r13, s13, e13, h⟩ := bnd2_some h
        refine go_callVi (pc := 25) C [] (m3_fact e13) q1639 q1641 qs79 q144 q1642 x3pd_fact (by decide) (by decide) bW_O x3c rfl (Nat.le_of_ble_eq_true rfl) ⟨Nat.zero_le _, Nat.zero_le _⟩ dX3_test_25 rfl ?_
        refine go_if_ne (pc := 28) (tgt := 35) C dX3_test_28 (by decide) h (fun h => ?_) (fun h => ?_)
        · refine go_iconst (pc := 35) (v := (0 : Int32)) C dX3_test_35 (by decide) ?_
          refine go_istore_n (pc := 36) C hN dX3_test_36 rfl (by decide) rfl ?_
          refine go_goto (pc := 37) (tgt := 9) C dX3_test_37 (by decide) ?_
          refine go_sub [1, 0, 2] rfl ?_
          exact hK9 (s13, (0 : Int32), v2) h
        · refine go_iconst (pc := 31) (v := (1 : Int32)) C dX3_test_31 (by decide) ?_
          refine go_goto (pc := 32) (tgt := 36) C dX3_test_32 (by decide) ?_
          refine go_istore_n (pc := 36) C hN dX3_test_36 rfl (by decide) rfl ?_
          refine go_goto (pc := 37) (tgt := 9) C dX3_test_37 (by decide) ?_
          refine go_sub [1, 0, 2] rfl ?_
          exact hK9 (s13, (1 : Int32), v2) h
theorem m3_test {l : Launch} {d : gD} {a : Nat → Nat} {s0 : Bl} {s9 : Bl} (h : f3_test s0 = some s9) : Mt l d yX3_test cX3_test 5 none (10, 0, 0) 215 (bW d 3 FK3 a s0) [.ref (a 0)] (fun v w => v = none ∧ w = (bW d 3 FK3 a s9)) := by
  refine Mt.of x3pn (Nat.le_of_ble_eq_true rfl) ?_
  intro Γ hl hd hN C hE
  subst hl; subst hd
  show Go Γ 0 0 (bW Γ.d 3 FK3 a s0) 0 [(0, .ref (a 0))] []
  dsimp only [f3_test] at h
  refine go_aload_n (pc := 0) C dX3_test_0 rfl 0 rfl ?_
  refine go_iconst (pc := 1) (v := (0 : Int32)) C dX3_test_1 (by decide) ?_
  refine x3pi_39 (pc := 2) C dX3_test_2 ?_
  refine go_iconst (pc := 5) (v := (1 : Int32)) C dX3_test_5 (by decide) ?_
  refine go_istore_n (pc := 6) C hN dX3_test_6 rfl (by decide) rfl ?_
  refine go_iconst (pc := 7) (v := (1 : Int32)) C dX3_test_7 (by decide) ?_
  refine go_istore_n (pc := 8) C hN dX3_test_8 rfl (by decide) rfl ?_
  refine go_sub [2, 1, 0] rfl ?_
  exact w3_test_9 hN C hE FU ((bI s0 39 (0 : Int32)), (1 : Int32), (1 : Int32)) h
theorem m3_ruleClause {l : Launch} {d : gD} {a : Nat → Nat} {s0 : Bl} {v1 : Int32} {s9 : Bl} (h : f3_ruleClause s0 v1 = some s9) : Mt l d yX3_ruleClause cX3_ruleClause 4 none (11, 0, 0) 239 (bW d 3 FK3 a s0) [.ref (a 0), .int v1] (fun v w => v = none ∧ w = (bW d 3 FK3 a s9)) := by
  refine Mt.of x3pn (Nat.le_of_ble_eq_true rfl) ?_
  intro Γ hl hd hN C hE
  subst hl; subst hd
  show Go Γ 0 0 (bW Γ.d 3 FK3 a s0) 0 [(0, .ref (a 0)), (1, .int v1)] []
  dsimp only [f3_ruleClause] at h
  refine go_aload_n (pc := 0) C dX3_ruleClause_0 rfl 0 rfl ?_
  obtain ⟨s1, e1, h⟩ := bnd_some h
  refine go_callVv (pc := 1) C [] (m3_blanks e1) q1515 q1517 qs58 q144 q1518 x3pd_blanks (by decide) (by decide) bW_O x3c rfl (Nat.le_of_ble_eq_true rfl) ⟨Nat.zero_le _, Nat.zero_le _⟩ dX3_ruleClause_1 rfl ?_
  refine go_aload_n (pc := 4) C dX3_ruleClause_4 rfl 0 rfl ?_
  refine x3gi_32 (pc := 5) C dX3_ruleClause_5 ?_
  refine go_istore_n (pc := 8) C hN dX3_ruleClause_8 rfl (by decide) rfl ?_
  refine go_aload_n (pc := 9) C dX3_ruleClause_9 rfl 1 rfl ?_
  refine go_ldcwS (pc := 10) 6 C dX3_ruleClause_10 (by decide) ?_
  obtain ⟨r2, e2, h⟩ := bnd_some h
  refine go_callVi (pc := 13) C [.ref (Γ.d.2.2.1 6)] (m3_stood e2) q1531 q1533 qs60 q144 q1534 x3pd_stood (by decide) (by decide) bW_O x3c rfl (Nat.le_of_ble_eq_true rfl) ⟨Nat.zero_le _, Nat.zero_le _⟩ dX3_ruleClause_13 rfl ?_
  refine go_if_ne (pc := 16) (tgt := 26) C dX3_ruleClause_16 (by decide) h (fun h => ?_) (fun h => ?_)
  · refine go_iload_n (pc := 26) C dX3_ruleClause_26 rfl 2 rfl ?_
    refine go_bipush (pc := 27) (v := (12 : Int32)) C dX3_ruleClause_27 (by decide) ?_
    refine go_icmp_ne (pc := 29) (tgt := 39) C dX3_ruleClause_29 (by decide) h (fun h => ?_) (fun h => ?_)
    · refine go_aload_n (pc := 39) C dX3_ruleClause_39 rfl 1 rfl ?_
      refine go_dup (pc := 40) C dX3_ruleClause_40 rfl ?_
      refine x3gi_32 (pc := 41) C dX3_ruleClause_41 ?_
      refine go_iconst (pc := 44) (v := (3 : Int32)) C dX3_ruleClause_44 (by decide) ?_
      refine go_iadd (pc := 45) C dX3_ruleClause_45 ?_
      refine x3pi_32 (pc := 46) C dX3_ruleClause_46 ?_
      refine go_bipush (pc := 49) (v := (12 : Int32)) C dX3_ruleClause_49 (by decide) ?_
      refine go_aload_n (pc := 51) C dX3_ruleClause_51 rfl 1 rfl ?_
      refine x3gi_34 (pc := 52) C dX3_ruleClause_52 ?_
      refine go_imul (pc := 55) C dX3_ruleClause_55 ?_
      refine go_iload_n (pc := 56) C dX3_ruleClause_56 rfl 2 rfl ?_
      refine go_iadd (pc := 57) C dX3_ruleClause_57 ?_
      refine go_istore_n (pc := 58) C hN dX3_ruleClause_58 rfl (by decide) rfl ?_
      refine go_aload_n (pc := 59) C dX3_ruleClause_59 rfl 2 rfl ?_
      refine x3gr_45 (pc := 60) C dX3_ruleClause_60 ?_
      refine go_iload_n (pc := 63) C dX3_ruleClause_63 rfl 0 rfl ?_
      refine go_aload_n (pc := 64) C dX3_ruleClause_64 rfl 2 rfl ?_
      refine x3gi_36 (pc := 65) C dX3_ruleClause_65 ?_
      refine go_iast (pc := 68) C x3pA_45 h dX3_ruleClause_68 (fun h => ?_)
      refine go_nm (pc := 69) (fun z9 => (bW Γ.d 3 FK3 a z9)) (fun s3 es3 => ?_)
      have h := ltv_eq es3 h
      refine go_aload_n (pc := 69) C dX3_ruleClause_69 rfl 2 rfl ?_
      obtain ⟨s4, e4, h⟩ := bnd_some h
      refine go_callVv (pc := 70) C [] (m3_sum e4) q1595 q1597 qs72 q144 q1598 x3pd_sum (by decide) (by decide) bW_O x3c rfl (Nat.le_of_ble_eq_true rfl) ⟨Nat.zero_le _, Nat.zero_le _⟩ dX3_ruleClause_70 rfl ?_
      refine go_aload_n (pc := 73) C dX3_ruleClause_73 rfl 2 rfl ?_
      refine x3gr_46 (pc := 74) C dX3_ruleClause_74 ?_
      refine go_iload_n (pc := 77) C dX3_ruleClause_77 rfl 0 rfl ?_
      refine go_aload_n (pc := 78) C dX3_ruleClause_78 rfl 2 rfl ?_
      refine x3gi_36 (pc := 79) C dX3_ruleClause_79 ?_
      refine go_iast (pc := 82) C x3pA_46 h dX3_ruleClause_82 (fun h => ?_)
      refine go_aload_n (pc := 83) C dX3_ruleClause_83 rfl 2 rfl ?_
      refine x3gi_33 (pc := 84) C dX3_ruleClause_84 ?_
      refine go_if_ne (pc := 87) (tgt := 104) C dX3_ruleClause_87 (by decide) h (fun h => ?_) (fun h => ?_)
      · refine go_aload_n (pc := 104) C dX3_ruleClause_104 rfl 2 rfl ?_
        refine x3gr_47 (pc := 105) C dX3_ruleClause_105 ?_
        refine go_iload_n (pc := 108) C dX3_ruleClause_108 rfl 0 rfl ?_
        refine go_aload_n (pc := 109) C dX3_ruleClause_109 rfl 2 rfl ?_
        refine x3gi_36 (pc := 110) C dX3_ruleClause_110 ?_
        refine go_iast (pc := 113) C x3pA_47 h dX3_ruleClause_113 (fun h => ?_)
        refine go_nm (pc := 114) (fun z9 => (bW Γ.d 3 FK3 a z9)) (fun s5 es5 => ?_)
        have h := ltv_eq es5 h
        exact (hE 0 0 _ _ _ (Nat.zero_le _) (Nat.zero_le _)).2.2.2.1 rfl dX3_ruleClause_114 ⟨rfl, congrArg (fun z => bW Γ.d 3 FK3 a z) (some1 h)⟩
      · refine go_aload_n (pc := 90) C dX3_ruleClause_90 rfl 2 rfl ?_
        refine go_ldcwS (pc := 91) 19 C dX3_ruleClause_91 (by decide) ?_
        obtain ⟨r6, s6, e6, h⟩ := bnd2_some h
        refine go_callVi (pc := 94) C [.ref (Γ.d.2.2.1 19)] (m3_takes e6) q1631 q1633 qs77 q144 q1634 x3pd_takes (by decide) (by decide) bW_O x3c rfl (Nat.le_of_ble_eq_true rfl) ⟨Nat.zero_le _, Nat.zero_le _⟩ dX3_ruleClause_94 rfl ?_
        refine go_if_eq (pc := 97) (tgt := 104) C dX3_ruleClause_97 (by decide) h (fun h => ?_) (fun h => ?_)
        · refine go_aload_n (pc := 104) C dX3_ruleClause_104 rfl 2 rfl ?_
          refine x3gr_47 (pc := 105) C dX3_ruleClause_105 ?_
          refine go_iload_n (pc := 108) C dX3_ruleClause_108 rfl 0 rfl ?_
          refine go_aload_n (pc := 109) C dX3_ruleClause_109 rfl 2 rfl ?_
          refine x3gi_36 (pc := 110) C dX3_ruleClause_110 ?_
          refine go_iast (pc := 113) C x3pA_47 h dX3_ruleClause_113 (fun h => ?_)
          exact (hE 0 0 _ _ _ (Nat.zero_le _) (Nat.zero_le _)).2.2.2.1 rfl dX3_ruleClause_114 ⟨rfl, congrArg (fun z => bW Γ.d 3 FK3 a z) (some1 h)⟩
        · refine go_aload_n (pc := 100) C dX3_ruleClause_100 rfl 2 rfl ?_
          obtain ⟨s7, e7, h⟩ := bnd_some h
          refine go_callVv (pc := 101) C [] (m3_test e7) q1635 q1637 qs78 q144 q1638 x3pd_test (by decide) (by decide) bW_O x3c rfl (Nat.le_of_ble_eq_true rfl) ⟨Nat.zero_le _, Nat.zero_le _⟩ dX3_ruleClause_101 rfl ?_
          refine go_aload_n (pc := 104) C dX3_ruleClause_104 rfl 2 rfl ?_
          refine x3gr_47 (pc := 105) C dX3_ruleClause_105 ?_
          refine go_iload_n (pc := 108) C dX3_ruleClause_108 rfl 0 rfl ?_
          refine go_aload_n (pc := 109) C dX3_ruleClause_109 rfl 2 rfl ?_
          refine x3gi_36 (pc := 110) C dX3_ruleClause_110 ?_
          refine go_iast (pc := 113) C x3pA_47 h dX3_ruleClause_113 (fun h => ?_)
          exact (hE 0 0 _ _ _ (Nat.zero_le _) (Nat.zero_le _)).2.2.2.1 rfl dX3_ruleClause_114 ⟨rfl, congrArg (fun z => bW Γ.d 3 FK3 a z) (some1 h)⟩
    · refine go_aload_n (pc := 32) C dX3_ruleClause_32 rfl 1 rfl ?_
      refine go_iconst (pc := 33) (v := (4 : Int32)) C dX3_ruleClause_33 (by decide) ?_
      refine go_iload_n (pc := 34) C dX3_ruleClause_34 rfl 0 rfl ?_
      obtain ⟨s8, e8, h⟩ := bnd_some h
      refine go_callVv (pc := 35) C [.int (4 : Int32), .int (s1.1 32)] (m3_fails e8) q1537 q1539 qs61 q144 q1540 x3pd_fails (by decide) (by decide) bW_O x3c rfl (Nat.le_of_ble_eq_true rfl) ⟨Nat.zero_le _, Nat.zero_le _⟩ dX3_ruleClause_35 rfl ?_
      exact (hE 0 0 _ _ _ (Nat.zero_le _) (Nat.zero_le _)).2.2.2.1 rfl dX3_ruleClause_38 ⟨rfl, congrArg (fun z => bW Γ.d 3 FK3 a z) (some1 h)⟩
  · refine go_aload_n (pc := 19) C dX3_ruleClause_19 rfl 1 rfl ?_
    refine go_iconst (pc := 20) (v := (0 : Int32)) C dX3_ruleClause_20 (by decide) ?_
    refine go_iload_n (pc := 21) C dX3_ruleClause_21 rfl 0 rfl ?_
    obtain ⟨s9, e9, h⟩ := bnd_some h
    refine go_callVv (pc := 22) C [.int (0 : Int32), .int (s1.1 32)] (m3_fails e9) q1537 q1539 qs61 q144 q1540 x3pd_fails (by decide) (by decide) bW_O x3c rfl (Nat.le_of_ble_eq_true rfl) ⟨Nat.zero_le _, Nat.zero_le _⟩ dX3_ruleClause_22 rfl ?_
    exact (hE 0 0 _ _ _ (Nat.zero_le _) (Nat.zero_le _)).2.2.2.1 rfl dX3_ruleClause_25 ⟨rfl, congrArg (fun z => bW Γ.d 3 FK3 a z) (some1 h)⟩
theorem w3_rule_79 {Γ : Gam} {a : Nat → Nat} {s0 : Bl} {z0 : Int32} {z1 : Int32} {r9 : Int32} {s9 : Bl} (hN : Γ.nL = 3) (C : Cx Γ cX3_rule RX3 (12, 0, 0) 262) (hE : Rets Γ cX3_rule (some .int) 0 0 (fun v w => v = some (.int r9) ∧ w = (bW Γ.d 3 FK3 a s9))) (h : g3_rule_79 s0 z0 z1 = some (r9, s9)) : Go Γ 0 0 (bW Γ.d 3 FK3 a s0) 79 [(0, .ref (a 0))] [.int z0, .int z1, .ref (a 0)] := by
  dsimp only [g3_rule_79] at h
  refine go_iadd (pc := 79) C dX3_rule_79 ?_
  refine x3pi_35 (pc := 80) C dX3_rule_80 ?_
  refine go_aload_n (pc := 83) C dX3_rule_83 rfl 0 rfl ?_
  refine x3gi_33 (pc := 84) C dX3_rule_84 ?_
  refine go_if_le (pc := 87) (tgt := 100) C dX3_rule_87 (by decide) h (fun h => ?_) (fun h => ?_)
  · refine go_aload_n (pc := 100) C dX3_rule_100 rfl 0 rfl ?_
    refine x3gi_35 (pc := 101) C dX3_rule_101 ?_
    refine go_iconst (pc := 104) (v := (1 : Int32)) C dX3_rule_104 (by decide) ?_
    refine go_isub (pc := 105) C dX3_rule_105 ?_
    exact (hE 0 0 _ _ _ (Nat.zero_le _) (Nat.zero_le _)).1 _ rfl dX3_rule_106 ⟨congrArg (fun z => some (Value.int z)) (some2 h).1, congrArg (fun z => bW Γ.d 3 FK3 a z) (some2 h).2⟩
  · refine go_bipush (pc := 90) (v := (-2 : Int32)) C dX3_rule_90 (by decide) ?_
    refine go_aload_n (pc := 92) C dX3_rule_92 rfl 0 rfl ?_
    refine x3gi_33 (pc := 93) C dX3_rule_93 ?_
    refine go_isub (pc := 96) C dX3_rule_96 ?_
    refine go_goto (pc := 97) (tgt := 106) C dX3_rule_97 (by decide) ?_
    exact (hE 0 0 _ _ _ (Nat.zero_le _) (Nat.zero_le _)).1 _ rfl dX3_rule_106 ⟨congrArg (fun z => some (Value.int z)) (some2 h).1, congrArg (fun z => bW Γ.d 3 FK3 a z) (some2 h).2⟩
theorem w3_rule_27 {Γ : Gam} {a : Nat → Nat} {r9 : Int32} {s9 : Bl} (hN : Γ.nL = 3) (C : Cx Γ cX3_rule RX3 (12, 0, 0) 262) (hE : Rets Γ cX3_rule (some .int) 0 0 (fun v w => v = some (.int r9) ∧ w = (bW Γ.d 3 FK3 a s9))) : ∀ (n : Nat) (s : Bl × Int32 × Int32), loop (g3_rule_27) n s = some (r9, s9) → (fun s : Bl × Int32 × Int32 => Go Γ 0 0 (bW Γ.d 3 FK3 a s.1) 27 [(0, .ref (a 0)), (1, .int s.2.1), (2, .int s.2.2)] []) s := by
  refine loop_walk (P := fun s : Bl × Int32 × Int32 => Go Γ 0 0 (bW Γ.d 3 FK3 a s.1) 27 [(0, .ref (a 0)), (1, .int s.2.1), (2, .int s.2.2)] []) ?_
  intro K27 hK27 s h
  obtain ⟨s0, v1, v2⟩ := s
  dsimp only [g3_rule_27] at h
  show Go Γ 0 0 (bW Γ.d 3 FK3 a s0) 27 [(0, .ref (a 0)), (1, .int v1), (2, .int v2)] []
  refine go_iload_n (pc := 27) C dX3_rule_27 rfl 2 rfl ?_
  refine go_if_eq (pc := 28) (tgt := 47) C dX3_rule_28 (by decide) h (fun h => ?_) (fun h => ?_)
  · refine go_aload_n (pc := 47) C dX3_rule_47 rfl 0 rfl ?_
    refine go_iconst (pc := 48) (v := (0 : Int32)) C dX3_rule_48 (by decide) ?_
    refine x3pi_31 (pc := 49) C dX3_rule_49 ?_
    refine go_aload_n (pc := 52) C dX3_rule_52 rfl 0 rfl ?_
    refine x3gr_44 (pc := 53) C dX3_rule_53 ?_
    refine go_aload_n (pc := 56) C dX3_rule_56 rfl 0 rfl ?_
    refine x3gi_34 (pc := 57) C dX3_rule_57 ?_
    refine go_iload_n (pc := 60) C dX3_rule_60 rfl 1 rfl ?_
    refine go_iast (pc := 61) C x3pA_44 h dX3_rule_61 (fun h => ?_)
    refine go_aload_n (pc := 62) C dX3_rule_62 rfl 0 rfl ?_
    refine go_dup (pc := 63) C dX3_rule_63 rfl ?_
    refine x3gi_35 (pc := 64) C dX3_rule_64 ?_
    refine go_aload_n (pc := 67) C dX3_rule_67 rfl 0 rfl ?_
    refine x3gi_33 (pc := 68) C dX3_rule_68 ?_
    refine go_if_ne (pc := 71) (tgt := 78) C dX3_rule_71 (by decide) h (fun h => ?_) (fun h => ?_)
    · refine go_iconst (pc := 78) (v := (0 : Int32)) C dX3_rule_78 (by decide) ?_
      refine go_sub [0] rfl ?_
      exact w3_rule_79 hN C hE h
    · refine go_iconst (pc := 74) (v := (1 : Int32)) C dX3_rule_74 (by decide) ?_
      refine go_goto (pc := 75) (tgt := 79) C dX3_rule_75 (by decide) ?_
      refine go_sub [0] rfl ?_
      exact w3_rule_79 hN C hE h
  · refine go_aload_n (pc := 31) C dX3_rule_31 rfl 0 rfl ?_
    refine go_iload_n (pc := 32) C dX3_rule_32 rfl 1 rfl ?_
    obtain ⟨s2, e2, h⟩ := bnd_some h
    refine go_callVv (pc := 33) C [.int v1] (m3_ruleClause e2) q1590 q1592 qs71 q144 q1593 x3pd_ruleClause (by decide) (by decide) bW_O x3c rfl (Nat.le_of_ble_eq_true rfl) ⟨Nat.zero_le _, Nat.zero_le _⟩ dX3_rule_33 rfl ?_
    refine go_iinc (pc := 36) (v := (v1 + (1 : Int32))) C hN dX3_rule_36 (q := 1) rfl rfl (by decide) rfl ?_
    refine go_aload_n (pc := 39) C dX3_rule_39 rfl 1 rfl ?_
    obtain ⟨r3, s3, e3, h⟩ := bnd2_some h
    refine go_callVi (pc := 40) C [] (m3_goesOn e3) q1579 q1581 qs70 q144 q1582 x3pd_goesOn (by decide) (by decide) bW_O x3c rfl (Nat.le_of_ble_eq_true rfl) ⟨Nat.zero_le _, Nat.zero_le _⟩ dX3_rule_40 rfl ?_
    refine go_istore_n (pc := 43) C hN dX3_rule_43 rfl (by decide) rfl ?_
    refine go_goto (pc := 44) (tgt := 27) C dX3_rule_44 (by decide) ?_
    refine go_sub [2, 1, 0] rfl ?_
    exact hK27 (s3, (v1 + (1 : Int32)), r3) h
theorem m3_rule {l : Launch} {d : gD} {a : Nat → Nat} {s0 : Bl} {r9 : Int32} {s9 : Bl} (h : f3_rule s0 = some (r9, s9)) : Mt l d yX3_rule cX3_rule 3 (some .int) (12, 0, 0) 262 (bW d 3 FK3 a s0) [.ref (a 0)] (fun v w => v = some (.int r9) ∧ w = (bW d 3 FK3 a s9)) := by
  refine Mt.of x3pn (Nat.le_of_ble_eq_true rfl) ?_
  intro Γ hl hd hN C hE
  subst hl; subst hd
  show Go Γ 0 0 (bW Γ.d 3 FK3 a s0) 0 [(0, .ref (a 0))] []
  dsimp only [f3_rule] at h
  refine go_aload_n (pc := 0) C dX3_rule_0 rfl 0 rfl ?_
  refine x3gi_35 (pc := 1) C dX3_rule_1 ?_
  refine go_bipush (pc := 4) (v := (6 : Int32)) C dX3_rule_4 (by decide) ?_
  refine go_icmp_ne (pc := 6) (tgt := 11) C dX3_rule_6 (by decide) h (fun h => ?_) (fun h => ?_)
  · refine go_aload_n (pc := 11) C dX3_rule_11 rfl 0 rfl ?_
    refine go_aload_n (pc := 12) C dX3_rule_12 rfl 0 rfl ?_
    refine x3gi_35 (pc := 13) C dX3_rule_13 ?_
    refine x3pi_34 (pc := 16) C dX3_rule_16 ?_
    refine go_aload_n (pc := 19) C dX3_rule_19 rfl 0 rfl ?_
    obtain ⟨s1, e1, h⟩ := bnd_some h
    refine go_callVv (pc := 20) C [] (m3_starts e1) q1507 q1509 qs56 q144 q1510 x3pd_starts (by decide) (by decide) bW_O x3c rfl (Nat.le_of_ble_eq_true rfl) ⟨Nat.zero_le _, Nat.zero_le _⟩ dX3_rule_20 rfl ?_
    refine go_iconst (pc := 23) (v := (0 : Int32)) C dX3_rule_23 (by decide) ?_
    refine go_istore_n (pc := 24) C hN dX3_rule_24 rfl (by decide) rfl ?_
    refine go_iconst (pc := 25) (v := (1 : Int32)) C dX3_rule_25 (by decide) ?_
    refine go_istore_n (pc := 26) C hN dX3_rule_26 rfl (by decide) rfl ?_
    refine go_sub [2, 1, 0] rfl ?_
    exact w3_rule_27 hN C hE FU (s1, (0 : Int32), (1 : Int32)) h
  · refine go_iconst (pc := 9) (v := (-1 : Int32)) C dX3_rule_9 (by decide) ?_
    exact (hE 0 0 _ _ _ (Nat.zero_le _) (Nat.zero_le _)).1 _ rfl dX3_rule_10 ⟨congrArg (fun z => some (Value.int z)) (some2 h).1, congrArg (fun z => bW Γ.d 3 FK3 a z) (some2 h).2⟩
theorem m3_isRule {l : Launch} {d : gD} {a : Nat → Nat} {s0 : Bl} {v1 : Int32} {r9 : Int32} (h : f3_isRule s0 v1 = some r9) : Mt l d yX3_isRule cX3_isRule 2 (some .boolean) (1, 0, 0) 25 (bW d 3 FK3 a s0) [.ref (a 0), .int v1] (fun v w => v = some (.int r9) ∧ w = (bW d 3 FK3 a s0)) := by
  refine Mt.of x3pn (Nat.le_of_ble_eq_true rfl) ?_
  intro Γ hl hd hN C hE
  subst hl; subst hd
  show Go Γ 0 0 (bW Γ.d 3 FK3 a s0) 0 [(0, .ref (a 0)), (1, .int v1)] []
  dsimp only [f3_isRule] at h
  refine go_iload_n (pc := 0) C dX3_isRule_0 rfl 1 rfl ?_
  refine go_i2l (pc := 1) C dX3_isRule_1 ?_
  refine go_lconst (pc := 2) (v := (0 : Int64)) C dX3_isRule_2 (by decide) ?_
  refine go_aload_n (pc := 3) C dX3_isRule_3 rfl 0 rfl ?_
  refine x3gi_35 (pc := 4) C dX3_isRule_4 ?_
  refine go_iconst (pc := 7) (v := (1 : Int32)) C dX3_isRule_7 (by decide) ?_
  refine go_isub (pc := 8) C dX3_isRule_8 ?_
  refine go_i2l (pc := 9) C dX3_isRule_9 ?_
  obtain ⟨r1, e1, h⟩ := bnd_some h
  refine go_callSi (pc := 10) C [.long (v1).toInt64, .long (0 : Int64), .long (((s0.1 35) - (1 : Int32))).toInt64] (m3_in e1) q1564 q1565 q144 q1566 x3pd_in (by decide) (by decide) rfl (Nat.le_of_ble_eq_true rfl) ⟨Nat.zero_le _, Nat.zero_le _⟩ dX3_isRule_10 rfl ?_
  obtain ⟨hz, h⟩ := chk_some h
  exact (hE 0 0 _ _ _ (Nat.zero_le _) (Nat.zero_le _)).2.1 _ rfl (isB_or hz) dX3_isRule_13 ⟨congrArg (fun z => some (Value.int z)) (some1 h), rfl⟩
theorem w3_asks_199 {Γ : Gam} {a : Nat → Nat} {s0 : Bl} {v1 : Int32} {v2 : Int32} {v3 : Int32} {z0 : Int64} {s9 : Bl} (hN : Γ.nL = 5) (C : Cx Γ cX3_asks RX3 (3, 0, 0) 70) (hE : Rets Γ cX3_asks none 0 0 (fun v w => v = none ∧ w = (bW Γ.d 3 FK3 a s9))) (h : g3_asks_199 s0 v1 v2 v3 z0 = some s9) : Go Γ 0 0 (bW Γ.d 3 FK3 a s0) 199 [(0, .ref (a 0)), (1, .int v1), (2, .int v2), (3, .int v3)] [.long z0, .int (6 : Int32), .ref (a (49 + 1))] := by
  dsimp only [g3_asks_199] at h
  refine go_lastK (pc := 199) (j := 6) C x3pA_49 (by decide) (by decide) dX3_asks_199 ?_
  refine go_aload_n (pc := 200) C dX3_asks_200 rfl 0 rfl ?_
  refine x3gr_49 (pc := 201) C dX3_asks_201 ?_
  refine go_bipush (pc := 204) (v := (7 : Int32)) C dX3_asks_204 (by decide) ?_
  refine go_iload_n (pc := 206) C dX3_asks_206 rfl 3 rfl ?_
  refine go_i2l (pc := 207) C dX3_asks_207 ?_
  refine go_lastK (pc := 208) (j := 7) C x3pA_49 (by decide) (by decide) dX3_asks_208 ?_
  refine go_aload_n (pc := 209) C dX3_asks_209 rfl 0 rfl ?_
  refine x3gr_49 (pc := 210) C dX3_asks_210 ?_
  refine go_bipush (pc := 213) (v := (8 : Int32)) C dX3_asks_213 (by decide) ?_
  refine go_aload_n (pc := 215) C dX3_asks_215 rfl 0 rfl ?_
  refine x3gr_1 (pc := 216) C dX3_asks_216 ?_
  refine go_iconst (pc := 219) (v := (1 : Int32)) C dX3_asks_219 (by decide) ?_
  refine go_ialdK (pc := 220) (j := 1) C x3aA_1 (by decide) (by decide) dX3_asks_220 ?_
  refine go_i2l (pc := 221) C dX3_asks_221 ?_
  refine go_lastK (pc := 222) (j := 8) C x3pA_49 (by decide) (by decide) dX3_asks_222 ?_
  refine go_aload_n (pc := 223) C dX3_asks_223 rfl 0 rfl ?_
  refine x3gr_49 (pc := 224) C dX3_asks_224 ?_
  refine go_bipush (pc := 227) (v := (9 : Int32)) C dX3_asks_227 (by decide) ?_
  refine go_aload_n (pc := 229) C dX3_asks_229 rfl 0 rfl ?_
  refine x3gr_1 (pc := 230) C dX3_asks_230 ?_
  refine go_bipush (pc := 233) (v := (6 : Int32)) C dX3_asks_233 (by decide) ?_
  refine go_ialdK (pc := 235) (j := 6) C x3aA_1 (by decide) (by decide) dX3_asks_235 ?_
  refine go_i2l (pc := 236) C dX3_asks_236 ?_
  refine go_lastK (pc := 237) (j := 9) C x3pA_49 (by decide) (by decide) dX3_asks_237 ?_
  refine go_nm (pc := 238) (fun z9 => (bW Γ.d 3 FK3 a z9)) (fun s5 es5 => ?_)
  have h := ltv_eq es5 h
  refine go_aload_n (pc := 238) C dX3_asks_238 rfl 0 rfl ?_
  refine x3gr_49 (pc := 239) C dX3_asks_239 ?_
  refine go_bipush (pc := 242) (v := (10 : Int32)) C dX3_asks_242 (by decide) ?_
  refine go_aload_n (pc := 244) C dX3_asks_244 rfl 0 rfl ?_
  refine x3gr_2 (pc := 245) C dX3_asks_245 ?_
  refine go_aload_n (pc := 248) C dX3_asks_248 rfl 0 rfl ?_
  refine x3gr_5 (pc := 249) C dX3_asks_249 ?_
  refine go_iload_n (pc := 252) C dX3_asks_252 rfl 1 rfl ?_
  refine go_iald (pc := 253) C x3aA_5 h dX3_asks_253 (fun h => ?_)
  refine go_iald (pc := 254) C x3aA_2 h dX3_asks_254 (fun h => ?_)
  refine go_aload_n (pc := 255) C dX3_asks_255 rfl 0 rfl ?_
  refine x3gr_2 (pc := 256) C dX3_asks_256 ?_
  refine go_aload_n (pc := 259) C dX3_asks_259 rfl 0 rfl ?_
  refine x3gr_5 (pc := 260) C dX3_asks_260 ?_
  refine go_iload_n (pc := 263) C dX3_asks_263 rfl 2 rfl ?_
  refine go_iald (pc := 264) C x3aA_5 h dX3_asks_264 (fun h => ?_)
  refine go_iald (pc := 265) C x3aA_2 h dX3_asks_265 (fun h => ?_)
  refine go_icmp_ge (pc := 266) (tgt := 284) C dX3_asks_266 (by decide) h (fun h => ?_) (fun h => ?_)
  · refine go_aload_n (pc := 284) C dX3_asks_284 rfl 0 rfl ?_
    refine x3gr_2 (pc := 285) C dX3_asks_285 ?_
    refine go_aload_n (pc := 288) C dX3_asks_288 rfl 0 rfl ?_
    refine x3gr_5 (pc := 289) C dX3_asks_289 ?_
    refine go_iload_n (pc := 292) C dX3_asks_292 rfl 2 rfl ?_
    refine go_iald (pc := 293) C x3aA_5 h dX3_asks_293 (fun h => ?_)
    refine go_iald (pc := 294) C x3aA_2 h dX3_asks_294 (fun h => ?_)
    refine go_i2l (pc := 295) C dX3_asks_295 ?_
    refine go_lastK (pc := 296) (j := 10) C x3pA_49 (by decide) (by decide) dX3_asks_296 ?_
    refine go_aload_n (pc := 297) C dX3_asks_297 rfl 0 rfl ?_
    refine x3gr_49 (pc := 298) C dX3_asks_298 ?_
    refine go_bipush (pc := 301) (v := (11 : Int32)) C dX3_asks_301 (by decide) ?_
    refine go_aload_n (pc := 303) C dX3_asks_303 rfl 0 rfl ?_
    obtain ⟨r6, e6, h⟩ := bnd_some h
    refine go_callVi (pc := 304) C [] (m3_afloat e6) q1678 q1680 qs87 q144 q1681 x3pd_afloat (by decide) (by decide) bW_O x3c rfl (Nat.le_of_ble_eq_true rfl) ⟨Nat.zero_le _, Nat.zero_le _⟩ dX3_asks_304 rfl ?_
    obtain ⟨r7, e7, h⟩ := bnd_some h
    refine go_callSi (pc := 307) C [.int r6] (m3_bits e7) q1796 q1797 q144 q1798 x3pd_bits (by decide) (by decide) rfl (Nat.le_of_ble_eq_true rfl) ⟨Nat.zero_le _, Nat.zero_le _⟩ dX3_asks_307 rfl ?_
    refine go_i2l (pc := 310) C dX3_asks_310 ?_
    refine go_lastK (pc := 311) (j := 11) C x3pA_49 (by decide) (by decide) dX3_asks_311 ?_
    exact (hE 0 0 _ _ _ (Nat.zero_le _) (Nat.zero_le _)).2.2.2.1 rfl dX3_asks_312 ⟨rfl, congrArg (fun z => bW Γ.d 3 FK3 a z) (some1 h)⟩
  · refine go_aload_n (pc := 269) C dX3_asks_269 rfl 0 rfl ?_
    refine x3gr_2 (pc := 270) C dX3_asks_270 ?_
    refine go_aload_n (pc := 273) C dX3_asks_273 rfl 0 rfl ?_
    refine x3gr_5 (pc := 274) C dX3_asks_274 ?_
    refine go_iload_n (pc := 277) C dX3_asks_277 rfl 1 rfl ?_
    refine go_iald (pc := 278) C x3aA_5 h dX3_asks_278 (fun h => ?_)
    refine go_iald (pc := 279) C x3aA_2 h dX3_asks_279 (fun h => ?_)
    refine go_i2l (pc := 280) C dX3_asks_280 ?_
    refine go_goto (pc := 281) (tgt := 296) C dX3_asks_281 (by decide) ?_
    refine go_lastK (pc := 296) (j := 10) C x3pA_49 (by decide) (by decide) dX3_asks_296 ?_
    refine go_aload_n (pc := 297) C dX3_asks_297 rfl 0 rfl ?_
    refine x3gr_49 (pc := 298) C dX3_asks_298 ?_
    refine go_bipush (pc := 301) (v := (11 : Int32)) C dX3_asks_301 (by decide) ?_
    refine go_aload_n (pc := 303) C dX3_asks_303 rfl 0 rfl ?_
    obtain ⟨r8, e8, h⟩ := bnd_some h
    refine go_callVi (pc := 304) C [] (m3_afloat e8) q1678 q1680 qs87 q144 q1681 x3pd_afloat (by decide) (by decide) bW_O x3c rfl (Nat.le_of_ble_eq_true rfl) ⟨Nat.zero_le _, Nat.zero_le _⟩ dX3_asks_304 rfl ?_
    obtain ⟨r9, e9, h⟩ := bnd_some h
    refine go_callSi (pc := 307) C [.int r8] (m3_bits e9) q1796 q1797 q144 q1798 x3pd_bits (by decide) (by decide) rfl (Nat.le_of_ble_eq_true rfl) ⟨Nat.zero_le _, Nat.zero_le _⟩ dX3_asks_307 rfl ?_
    refine go_i2l (pc := 310) C dX3_asks_310 ?_
    refine go_lastK (pc := 311) (j := 11) C x3pA_49 (by decide) (by decide) dX3_asks_311 ?_
    exact (hE 0 0 _ _ _ (Nat.zero_le _) (Nat.zero_le _)).2.2.2.1 rfl dX3_asks_312 ⟨rfl, congrArg (fun z => bW Γ.d 3 FK3 a z) (some1 h)⟩
theorem w3_asks_175 {Γ : Gam} {a : Nat → Nat} {s0 : Bl} {v1 : Int32} {v2 : Int32} {v3 : Int32} {z0 : Int64} {s9 : Bl} (hN : Γ.nL = 5) (C : Cx Γ cX3_asks RX3 (3, 0, 0) 70) (hE : Rets Γ cX3_asks none 0 0 (fun v w => v = none ∧ w = (bW Γ.d 3 FK3 a s9))) (h : g3_asks_175 s0 v1 v2 v3 z0 = some s9) : Go Γ 0 0 (bW Γ.d 3 FK3 a s0) 175 [(0, .ref (a 0)), (1, .int v1), (2, .int v2), (3, .int v3)] [.long z0, .int (5 : Int32), .ref (a (49 + 1))] := by
  dsimp only [g3_asks_175] at h
  refine go_lastK (pc := 175) (j := 5) C x3pA_49 (by decide) (by decide) dX3_asks_175 ?_
  refine go_aload_n (pc := 176) C dX3_asks_176 rfl 0 rfl ?_
  refine x3gr_49 (pc := 177) C dX3_asks_177 ?_
  refine go_bipush (pc := 180) (v := (6 : Int32)) C dX3_asks_180 (by decide) ?_
  refine go_aload_n (pc := 182) C dX3_asks_182 rfl 0 rfl ?_
  refine go_iload_n (pc := 183) C dX3_asks_183 rfl 1 rfl ?_
  obtain ⟨r3, e3, h⟩ := bnd_some h
  refine go_callVi (pc := 184) C [.int v1] (m3_pieceOf e3) q1700 q1702 qs90 q144 q1703 x3pd_pieceOf (by decide) (by decide) bW_O x3c rfl (Nat.le_of_ble_eq_true rfl) ⟨Nat.zero_le _, Nat.zero_le _⟩ dX3_asks_184 rfl ?_
  refine go_iload_n (pc := 187) C dX3_asks_187 rfl 2 rfl ?_
  obtain ⟨r4, e4, h⟩ := bnd_some h
  refine go_callSi (pc := 188) C [.int r3, .int v2] (m3_has e4) q1682 q1683 q144 q1684 x3pd_has (by decide) (by decide) rfl (Nat.le_of_ble_eq_true rfl) ⟨Nat.zero_le _, Nat.zero_le _⟩ dX3_asks_188 rfl ?_
  refine go_if_eq (pc := 191) (tgt := 198) C dX3_asks_191 (by decide) h (fun h => ?_) (fun h => ?_)
  · refine go_lconst (pc := 198) (v := (1 : Int64)) C dX3_asks_198 (by decide) ?_
    exact w3_asks_199 hN C hE h
  · refine go_lconst (pc := 194) (v := (0 : Int64)) C dX3_asks_194 (by decide) ?_
    refine go_goto (pc := 195) (tgt := 199) C dX3_asks_195 (by decide) ?_
    exact w3_asks_199 hN C hE h
theorem w3_asks_61 {Γ : Gam} {a : Nat → Nat} {s0 : Bl} {v1 : Int32} {v2 : Int32} {v4 : Int32} {z0 : Int32} {s9 : Bl} {K5 : Int32 × Int32 → Option Bl} (hN : Γ.nL = 5) (C : Cx Γ cX3_asks RX3 (3, 0, 0) 70) (hE : Rets Γ cX3_asks none 0 0 (fun v w => v = none ∧ w = (bW Γ.d 3 FK3 a s9)))
    (hK5 : ∀ s, K5 s = some s9 → (fun s : Int32 × Int32 => Go Γ 0 0 (bW Γ.d 3 FK3 a s0) 5 [(0, .ref (a 0)), (1, .int v1), (2, .int v2), (3, .int s.1), (4, .int s.2)] []) s) (h : g3_asks_61 K5 s0 v1 v2 v4 z0 = some s9) : Go Γ 0 0 (bW Γ.d 3 FK3 a s0) 61 [(0, .ref (a 0)), (1, .int v1), (2, .int v2), (4, .int v4)] [.int z0] := by
  dsimp only [g3_asks_61] at h
  refine go_iconst (pc := 61) (v := (1 : Int32)) C dX3_asks_61 (by decide) ?_
  refine go_goto (pc := 62) (tgt := 66) C dX3_asks_62 (by decide) ?_
  refine go_iadd (pc := 66) C dX3_asks_66 ?_
  refine go_istore_n (pc := 67) C hN dX3_asks_67 rfl (by decide) rfl ?_
  refine go_iinc (pc := 68) (v := (v4 + (1 : Int32))) C hN dX3_asks_68 (q := 4) rfl rfl (by decide) rfl ?_
  refine go_goto (pc := 71) (tgt := 5) C dX3_asks_71 (by decide) ?_
  refine go_sub [2, 3, 4, 1, 0] rfl ?_
  exact hK5 ((z0 + (1 : Int32)), (v4 + (1 : Int32))) h
theorem w3_asks_5 {Γ : Gam} {a : Nat → Nat} {s0 : Bl} {v1 : Int32} {v2 : Int32} {s9 : Bl} (hN : Γ.nL = 5) (C : Cx Γ cX3_asks RX3 (3, 0, 0) 70) (hE : Rets Γ cX3_asks none 0 0 (fun v w => v = none ∧ w = (bW Γ.d 3 FK3 a s9))) : ∀ (n : Nat) (s : Int32 × Int32), loop (g3_asks_5 s0 v1 v2) n s = some s9 → (fun s : Int32 × Int32 => Go Γ 0 0 (bW Γ.d 3 FK3 a s0) 5 [(0, .ref (a 0)), (1, .int v1), (2, .int v2), (3, .int s.1), (4, .int s.2)] []) s := by
  refine loop_walk (P := fun s : Int32 × Int32 => Go Γ 0 0 (bW Γ.d 3 FK3 a s0) 5 [(0, .ref (a 0)), (1, .int v1), (2, .int v2), (3, .int s.1), (4, .int s.2)] []) ?_
  intro K5 hK5 s h
  obtain ⟨v3, v4⟩ := s
  dsimp only [g3_asks_5] at h
  show Go Γ 0 0 (bW Γ.d 3 FK3 a s0) 5 [(0, .ref (a 0)), (1, .int v1), (2, .int v2), (3, .int v3), (4, .int v4)] []
  refine go_iload (pc := 5) C dX3_asks_5 4 rfl ?_
  refine go_aload_n (pc := 7) C dX3_asks_7 rfl 0 rfl ?_
  refine x3gr_1 (pc := 8) C dX3_asks_8 ?_
  refine go_iconst (pc := 11) (v := (4 : Int32)) C dX3_asks_11 (by decide) ?_
  refine go_ialdK (pc := 12) (j := 4) C x3aA_1 (by decide) (by decide) dX3_asks_12 ?_
  refine go_icmp_ge (pc := 13) (tgt := 74) C dX3_asks_13 (by decide) h (fun h => ?_) (fun h => ?_)
  · refine go_aload_n (pc := 74) C dX3_asks_74 rfl 0 rfl ?_
    refine x3gr_49 (pc := 75) C dX3_asks_75 ?_
    refine go_iconst (pc := 78) (v := (0 : Int32)) C dX3_asks_78 (by decide) ?_
    refine go_iload_n (pc := 79) C dX3_asks_79 rfl 1 rfl ?_
    refine go_i2l (pc := 80) C dX3_asks_80 ?_
    refine go_lastK (pc := 81) (j := 0) C x3pA_49 (by decide) (by decide) dX3_asks_81 ?_
    refine go_aload_n (pc := 82) C dX3_asks_82 rfl 0 rfl ?_
    refine x3gr_49 (pc := 83) C dX3_asks_83 ?_
    refine go_iconst (pc := 86) (v := (1 : Int32)) C dX3_asks_86 (by decide) ?_
    refine go_iload_n (pc := 87) C dX3_asks_87 rfl 2 rfl ?_
    refine go_i2l (pc := 88) C dX3_asks_88 ?_
    refine go_lastK (pc := 89) (j := 1) C x3pA_49 (by decide) (by decide) dX3_asks_89 ?_
    refine go_aload_n (pc := 90) C dX3_asks_90 rfl 0 rfl ?_
    refine x3gr_49 (pc := 91) C dX3_asks_91 ?_
    refine go_iconst (pc := 94) (v := (2 : Int32)) C dX3_asks_94 (by decide) ?_
    refine go_aload_n (pc := 95) C dX3_asks_95 rfl 0 rfl ?_
    refine x3gr_7 (pc := 96) C dX3_asks_96 ?_
    refine go_iload_n (pc := 99) C dX3_asks_99 rfl 1 rfl ?_
    refine go_iald (pc := 100) C x3aA_7 h dX3_asks_100 (fun h => ?_)
    refine go_aload_n (pc := 101) C dX3_asks_101 rfl 0 rfl ?_
    refine x3gr_7 (pc := 102) C dX3_asks_102 ?_
    refine go_iload_n (pc := 105) C dX3_asks_105 rfl 2 rfl ?_
    refine go_iald (pc := 106) C x3aA_7 h dX3_asks_106 (fun h => ?_)
    refine go_iadd (pc := 107) C dX3_asks_107 ?_
    refine go_i2l (pc := 108) C dX3_asks_108 ?_
    refine go_lastK (pc := 109) (j := 2) C x3pA_49 (by decide) (by decide) dX3_asks_109 ?_
    refine go_nm (pc := 110) (fun z9 => (bW Γ.d 3 FK3 a z9)) (fun s1 es1 => ?_)
    have h := ltv_eq es1 h
    refine go_aload_n (pc := 110) C dX3_asks_110 rfl 0 rfl ?_
    refine x3gr_49 (pc := 111) C dX3_asks_111 ?_
    refine go_iconst (pc := 114) (v := (3 : Int32)) C dX3_asks_114 (by decide) ?_
    refine go_aload_n (pc := 115) C dX3_asks_115 rfl 0 rfl ?_
    refine x3gr_6 (pc := 116) C dX3_asks_116 ?_
    refine go_iload_n (pc := 119) C dX3_asks_119 rfl 1 rfl ?_
    refine go_iald (pc := 120) C x3aA_6 h dX3_asks_120 (fun h => ?_)
    refine go_aload_n (pc := 121) C dX3_asks_121 rfl 0 rfl ?_
    refine x3gr_6 (pc := 122) C dX3_asks_122 ?_
    refine go_iload_n (pc := 125) C dX3_asks_125 rfl 2 rfl ?_
    refine go_iald (pc := 126) C x3aA_6 h dX3_asks_126 (fun h => ?_)
    refine go_iadd (pc := 127) C dX3_asks_127 ?_
    refine go_i2l (pc := 128) C dX3_asks_128 ?_
    refine go_lastK (pc := 129) (j := 3) C x3pA_49 (by decide) (by decide) dX3_asks_129 ?_
    refine go_aload_n (pc := 130) C dX3_asks_130 rfl 0 rfl ?_
    refine x3gr_49 (pc := 131) C dX3_asks_131 ?_
    refine go_iconst (pc := 134) (v := (4 : Int32)) C dX3_asks_134 (by decide) ?_
    refine go_aload_n (pc := 135) C dX3_asks_135 rfl 0 rfl ?_
    refine x3gr_8 (pc := 136) C dX3_asks_136 ?_
    refine go_iload_n (pc := 139) C dX3_asks_139 rfl 1 rfl ?_
    refine go_iald (pc := 140) C x3aA_8 h dX3_asks_140 (fun h => ?_)
    refine go_aload_n (pc := 141) C dX3_asks_141 rfl 0 rfl ?_
    refine x3gr_8 (pc := 142) C dX3_asks_142 ?_
    refine go_iload_n (pc := 145) C dX3_asks_145 rfl 2 rfl ?_
    refine go_iald (pc := 146) C x3aA_8 h dX3_asks_146 (fun h => ?_)
    refine go_iadd (pc := 147) C dX3_asks_147 ?_
    refine go_i2l (pc := 148) C dX3_asks_148 ?_
    refine go_lastK (pc := 149) (j := 4) C x3pA_49 (by decide) (by decide) dX3_asks_149 ?_
    refine go_nm (pc := 150) (fun z9 => (bW Γ.d 3 FK3 a z9)) (fun s2 es2 => ?_)
    have h := ltv_eq es2 h
    refine go_aload_n (pc := 150) C dX3_asks_150 rfl 0 rfl ?_
    refine x3gr_49 (pc := 151) C dX3_asks_151 ?_
    refine go_iconst (pc := 154) (v := (5 : Int32)) C dX3_asks_154 (by decide) ?_
    refine go_aload_n (pc := 155) C dX3_asks_155 rfl 0 rfl ?_
    refine x3gr_5 (pc := 156) C dX3_asks_156 ?_
    refine go_iload_n (pc := 159) C dX3_asks_159 rfl 1 rfl ?_
    refine go_iald (pc := 160) C x3aA_5 h dX3_asks_160 (fun h => ?_)
    refine go_aload_n (pc := 161) C dX3_asks_161 rfl 0 rfl ?_
    refine x3gr_5 (pc := 162) C dX3_asks_162 ?_
    refine go_iload_n (pc := 165) C dX3_asks_165 rfl 2 rfl ?_
    refine go_iald (pc := 166) C x3aA_5 h dX3_asks_166 (fun h => ?_)
    refine go_icmp_ne (pc := 167) (tgt := 174) C dX3_asks_167 (by decide) h (fun h => ?_) (fun h => ?_)
    · refine go_lconst (pc := 174) (v := (0 : Int64)) C dX3_asks_174 (by decide) ?_
      refine go_sub [0, 1, 2, 3] rfl ?_
      exact w3_asks_175 hN C hE h
    · refine go_lconst (pc := 170) (v := (1 : Int64)) C dX3_asks_170 (by decide) ?_
      refine go_goto (pc := 171) (tgt := 175) C dX3_asks_171 (by decide) ?_
      refine go_sub [0, 1, 2, 3] rfl ?_
      exact w3_asks_175 hN C hE h
  · refine go_iload_n (pc := 16) C dX3_asks_16 rfl 3 rfl ?_
    refine go_aload_n (pc := 17) C dX3_asks_17 rfl 0 rfl ?_
    refine x3gr_11 (pc := 18) C dX3_asks_18 ?_
    refine go_iload (pc := 21) C dX3_asks_21 4 rfl ?_
    refine go_iald (pc := 23) C x3aA_11 h dX3_asks_23 (fun h => ?_)
    refine go_iload_n (pc := 24) C dX3_asks_24 rfl 1 rfl ?_
    refine go_icmp_eq (pc := 25) (tgt := 61) C dX3_asks_25 (by decide) h (fun h => ?_) (fun h => ?_)
    · refine go_sub [0, 1, 2, 4] rfl ?_
      exact w3_asks_61 hN C hE hK5 h
    · refine go_aload_n (pc := 28) C dX3_asks_28 rfl 0 rfl ?_
      refine x3gr_12 (pc := 29) C dX3_asks_29 ?_
      refine go_iload (pc := 32) C dX3_asks_32 4 rfl ?_
      refine go_iald (pc := 34) C x3aA_12 h dX3_asks_34 (fun h => ?_)
      refine go_iload_n (pc := 35) C dX3_asks_35 rfl 1 rfl ?_
      refine go_icmp_eq (pc := 36) (tgt := 61) C dX3_asks_36 (by decide) h (fun h => ?_) (fun h => ?_)
      · refine go_sub [0, 1, 2, 4] rfl ?_
        exact w3_asks_61 hN C hE hK5 h
      · refine go_aload_n (pc := 39) C dX3_asks_39 rfl 0 rfl ?_
        refine x3gr_11 (pc := 40) C dX3_asks_40 ?_
        refine go_iload (pc := 43) C dX3_asks_43 4 rfl ?_
        refine go_iald (pc := 45) C x3aA_11 h dX3_asks_45 (fun h => ?_)
        refine go_iload_n (pc := 46) C dX3_asks_46 rfl 2 rfl ?_
        refine go_icmp_eq (pc := 47) (tgt := 61) C dX3_asks_47 (by decide) h (fun h => ?_) (fun h => ?_)
        · refine go_sub [0, 1, 2, 4] rfl ?_
          exact w3_asks_61 hN C hE hK5 h
        · refine go_aload_n (pc := 50) C dX3_asks_50 rfl 0 rfl ?_
          refine x3gr_12 (pc := 51) C dX3_asks_51 ?_
          refine go_iload (pc := 54) C dX3_asks_54 4 rfl ?_
          refine go_iald (pc := 56) C x3aA_12 h dX3_asks_56 (fun h => ?_)
          refine go_iload_n (pc := 57) C dX3_asks_57 rfl 2 rfl ?_
          refine go_icmp_ne (pc := 58) (tgt := 65) C dX3_asks_58 (by decide) h (fun h => ?_) (fun h => ?_)
          · refine go_iconst (pc := 65) (v := (0 : Int32)) C dX3_asks_65 (by decide) ?_
            refine go_iadd (pc := 66) C dX3_asks_66 ?_
            refine go_istore_n (pc := 67) C hN dX3_asks_67 rfl (by decide) rfl ?_
            refine go_iinc (pc := 68) (v := (v4 + (1 : Int32))) C hN dX3_asks_68 (q := 4) rfl rfl (by decide) rfl ?_
            refine go_goto (pc := 71) (tgt := 5) C dX3_asks_71 (by decide) ?_
            refine go_sub [2, 3, 4, 1, 0] rfl ?_
            exact hK5 ((v3 + (0 : Int32)), (v4 + (1 : Int32))) h
          · refine go_sub [0, 1, 2, 4] rfl ?_
            exact w3_asks_61 hN C hE hK5 h
theorem m3_asks {l : Launch} {d : gD} {a : Nat → Nat} {s0 : Bl} {v1 : Int32} {v2 : Int32} {s9 : Bl} (h : f3_asks s0 v1 v2 = some s9) : Mt l d yX3_asks cX3_asks 5 none (3, 0, 0) 70 (bW d 3 FK3 a s0) [.ref (a 0), .int v1, .int v2] (fun v w => v = none ∧ w = (bW d 3 FK3 a s9)) := by
  refine Mt.of x3pn (Nat.le_of_ble_eq_true rfl) ?_
  intro Γ hl hd hN C hE
  subst hl; subst hd
  show Go Γ 0 0 (bW Γ.d 3 FK3 a s0) 0 [(0, .ref (a 0)), (1, .int v1), (2, .int v2)] []
  dsimp only [f3_asks] at h
  refine go_iconst (pc := 0) (v := (0 : Int32)) C dX3_asks_0 (by decide) ?_
  refine go_istore_n (pc := 1) C hN dX3_asks_1 rfl (by decide) rfl ?_
  refine go_iconst (pc := 2) (v := (0 : Int32)) C dX3_asks_2 (by decide) ?_
  refine go_istore (pc := 3) C hN dX3_asks_3 (by decide) rfl ?_
  refine go_sub [2, 3, 4, 1, 0] rfl ?_
  exact w3_asks_5 hN C hE FU ((0 : Int32), (0 : Int32)) h
theorem m3_truth {l : Launch} {d : gD} {ws : va_W} {v0 : Int32} {r9 : Int64} (h : f3_truth v0 = some r9) : Mt l d yX3_truth cX3_truth 1 (some .long) (0, 0, 0) 0 ws [.int v0] (fun v w => v = some (.long r9) ∧ w = ws) := by
  refine Mt.of x3pn (Nat.le_of_ble_eq_true rfl) ?_
  intro Γ hl hd hN C hE
  subst hl; subst hd
  show Go Γ 0 0 ws 0 [(0, .int v0)] []
  dsimp only [f3_truth] at h
  refine go_iload_n (pc := 0) C dX3_truth_0 rfl 0 rfl ?_
  refine go_if_eq (pc := 1) (tgt := 8) C dX3_truth_1 (by decide) h (fun h => ?_) (fun h => ?_)
  · refine go_lconst (pc := 8) (v := (0 : Int64)) C dX3_truth_8 (by decide) ?_
    exact (hE 0 0 _ _ _ (Nat.zero_le _) (Nat.zero_le _)).2.2.1 _ rfl dX3_truth_9 ⟨congrArg (fun z => some (Value.long z)) (some1 h), rfl⟩
  · refine go_lconst (pc := 4) (v := (1 : Int64)) C dX3_truth_4 (by decide) ?_
    refine go_goto (pc := 5) (tgt := 9) C dX3_truth_5 (by decide) ?_
    exact (hE 0 0 _ _ _ (Nat.zero_le _) (Nat.zero_le _)).2.2.1 _ rfl dX3_truth_9 ⟨congrArg (fun z => some (Value.long z)) (some1 h), rfl⟩
theorem m3_both {l : Launch} {d : gD} {ws : va_W} {v0 : Int32} {v1 : Int64} {v3 : Int64} {r9 : Int64} (h : f3_both v0 v1 v3 = some r9) : Mt l d yX3_both cX3_both 5 (some .long) (1, 0, 0) 20 ws [.int v0, .long v1, .long v3] (fun v w => v = some (.long r9) ∧ w = ws) := by
  refine Mt.of x3pn (Nat.le_of_ble_eq_true rfl) ?_
  intro Γ hl hd hN C hE
  subst hl; subst hd
  show Go Γ 0 0 ws 0 [(0, .int v0), (1, .long v1), (3, .long v3)] []
  dsimp only [f3_both] at h
  refine go_iload_n (pc := 0) C dX3_both_0 rfl 0 rfl ?_
  by_cases c1_2 : v0 = (2 : Int32)
  · have h := (if_pos c1_2).symm.trans h
    refine go_tableK (pc := 1) (tgt := 72) C c1_2 dX3_both_1 (by decide) (by decide) rfl (by decide) ?_
    refine go_lload_n (pc := 72) C dX3_both_72 rfl 1 rfl ?_
    refine go_lload_n (pc := 73) C dX3_both_73 rfl 2 rfl ?_
    refine go_ladd (pc := 74) C dX3_both_74 ?_
    exact (hE 0 0 _ _ _ (Nat.zero_le _) (Nat.zero_le _)).2.2.1 _ rfl dX3_both_75 ⟨congrArg (fun z => some (Value.long z)) (some1 h), rfl⟩
  have h := (if_neg c1_2).symm.trans h
  by_cases c1_3 : v0 = (3 : Int32)
  · have h := (if_pos c1_3).symm.trans h
    refine go_tableK (pc := 1) (tgt := 76) C c1_3 dX3_both_1 (by decide) (by decide) rfl (by decide) ?_
    refine go_lload_n (pc := 76) C dX3_both_76 rfl 1 rfl ?_
    refine go_lload_n (pc := 77) C dX3_both_77 rfl 2 rfl ?_
    refine go_lsub (pc := 78) C dX3_both_78 ?_
    exact (hE 0 0 _ _ _ (Nat.zero_le _) (Nat.zero_le _)).2.2.1 _ rfl dX3_both_79 ⟨congrArg (fun z => some (Value.long z)) (some1 h), rfl⟩
  have h := (if_neg c1_3).symm.trans h
  by_cases c1_4 : v0 = (4 : Int32)
  · have h := (if_pos c1_4).symm.trans h
    refine go_tableK (pc := 1) (tgt := 112) C c1_4 dX3_both_1 (by decide) (by decide) rfl (by decide) ?_
    refine go_lload_n (pc := 112) C dX3_both_112 rfl 1 rfl ?_
    refine go_lload_n (pc := 113) C dX3_both_113 rfl 2 rfl ?_
    refine go_lcmp (pc := 114) C dX3_both_114 ?_
    refine go_if_ge (pc := 115) (tgt := 122) C dX3_both_115 (by decide) h (fun h => ?_) (fun h => ?_)
    · refine go_iconst (pc := 122) (v := (0 : Int32)) C dX3_both_122 (by decide) ?_
      obtain ⟨r4, e4, h⟩ := bnd_some h
      refine go_callSl (pc := 123) C [.int (0 : Int32)] (m3_truth e4) q1859 q1860 q144 q1861 x3pd_truth (by decide) (by decide) rfl (Nat.le_of_ble_eq_true rfl) ⟨Nat.zero_le _, Nat.zero_le _⟩ dX3_both_123 rfl ?_
      exact (hE 0 0 _ _ _ (Nat.zero_le _) (Nat.zero_le _)).2.2.1 _ rfl dX3_both_126 ⟨congrArg (fun z => some (Value.long z)) (some1 h), rfl⟩
    · refine go_iconst (pc := 118) (v := (1 : Int32)) C dX3_both_118 (by decide) ?_
      refine go_goto (pc := 119) (tgt := 123) C dX3_both_119 (by decide) ?_
      obtain ⟨r5, e5, h⟩ := bnd_some h
      refine go_callSl (pc := 123) C [.int (1 : Int32)] (m3_truth e5) q1859 q1860 q144 q1861 x3pd_truth (by decide) (by decide) rfl (Nat.le_of_ble_eq_true rfl) ⟨Nat.zero_le _, Nat.zero_le _⟩ dX3_both_123 rfl ?_
      exact (hE 0 0 _ _ _ (Nat.zero_le _) (Nat.zero_le _)).2.2.1 _ rfl dX3_both_126 ⟨congrArg (fun z => some (Value.long z)) (some1 h), rfl⟩
  have h := (if_neg c1_4).symm.trans h
  by_cases c1_5 : v0 = (5 : Int32)
  · have h := (if_pos c1_5).symm.trans h
    refine go_tableK (pc := 1) (tgt := 127) C c1_5 dX3_both_1 (by decide) (by decide) rfl (by decide) ?_
    refine go_lload_n (pc := 127) C dX3_both_127 rfl 1 rfl ?_
    refine go_lload_n (pc := 128) C dX3_both_128 rfl 2 rfl ?_
    refine go_lcmp (pc := 129) C dX3_both_129 ?_
    refine go_if_gt (pc := 130) (tgt := 137) C dX3_both_130 (by decide) h (fun h => ?_) (fun h => ?_)
    · refine go_iconst (pc := 137) (v := (0 : Int32)) C dX3_both_137 (by decide) ?_
      obtain ⟨r6, e6, h⟩ := bnd_some h
      refine go_callSl (pc := 138) C [.int (0 : Int32)] (m3_truth e6) q1859 q1860 q144 q1861 x3pd_truth (by decide) (by decide) rfl (Nat.le_of_ble_eq_true rfl) ⟨Nat.zero_le _, Nat.zero_le _⟩ dX3_both_138 rfl ?_
      exact (hE 0 0 _ _ _ (Nat.zero_le _) (Nat.zero_le _)).2.2.1 _ rfl dX3_both_141 ⟨congrArg (fun z => some (Value.long z)) (some1 h), rfl⟩
    · refine go_iconst (pc := 133) (v := (1 : Int32)) C dX3_both_133 (by decide) ?_
      refine go_goto (pc := 134) (tgt := 138) C dX3_both_134 (by decide) ?_
      obtain ⟨r7, e7, h⟩ := bnd_some h
      refine go_callSl (pc := 138) C [.int (1 : Int32)] (m3_truth e7) q1859 q1860 q144 q1861 x3pd_truth (by decide) (by decide) rfl (Nat.le_of_ble_eq_true rfl) ⟨Nat.zero_le _, Nat.zero_le _⟩ dX3_both_138 rfl ?_
      exact (hE 0 0 _ _ _ (Nat.zero_le _) (Nat.zero_le _)).2.2.1 _ rfl dX3_both_141 ⟨congrArg (fun z => some (Value.long z)) (some1 h), rfl⟩
  have h := (if_neg c1_5).symm.trans h
  by_cases c1_6 : v0 = (6 : Int32)
  · have h := (if_pos c1_6).symm.trans h
    refine go_tableK (pc := 1) (tgt := 142) C c1_6 dX3_both_1 (by decide) (by decide) rfl (by decide) ?_
    refine go_lload_n (pc := 142) C dX3_both_142 rfl 1 rfl ?_
    refine go_lload_n (pc := 143) C dX3_both_143 rfl 2 rfl ?_
    refine go_lcmp (pc := 144) C dX3_both_144 ?_
    refine go_if_ne (pc := 145) (tgt := 152) C dX3_both_145 (by decide) h (fun h => ?_) (fun h => ?_)
    · refine go_iconst (pc := 152) (v := (0 : Int32)) C dX3_both_152 (by decide) ?_
      obtain ⟨r8, e8, h⟩ := bnd_some h
      refine go_callSl (pc := 153) C [.int (0 : Int32)] (m3_truth e8) q1859 q1860 q144 q1861 x3pd_truth (by decide) (by decide) rfl (Nat.le_of_ble_eq_true rfl) ⟨Nat.zero_le _, Nat.zero_le _⟩ dX3_both_153 rfl ?_
      exact (hE 0 0 _ _ _ (Nat.zero_le _) (Nat.zero_le _)).2.2.1 _ rfl dX3_both_156 ⟨congrArg (fun z => some (Value.long z)) (some1 h), rfl⟩
    · refine go_iconst (pc := 148) (v := (1 : Int32)) C dX3_both_148 (by decide) ?_
      refine go_goto (pc := 149) (tgt := 153) C dX3_both_149 (by decide) ?_
      obtain ⟨r9, e9, h⟩ := bnd_some h
      refine go_callSl (pc := 153) C [.int (1 : Int32)] (m3_truth e9) q1859 q1860 q144 q1861 x3pd_truth (by decide) (by decide) rfl (Nat.le_of_ble_eq_true rfl) ⟨Nat.zero_le _, Nat.zero_le _⟩ dX3_both_153 rfl ?_
      exact (hE 0 0 _ _ _ (Nat.zero_le _) (Nat.zero_le _)).2.2.1 _ rfl dX3_both_156 ⟨congrArg (fun z => some (Value.long z)) (some1 h), rfl⟩
  have h := (if_neg c1_6).symm.trans h
  by_cases c1_7 : v0 = (7 : Int32)
  · have h := (if_pos c1_7).symm.trans h
    refine go_tableK (pc := 1) (tgt := 157) C c1_7 dX3_both_1 (by decide) (by decide) rfl (by decide) ?_
    refine go_lload_n (pc := 157) C dX3_both_157 rfl 1 rfl ?_
    refine go_lload_n (pc := 158) C dX3_both_158 rfl 2 rfl ?_
    refine go_lcmp (pc := 159) C dX3_both_159 ?_
    refine go_if_lt (pc := 160) (tgt := 167) C dX3_both_160 (by decide) h (fun h => ?_) (fun h => ?_)
    · refine go_iconst (pc := 167) (v := (0 : Int32)) C dX3_both_167 (by decide) ?_
      obtain ⟨r10, e10, h⟩ := bnd_some h
      refine go_callSl (pc := 168) C [.int (0 : Int32)] (m3_truth e10) q1859 q1860 q144 q1861 x3pd_truth (by decide) (by decide) rfl (Nat.le_of_ble_eq_true rfl) ⟨Nat.zero_le _, Nat.zero_le _⟩ dX3_both_168 rfl ?_
      exact (hE 0 0 _ _ _ (Nat.zero_le _) (Nat.zero_le _)).2.2.1 _ rfl dX3_both_171 ⟨congrArg (fun z => some (Value.long z)) (some1 h), rfl⟩
    · refine go_iconst (pc := 163) (v := (1 : Int32)) C dX3_both_163 (by decide) ?_
      refine go_goto (pc := 164) (tgt := 168) C dX3_both_164 (by decide) ?_
      obtain ⟨r11, e11, h⟩ := bnd_some h
      refine go_callSl (pc := 168) C [.int (1 : Int32)] (m3_truth e11) q1859 q1860 q144 q1861 x3pd_truth (by decide) (by decide) rfl (Nat.le_of_ble_eq_true rfl) ⟨Nat.zero_le _, Nat.zero_le _⟩ dX3_both_168 rfl ?_
      exact (hE 0 0 _ _ _ (Nat.zero_le _) (Nat.zero_le _)).2.2.1 _ rfl dX3_both_171 ⟨congrArg (fun z => some (Value.long z)) (some1 h), rfl⟩
  have h := (if_neg c1_7).symm.trans h
  by_cases c1_8 : v0 = (8 : Int32)
  · have h := (if_pos c1_8).symm.trans h
    refine go_tableK (pc := 1) (tgt := 172) C c1_8 dX3_both_1 (by decide) (by decide) rfl (by decide) ?_
    refine go_lload_n (pc := 172) C dX3_both_172 rfl 1 rfl ?_
    refine go_lload_n (pc := 173) C dX3_both_173 rfl 2 rfl ?_
    refine go_lcmp (pc := 174) C dX3_both_174 ?_
    refine go_if_le (pc := 175) (tgt := 182) C dX3_both_175 (by decide) h (fun h => ?_) (fun h => ?_)
    · refine go_iconst (pc := 182) (v := (0 : Int32)) C dX3_both_182 (by decide) ?_
      obtain ⟨r12, e12, h⟩ := bnd_some h
      refine go_callSl (pc := 183) C [.int (0 : Int32)] (m3_truth e12) q1859 q1860 q144 q1861 x3pd_truth (by decide) (by decide) rfl (Nat.le_of_ble_eq_true rfl) ⟨Nat.zero_le _, Nat.zero_le _⟩ dX3_both_183 rfl ?_
      exact (hE 0 0 _ _ _ (Nat.zero_le _) (Nat.zero_le _)).2.2.1 _ rfl dX3_both_186 ⟨congrArg (fun z => some (Value.long z)) (some1 h), rfl⟩
    · refine go_iconst (pc := 178) (v := (1 : Int32)) C dX3_both_178 (by decide) ?_
      refine go_goto (pc := 179) (tgt := 183) C dX3_both_179 (by decide) ?_
      obtain ⟨r13, e13, h⟩ := bnd_some h
      refine go_callSl (pc := 183) C [.int (1 : Int32)] (m3_truth e13) q1859 q1860 q144 q1861 x3pd_truth (by decide) (by decide) rfl (Nat.le_of_ble_eq_true rfl) ⟨Nat.zero_le _, Nat.zero_le _⟩ dX3_both_183 rfl ?_
      exact (hE 0 0 _ _ _ (Nat.zero_le _) (Nat.zero_le _)).2.2.1 _ rfl dX3_both_186 ⟨congrArg (fun z => some (Value.long z)) (some1 h), rfl⟩
  have h := (if_neg c1_8).symm.trans h
  by_cases c1_10 : v0 = (10 : Int32)
  · have h := (if_pos c1_10).symm.trans h
    refine go_tableK (pc := 1) (tgt := 187) C c1_10 dX3_both_1 (by decide) (by decide) rfl (by decide) ?_
    refine go_lload_n (pc := 187) C dX3_both_187 rfl 1 rfl ?_
    refine go_lload_n (pc := 188) C dX3_both_188 rfl 2 rfl ?_
    refine go_land (pc := 189) C dX3_both_189 ?_
    exact (hE 0 0 _ _ _ (Nat.zero_le _) (Nat.zero_le _)).2.2.1 _ rfl dX3_both_190 ⟨congrArg (fun z => some (Value.long z)) (some1 h), rfl⟩
  have h := (if_neg c1_10).symm.trans h
  by_cases c1_13 : v0 = (13 : Int32)
  · have h := (if_pos c1_13).symm.trans h
    refine go_tableK (pc := 1) (tgt := 80) C c1_13 dX3_both_1 (by decide) (by decide) rfl (by decide) ?_
    refine go_lload_n (pc := 80) C dX3_both_80 rfl 1 rfl ?_
    refine go_lload_n (pc := 81) C dX3_both_81 rfl 2 rfl ?_
    refine go_lmul (pc := 82) C dX3_both_82 ?_
    exact (hE 0 0 _ _ _ (Nat.zero_le _) (Nat.zero_le _)).2.2.1 _ rfl dX3_both_83 ⟨congrArg (fun z => some (Value.long z)) (some1 h), rfl⟩
  have h := (if_neg c1_13).symm.trans h
  by_cases c1_14 : v0 = (14 : Int32)
  · have h := (if_pos c1_14).symm.trans h
    refine go_tableK (pc := 1) (tgt := 84) C c1_14 dX3_both_1 (by decide) (by decide) rfl (by decide) ?_
    refine go_lload_n (pc := 84) C dX3_both_84 rfl 2 rfl ?_
    refine go_lconst (pc := 85) (v := (0 : Int64)) C dX3_both_85 (by decide) ?_
    refine go_lcmp (pc := 86) C dX3_both_86 ?_
    refine go_if_ne (pc := 87) (tgt := 94) C dX3_both_87 (by decide) h (fun h => ?_) (fun h => ?_)
    · refine go_lload_n (pc := 94) C dX3_both_94 rfl 1 rfl ?_
      refine go_lload_n (pc := 95) C dX3_both_95 rfl 2 rfl ?_
      obtain ⟨hne, h⟩ := chk_some h
      refine go_ldiv (pc := 96) C dX3_both_96 (of_decide_eq_true hne) ?_
      exact (hE 0 0 _ _ _ (Nat.zero_le _) (Nat.zero_le _)).2.2.1 _ rfl dX3_both_97 ⟨congrArg (fun z => some (Value.long z)) (some1 h), rfl⟩
    · refine go_lconst (pc := 90) (v := (0 : Int64)) C dX3_both_90 (by decide) ?_
      refine go_goto (pc := 91) (tgt := 97) C dX3_both_91 (by decide) ?_
      exact (hE 0 0 _ _ _ (Nat.zero_le _) (Nat.zero_le _)).2.2.1 _ rfl dX3_both_97 ⟨congrArg (fun z => some (Value.long z)) (some1 h), rfl⟩
  have h := (if_neg c1_14).symm.trans h
  by_cases c1_15 : v0 = (15 : Int32)
  · have h := (if_pos c1_15).symm.trans h
    refine go_tableK (pc := 1) (tgt := 98) C c1_15 dX3_both_1 (by decide) (by decide) rfl (by decide) ?_
    refine go_lload_n (pc := 98) C dX3_both_98 rfl 2 rfl ?_
    refine go_lconst (pc := 99) (v := (0 : Int64)) C dX3_both_99 (by decide) ?_
    refine go_lcmp (pc := 100) C dX3_both_100 ?_
    refine go_if_ne (pc := 101) (tgt := 108) C dX3_both_101 (by decide) h (fun h => ?_) (fun h => ?_)
    · refine go_lload_n (pc := 108) C dX3_both_108 rfl 1 rfl ?_
      refine go_lload_n (pc := 109) C dX3_both_109 rfl 2 rfl ?_
      obtain ⟨hne, h⟩ := chk_some h
      refine go_lrem (pc := 110) C dX3_both_110 (of_decide_eq_true hne) ?_
      exact (hE 0 0 _ _ _ (Nat.zero_le _) (Nat.zero_le _)).2.2.1 _ rfl dX3_both_111 ⟨congrArg (fun z => some (Value.long z)) (some1 h), rfl⟩
    · refine go_lconst (pc := 104) (v := (0 : Int64)) C dX3_both_104 (by decide) ?_
      refine go_goto (pc := 105) (tgt := 111) C dX3_both_105 (by decide) ?_
      exact (hE 0 0 _ _ _ (Nat.zero_le _) (Nat.zero_le _)).2.2.1 _ rfl dX3_both_111 ⟨congrArg (fun z => some (Value.long z)) (some1 h), rfl⟩
  have h := (if_neg c1_15).symm.trans h
  refine go_tableD (pc := 1) (tgt := 191) C [(2 : Int32), (3 : Int32), (4 : Int32), (5 : Int32), (6 : Int32), (7 : Int32), (8 : Int32), (10 : Int32), (13 : Int32), (14 : Int32), (15 : Int32)] (List.forall_mem_cons.mpr ⟨c1_2, List.forall_mem_cons.mpr ⟨c1_3, List.forall_mem_cons.mpr ⟨c1_4, List.forall_mem_cons.mpr ⟨c1_5, List.forall_mem_cons.mpr ⟨c1_6, List.forall_mem_cons.mpr ⟨c1_7, List.forall_mem_cons.mpr ⟨c1_8, List.forall_mem_cons.mpr ⟨c1_10, List.forall_mem_cons.mpr ⟨c1_13, List.forall_mem_cons.mpr ⟨c1_14, List.forall_mem_cons.mpr ⟨c1_15, fun _ h9 => absurd h9 List.not_mem_nil⟩⟩⟩⟩⟩⟩⟩⟩⟩⟩⟩) dX3_both_1 (by decide) (by decide +kernel) (by decide) (by decide) (by decide) ?_
  refine go_lload_n (pc := 191) C dX3_both_191 rfl 1 rfl ?_
  refine go_lload_n (pc := 192) C dX3_both_192 rfl 2 rfl ?_
  refine go_lor (pc := 193) C dX3_both_193 ?_
  exact (hE 0 0 _ _ _ (Nat.zero_le _) (Nat.zero_le _)).2.2.1 _ rfl dX3_both_194 ⟨congrArg (fun z => some (Value.long z)) (some1 h), rfl⟩

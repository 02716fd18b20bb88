/-! walks of the Model, printed by gen/model.py -/
set_option maxRecDepth 100000
set_option maxHeartbeats 4000000
theorem m3_sinking {l : Launch} {d : gD} {a : Nat → Nat} {s0 : Bl} {v1 : Int32} {r9 : Int32} (h : f3_sinking s0 v1 = some r9) : Mt l d yX3_sinking cX3_sinking 7 (some .int) (5, 0, 0) 125 (bW d 3 FK3 a s0) [.ref (a 0), .int v1] (fun v w => v = some (.int r9) ∧ w = (bW d 3 FK3 a s0)) := by
  refine Mt.of x3pn (Nat.le_of_ble_eq_true rfl) ?_
  intro Γ hl hd hN C hE
  subst hl; subst hd
  show Go Γ 0 0 (bW Γ.d 3 FK3 a s0) 0 [(0, .ref (a 0)), (1, .int v1)] []
  dsimp only [f3_sinking] at h
  refine go_aload_n (pc := 0) C dX3_sinking_0 rfl 0 rfl ?_
  obtain ⟨r1, e1, h⟩ := bnd_some h
  refine go_callVi (pc := 1) C [] (m3_afloat e1) q1678 q1680 qs87 q144 q1681 x3pd_afloat (by decide) (by decide) bW_O x3c rfl (Nat.le_of_ble_eq_true rfl) ⟨Nat.zero_le _, Nat.zero_le _⟩ dX3_sinking_1 rfl ?_
  refine go_istore_n (pc := 4) C hN dX3_sinking_4 rfl (by decide) rfl ?_
  refine go_iconst (pc := 5) (v := (0 : Int32)) C dX3_sinking_5 (by decide) ?_
  refine go_istore_n (pc := 6) C hN dX3_sinking_6 rfl (by decide) rfl ?_
  refine go_iconst (pc := 7) (v := (0 : Int32)) C dX3_sinking_7 (by decide) ?_
  refine go_istore (pc := 8) C hN dX3_sinking_8 (by decide) rfl ?_
  refine go_iconst (pc := 10) (v := (0 : Int32)) C dX3_sinking_10 (by decide) ?_
  refine go_istore (pc := 11) C hN dX3_sinking_11 (by decide) rfl ?_
  refine go_sub [4, 5, 3, 2, 1, 0] rfl ?_
  exact w3_sinking_13 hN C hE FU ((0 : Int32), (0 : Int32), (0 : Int32)) h
theorem w3_mileBy_243 {Γ : Gam} {a : Nat → Nat} {v2 : Int32} {r9 : Int32} {s9 : Bl} (hN : Γ.nL = 5) (C : Cx Γ cX3_mileBy RX3 (6, 0, 0) 151) (hE : Rets Γ cX3_mileBy (some .int) 0 0 (fun v w => v = some (.int r9) ∧ w = (bW Γ.d 3 FK3 a s9))) : ∀ (n : Nat) (s : Bl × Int32), loop (g3_mileBy_243 v2) n s = some (r9, s9) → (fun s : Bl × Int32 => Go Γ 0 0 (bW Γ.d 3 FK3 a s.1) 243 [(0, .ref (a 0)), (2, .int v2), (4, .int s.2)] []) s := by
  refine loop_walk (P := fun s : Bl × Int32 => Go Γ 0 0 (bW Γ.d 3 FK3 a s.1) 243 [(0, .ref (a 0)), (2, .int v2), (4, .int s.2)] []) ?_
  intro K243 hK243 s h
  obtain ⟨s0, v4⟩ := s
  dsimp only [g3_mileBy_243] at h
  show Go Γ 0 0 (bW Γ.d 3 FK3 a s0) 243 [(0, .ref (a 0)), (2, .int v2), (4, .int v4)] []
  refine go_iload (pc := 243) C dX3_mileBy_243 2 rfl ?_
  refine go_aload_n (pc := 245) C dX3_mileBy_245 rfl 0 rfl ?_
  refine x3gr_1 (pc := 246) C dX3_mileBy_246 ?_
  refine go_iconst (pc := 249) (v := (3 : Int32)) C dX3_mileBy_249 (by decide) ?_
  refine go_ialdK (pc := 250) (j := 3) C x3aA_1 (by decide) (by decide) dX3_mileBy_250 ?_
  refine go_icmp_ge (pc := 251) (tgt := 291) C dX3_mileBy_251 (by decide) h (fun h => ?_) (fun h => ?_)
  · refine go_iload_n (pc := 291) C dX3_mileBy_291 rfl 1 rfl ?_
    obtain ⟨r5, e5, h⟩ := bnd_some h
    refine go_callSi (pc := 292) C [.int v2] (m3_bits e5) q1796 q1797 q144 q1798 x3pd_bits (by decide) (by decide) rfl (Nat.le_of_ble_eq_true rfl) ⟨Nat.zero_le _, Nat.zero_le _⟩ dX3_mileBy_292 rfl ?_
    exact (hE 0 0 _ _ _ (Nat.zero_le _) (Nat.zero_le _)).1 _ rfl dX3_mileBy_295 ⟨congrArg (fun z => some (Value.int z)) (some2 h).1, congrArg (fun z => bW Γ.d 3 FK3 a z) (some2 h).2⟩
  · refine go_iload_n (pc := 254) C dX3_mileBy_254 rfl 1 rfl ?_
    refine go_iload (pc := 255) C dX3_mileBy_255 2 rfl ?_
    obtain ⟨r6, e6, h⟩ := bnd_some h
    refine go_callSi (pc := 257) C [.int v2, .int v4] (m3_has e6) q1682 q1683 q144 q1684 x3pd_has (by decide) (by decide) rfl (Nat.le_of_ble_eq_true rfl) ⟨Nat.zero_le _, Nat.zero_le _⟩ dX3_mileBy_257 rfl ?_
    refine go_if_eq (pc := 260) (tgt := 285) C dX3_mileBy_260 (by decide) h (fun h => ?_) (fun h => ?_)
    · refine go_iinc (pc := 285) (v := (v4 + (1 : Int32))) C hN dX3_mileBy_285 (q := 2) rfl rfl (by decide) rfl ?_
      refine go_goto (pc := 288) (tgt := 243) C dX3_mileBy_288 (by decide) ?_
      refine go_sub [1, 2, 0] rfl ?_
      exact hK243 (s0, (v4 + (1 : Int32))) h
    · refine go_aload_n (pc := 263) C dX3_mileBy_263 rfl 0 rfl ?_
      refine x3gr_9 (pc := 264) C dX3_mileBy_264 ?_
      refine go_iload (pc := 267) C dX3_mileBy_267 2 rfl ?_
      refine go_iconst (pc := 269) (v := (2 : Int32)) C dX3_mileBy_269 (by decide) ?_
      refine go_iast (pc := 270) C x3pA_9 h dX3_mileBy_270 (fun h => ?_)
      refine go_aload_n (pc := 271) C dX3_mileBy_271 rfl 0 rfl ?_
      refine x3gr_10 (pc := 272) C dX3_mileBy_272 ?_
      refine go_iload (pc := 275) C dX3_mileBy_275 2 rfl ?_
      refine go_aload_n (pc := 277) C dX3_mileBy_277 rfl 0 rfl ?_
      refine x3gr_1 (pc := 278) C dX3_mileBy_278 ?_
      refine go_bipush (pc := 281) (v := (6 : Int32)) C dX3_mileBy_281 (by decide) ?_
      refine go_ialdK (pc := 283) (j := 6) C x3aA_1 (by decide) (by decide) dX3_mileBy_283 ?_
      refine go_iast (pc := 284) C x3pA_10 h dX3_mileBy_284 (fun h => ?_)
      refine go_iinc (pc := 285) (v := (v4 + (1 : Int32))) C hN dX3_mileBy_285 (q := 2) rfl rfl (by decide) rfl ?_
      refine go_goto (pc := 288) (tgt := 243) C dX3_mileBy_288 (by decide) ?_
      refine go_sub [1, 2, 0] rfl ?_
      exact hK243 ((bA (bA s0 9 (v4).toNatClampNeg (2 : Int32)) 10 (v4).toNatClampNeg ((bA s0 9 (v4).toNatClampNeg (2 : Int32)).2.1 1 6)), (v4 + (1 : Int32))) h
theorem w3_mileBy_189 {Γ : Gam} {a : Nat → Nat} {v2 : Int32} {v3 : Int32} {r9 : Int32} {s9 : Bl} (hN : Γ.nL = 5) (C : Cx Γ cX3_mileBy RX3 (6, 0, 0) 151) (hE : Rets Γ cX3_mileBy (some .int) 0 0 (fun v w => v = some (.int r9) ∧ w = (bW Γ.d 3 FK3 a s9))) : ∀ (n : Nat) (s : Bl × Int32), loop (g3_mileBy_189 v2 v3) n s = some (r9, s9) → (fun s : Bl × Int32 => Go Γ 0 0 (bW Γ.d 3 FK3 a s.1) 189 [(0, .ref (a 0)), (2, .int v2), (3, .int v3), (4, .int s.2)] []) s := by
  refine loop_walk (P := fun s : Bl × Int32 => Go Γ 0 0 (bW Γ.d 3 FK3 a s.1) 189 [(0, .ref (a 0)), (2, .int v2), (3, .int v3), (4, .int s.2)] []) ?_
  intro K189 hK189 s h
  obtain ⟨s0, v4⟩ := s
  dsimp only [g3_mileBy_189] at h
  show Go Γ 0 0 (bW Γ.d 3 FK3 a s0) 189 [(0, .ref (a 0)), (2, .int v2), (3, .int v3), (4, .int v4)] []
  refine go_iload (pc := 189) C dX3_mileBy_189 3 rfl ?_
  refine go_aload_n (pc := 191) C dX3_mileBy_191 rfl 0 rfl ?_
  refine x3gr_1 (pc := 192) C dX3_mileBy_192 ?_
  refine go_iconst (pc := 195) (v := (2 : Int32)) C dX3_mileBy_195 (by decide) ?_
  refine go_ialdK (pc := 196) (j := 2) C x3aA_1 (by decide) (by decide) dX3_mileBy_196 ?_
  refine go_icmp_ge (pc := 197) (tgt := 233) C dX3_mileBy_197 (by decide) h (fun h => ?_) (fun h => ?_)
  · refine go_aload_n (pc := 233) C dX3_mileBy_233 rfl 0 rfl ?_
    refine go_iload_n (pc := 234) C dX3_mileBy_234 rfl 1 rfl ?_
    refine go_iconst (pc := 235) (v := (0 : Int32)) C dX3_mileBy_235 (by decide) ?_
    obtain ⟨r4, s4, e4, h⟩ := bnd2_some h
    refine go_callVi (pc := 236) C [.int v2, .int (0 : Int32)] (m3_ropesGoOf e4) q1792 q1794 qs108 q144 q1795 x3pd_ropesGoOf (by decide) (by decide) bW_O x3c rfl (Nat.le_of_ble_eq_true rfl) ⟨Nat.zero_le _, Nat.zero_le _⟩ dX3_mileBy_236 rfl ?_
    refine go_pop (pc := 239) C dX3_mileBy_239 rfl ?_
    refine go_iconst (pc := 240) (v := (0 : Int32)) C dX3_mileBy_240 (by decide) ?_
    refine go_istore (pc := 241) C hN dX3_mileBy_241 (by decide) rfl ?_
    refine go_sub [1, 2, 0] rfl ?_
    exact w3_mileBy_243 hN C hE FU (s4, (0 : Int32)) h
  · refine go_aload_n (pc := 200) C dX3_mileBy_200 rfl 0 rfl ?_
    refine x3gr_4 (pc := 201) C dX3_mileBy_201 ?_
    refine go_iload (pc := 204) C dX3_mileBy_204 3 rfl ?_
    refine go_iload_n (pc := 206) C dX3_mileBy_206 rfl 2 rfl ?_
    refine go_iload (pc := 207) C dX3_mileBy_207 3 rfl ?_
    obtain ⟨r7, e7, h⟩ := bnd_some h
    refine go_callSi (pc := 209) C [.int v3, .int v4] (m3_has e7) q1682 q1683 q144 q1684 x3pd_has (by decide) (by decide) rfl (Nat.le_of_ble_eq_true rfl) ⟨Nat.zero_le _, Nat.zero_le _⟩ dX3_mileBy_209 rfl ?_
    refine go_if_eq (pc := 212) (tgt := 219) C dX3_mileBy_212 (by decide) h (fun h => ?_) (fun h => ?_)
    · refine go_aload_n (pc := 219) C dX3_mileBy_219 rfl 0 rfl ?_
      refine x3gr_4 (pc := 220) C dX3_mileBy_220 ?_
      refine go_iload (pc := 223) C dX3_mileBy_223 3 rfl ?_
      refine go_iald (pc := 225) C x3aA_4 h dX3_mileBy_225 (fun h => ?_)
      refine go_iast (pc := 226) C x3pA_4 h dX3_mileBy_226 (fun h => ?_)
      refine go_iinc (pc := 227) (v := (v4 + (1 : Int32))) C hN dX3_mileBy_227 (q := 3) rfl rfl (by decide) rfl ?_
      refine go_goto (pc := 230) (tgt := 189) C dX3_mileBy_230 (by decide) ?_
      refine go_sub [1, 2, 3, 0] rfl ?_
      exact hK189 ((bA s0 4 (v4).toNatClampNeg (s0.2.1 4 (v4).toNatClampNeg)), (v4 + (1 : Int32))) h
    · refine go_iconst (pc := 215) (v := (2 : Int32)) C dX3_mileBy_215 (by decide) ?_
      refine go_goto (pc := 216) (tgt := 226) C dX3_mileBy_216 (by decide) ?_
      refine go_iast (pc := 226) C x3pA_4 h dX3_mileBy_226 (fun h => ?_)
      refine go_iinc (pc := 227) (v := (v4 + (1 : Int32))) C hN dX3_mileBy_227 (q := 3) rfl rfl (by decide) rfl ?_
      refine go_goto (pc := 230) (tgt := 189) C dX3_mileBy_230 (by decide) ?_
      refine go_sub [1, 2, 3, 0] rfl ?_
      exact hK189 ((bA s0 4 (v4).toNatClampNeg (2 : Int32)), (v4 + (1 : Int32))) h
theorem w3_mileBy_143 {Γ : Gam} {a : Nat → Nat} {s0 : Bl} {v2 : Int32} {r9 : Int32} {s9 : Bl} (hN : Γ.nL = 5) (C : Cx Γ cX3_mileBy RX3 (6, 0, 0) 151) (hE : Rets Γ cX3_mileBy (some .int) 0 0 (fun v w => v = some (.int r9) ∧ w = (bW Γ.d 3 FK3 a s9))) : ∀ (n : Nat) (s : Int32 × Int32), loop (g3_mileBy_143 s0 v2) n s = some (r9, s9) → (fun s : Int32 × Int32 => Go Γ 0 0 (bW Γ.d 3 FK3 a s0) 143 [(0, .ref (a 0)), (2, .int v2), (3, .int s.1), (4, .int s.2)] []) s := by
  refine loop_walk (P := fun s : Int32 × Int32 => Go Γ 0 0 (bW Γ.d 3 FK3 a s0) 143 [(0, .ref (a 0)), (2, .int v2), (3, .int s.1), (4, .int s.2)] []) ?_
  intro K143 hK143 s h
  obtain ⟨v3, v4⟩ := s
  dsimp only [g3_mileBy_143] at h
  show Go Γ 0 0 (bW Γ.d 3 FK3 a s0) 143 [(0, .ref (a 0)), (2, .int v2), (3, .int v3), (4, .int v4)] []
  refine go_iload (pc := 143) C dX3_mileBy_143 3 rfl ?_
  refine go_aload_n (pc := 145) C dX3_mileBy_145 rfl 0 rfl ?_
  refine x3gr_1 (pc := 146) C dX3_mileBy_146 ?_
  refine go_iconst (pc := 149) (v := (2 : Int32)) C dX3_mileBy_149 (by decide) ?_
  refine go_ialdK (pc := 150) (j := 2) C x3aA_1 (by decide) (by decide) dX3_mileBy_150 ?_
  refine go_icmp_ge (pc := 151) (tgt := 186) C dX3_mileBy_151 (by decide) h (fun h => ?_) (fun h => ?_)
  · refine go_iconst (pc := 186) (v := (0 : Int32)) C dX3_mileBy_186 (by decide) ?_
    refine go_istore (pc := 187) C hN dX3_mileBy_187 (by decide) rfl ?_
    refine go_sub [1, 2, 3, 0] rfl ?_
    exact w3_mileBy_189 hN C hE FU (s0, (0 : Int32)) h
  · refine go_iload_n (pc := 154) C dX3_mileBy_154 rfl 2 rfl ?_
    refine go_aload_n (pc := 155) C dX3_mileBy_155 rfl 0 rfl ?_
    refine go_iload (pc := 156) C dX3_mileBy_156 3 rfl ?_
    refine go_aload_n (pc := 158) C dX3_mileBy_158 rfl 0 rfl ?_
    obtain ⟨r8, e8, h⟩ := bnd_some h
    refine go_callVi (pc := 159) C [] (m3_allRopes e8) q1670 q1672 qs85 q144 q1673 x3pd_allRopes (by decide) (by decide) bW_O x3c rfl (Nat.le_of_ble_eq_true rfl) ⟨Nat.zero_le _, Nat.zero_le _⟩ dX3_mileBy_159 rfl ?_
    obtain ⟨r9, e9, h⟩ := bnd_some h
    refine go_callVi (pc := 162) C [.int v4, .int r8] (m3_riddenBy e9) q1674 q1676 qs86 q144 q1677 x3pd_riddenBy (by decide) (by decide) bW_O x3c rfl (Nat.le_of_ble_eq_true rfl) ⟨Nat.zero_le _, Nat.zero_le _⟩ dX3_mileBy_162 rfl ?_
    refine go_iload_n (pc := 165) C dX3_mileBy_165 rfl 1 rfl ?_
    refine go_iand (pc := 166) C dX3_mileBy_166 ?_
    refine go_if_eq (pc := 167) (tgt := 177) C dX3_mileBy_167 (by decide) h (fun h => ?_) (fun h => ?_)
    · refine go_iconst (pc := 177) (v := (0 : Int32)) C dX3_mileBy_177 (by decide) ?_
      refine go_ior (pc := 178) C dX3_mileBy_178 ?_
      refine go_istore_n (pc := 179) C hN dX3_mileBy_179 rfl (by decide) rfl ?_
      refine go_iinc (pc := 180) (v := (v4 + (1 : Int32))) C hN dX3_mileBy_180 (q := 3) rfl rfl (by decide) rfl ?_
      refine go_goto (pc := 183) (tgt := 143) C dX3_mileBy_183 (by decide) ?_
      refine go_sub [2, 3, 1, 0] rfl ?_
      exact hK143 ((v3 ||| (0 : Int32)), (v4 + (1 : Int32))) h
    · refine go_iconst (pc := 170) (v := (1 : Int32)) C dX3_mileBy_170 (by decide) ?_
      refine go_iload (pc := 171) C dX3_mileBy_171 3 rfl ?_
      refine go_ishl (pc := 173) C dX3_mileBy_173 ?_
      refine go_goto (pc := 174) (tgt := 178) C dX3_mileBy_174 (by decide) ?_
      refine go_ior (pc := 178) C dX3_mileBy_178 ?_
      refine go_istore_n (pc := 179) C hN dX3_mileBy_179 rfl (by decide) rfl ?_
      refine go_iinc (pc := 180) (v := (v4 + (1 : Int32))) C hN dX3_mileBy_180 (q := 3) rfl rfl (by decide) rfl ?_
      refine go_goto (pc := 183) (tgt := 143) C dX3_mileBy_183 (by decide) ?_
      refine go_sub [2, 3, 1, 0] rfl ?_
      exact hK143 ((v3 ||| ((1 : Int32) <<< (v4 &&& 31))), (v4 + (1 : Int32))) h
theorem w3_mileBy_90 {Γ : Gam} {a : Nat → Nat} {v1 : Int32} {r9 : Int32} {s9 : Bl} (hN : Γ.nL = 5) (C : Cx Γ cX3_mileBy RX3 (6, 0, 0) 151) (hE : Rets Γ cX3_mileBy (some .int) 0 0 (fun v w => v = some (.int r9) ∧ w = (bW Γ.d 3 FK3 a s9))) : ∀ (n : Nat) (s : Bl × Int32), loop (g3_mileBy_90 v1) n s = some (r9, s9) → (fun s : Bl × Int32 => Go Γ 0 0 (bW Γ.d 3 FK3 a s.1) 90 [(0, .ref (a 0)), (1, .int v1), (2, .int s.2)] []) s := by
  refine loop_walk (P := fun s : Bl × Int32 => Go Γ 0 0 (bW Γ.d 3 FK3 a s.1) 90 [(0, .ref (a 0)), (1, .int v1), (2, .int s.2)] []) ?_
  intro K90 hK90 s h
  obtain ⟨s0, v2⟩ := s
  dsimp only [g3_mileBy_90] at h
  show Go Γ 0 0 (bW Γ.d 3 FK3 a s0) 90 [(0, .ref (a 0)), (1, .int v1), (2, .int v2)] []
  refine go_iload_n (pc := 90) C dX3_mileBy_90 rfl 2 rfl ?_
  refine go_if_lt (pc := 91) (tgt := 125) C dX3_mileBy_91 (by decide) h (fun h => ?_) (fun h => ?_)
  · refine go_aload_n (pc := 125) C dX3_mileBy_125 rfl 0 rfl ?_
    obtain ⟨s1, e1, h⟩ := bnd_some h
    refine go_callVv (pc := 126) C [] (m3_lands e1) q1788 q1790 qs107 q144 q1791 x3pd_lands (by decide) (by decide) bW_O x3c rfl (Nat.le_of_ble_eq_true rfl) ⟨Nat.zero_le _, Nat.zero_le _⟩ dX3_mileBy_126 rfl ?_
    refine go_aload_n (pc := 129) C dX3_mileBy_129 rfl 0 rfl ?_
    refine go_aload_n (pc := 130) C dX3_mileBy_130 rfl 0 rfl ?_
    obtain ⟨r2, e2, h⟩ := bnd_some h
    refine go_callVi (pc := 131) C [] (m3_allRopes e2) q1670 q1672 qs85 q144 q1673 x3pd_allRopes (by decide) (by decide) bW_O x3c rfl (Nat.le_of_ble_eq_true rfl) ⟨Nat.zero_le _, Nat.zero_le _⟩ dX3_mileBy_131 rfl ?_
    obtain ⟨r3, e3, h⟩ := bnd_some h
    refine go_callVi (pc := 134) C [.int r2] (m3_sinking e3) q1799 q1801 qs109 q144 q1802 x3pd_sinking (by decide) (by decide) bW_O x3c rfl (Nat.le_of_ble_eq_true rfl) ⟨Nat.zero_le _, Nat.zero_le _⟩ dX3_mileBy_134 rfl ?_
    refine go_istore_n (pc := 137) C hN dX3_mileBy_137 rfl (by decide) rfl ?_
    refine go_iconst (pc := 138) (v := (0 : Int32)) C dX3_mileBy_138 (by decide) ?_
    refine go_istore_n (pc := 139) C hN dX3_mileBy_139 rfl (by decide) rfl ?_
    refine go_iconst (pc := 140) (v := (0 : Int32)) C dX3_mileBy_140 (by decide) ?_
    refine go_istore (pc := 141) C hN dX3_mileBy_141 (by decide) rfl ?_
    refine go_sub [3, 2, 1, 0] rfl ?_
    exact w3_mileBy_143 hN C hE FU ((0 : Int32), (0 : Int32)) h
  · refine go_aload_n (pc := 94) C dX3_mileBy_94 rfl 0 rfl ?_
    refine x3gr_13 (pc := 95) C dX3_mileBy_95 ?_
    refine go_iload_n (pc := 98) C dX3_mileBy_98 rfl 2 rfl ?_
    refine go_iald (pc := 99) C x3aA_13 h dX3_mileBy_99 (fun h => ?_)
    refine go_iload_n (pc := 100) C dX3_mileBy_100 rfl 1 rfl ?_
    refine go_icmp_ge (pc := 101) (tgt := 119) C dX3_mileBy_101 (by decide) h (fun h => ?_) (fun h => ?_)
    · refine go_iinc (pc := 119) (v := (v2 + (-1 : Int32))) C hN dX3_mileBy_119 (q := 2) rfl rfl (by decide) rfl ?_
      refine go_goto (pc := 122) (tgt := 90) C dX3_mileBy_122 (by decide) ?_
      refine go_sub [1, 2, 0] rfl ?_
      exact hK90 (s0, (v2 + (-1 : Int32))) h
    · refine go_aload_n (pc := 104) C dX3_mileBy_104 rfl 0 rfl ?_
      refine go_iload_n (pc := 105) C dX3_mileBy_105 rfl 2 rfl ?_
      obtain ⟨s10, e10, h⟩ := bnd_some h
      refine go_callVv (pc := 106) C [.int v2] (m3_ropeGoes e10) q1784 q1786 qs106 q144 q1787 x3pd_ropeGoes (by decide) (by decide) bW_O x3c rfl (Nat.le_of_ble_eq_true rfl) ⟨Nat.zero_le _, Nat.zero_le _⟩ dX3_mileBy_106 rfl ?_
      refine go_aload_n (pc := 109) C dX3_mileBy_109 rfl 0 rfl ?_
      refine go_dup (pc := 110) C dX3_mileBy_110 rfl ?_
      refine x3gi_52 (pc := 111) C dX3_mileBy_111 ?_
      refine go_iconst (pc := 114) (v := (1 : Int32)) C dX3_mileBy_114 (by decide) ?_
      refine go_iadd (pc := 115) C dX3_mileBy_115 ?_
      refine x3pi_52 (pc := 116) C dX3_mileBy_116 ?_
      refine go_iinc (pc := 119) (v := (v2 + (-1 : Int32))) C hN dX3_mileBy_119 (q := 2) rfl rfl (by decide) rfl ?_
      refine go_goto (pc := 122) (tgt := 90) C dX3_mileBy_122 (by decide) ?_
      refine go_sub [1, 2, 0] rfl ?_
      exact hK90 ((bI s10 52 ((s10.1 52) + (1 : Int32))), (v2 + (-1 : Int32))) h
theorem w3_mileBy_13 {Γ : Gam} {a : Nat → Nat} {v1 : Int32} {r9 : Int32} {s9 : Bl} (hN : Γ.nL = 5) (C : Cx Γ cX3_mileBy RX3 (6, 0, 0) 151) (hE : Rets Γ cX3_mileBy (some .int) 0 0 (fun v w => v = some (.int r9) ∧ w = (bW Γ.d 3 FK3 a s9))) : ∀ (n : Nat) (s : Bl × Int32), loop (g3_mileBy_13 v1) n s = some (r9, s9) → (fun s : Bl × Int32 => Go Γ 0 0 (bW Γ.d 3 FK3 a s.1) 13 [(0, .ref (a 0)), (1, .int v1), (2, .int s.2)] []) s := by
  refine loop_walk (P := fun s : Bl × Int32 => Go Γ 0 0 (bW Γ.d 3 FK3 a s.1) 13 [(0, .ref (a 0)), (1, .int v1), (2, .int s.2)] []) ?_
  intro K13 hK13 s h
  obtain ⟨s0, v2⟩ := s
  dsimp only [g3_mileBy_13] at h
  show Go Γ 0 0 (bW Γ.d 3 FK3 a s0) 13 [(0, .ref (a 0)), (1, .int v1), (2, .int v2)] []
  refine go_iload_n (pc := 13) C dX3_mileBy_13 rfl 2 rfl ?_
  refine go_aload_n (pc := 14) C dX3_mileBy_14 rfl 0 rfl ?_
  refine x3gr_1 (pc := 15) C dX3_mileBy_15 ?_
  refine go_iconst (pc := 18) (v := (3 : Int32)) C dX3_mileBy_18 (by decide) ?_
  refine go_ialdK (pc := 19) (j := 3) C x3aA_1 (by decide) (by decide) dX3_mileBy_19 ?_
  refine go_icmp_ge (pc := 20) (tgt := 76) C dX3_mileBy_20 (by decide) h (fun h => ?_) (fun h => ?_)
  · refine go_aload_n (pc := 76) C dX3_mileBy_76 rfl 0 rfl ?_
    refine go_iconst (pc := 77) (v := (0 : Int32)) C dX3_mileBy_77 (by decide) ?_
    refine x3pi_52 (pc := 78) C dX3_mileBy_78 ?_
    refine go_aload_n (pc := 81) C dX3_mileBy_81 rfl 0 rfl ?_
    refine x3gr_1 (pc := 82) C dX3_mileBy_82 ?_
    refine go_iconst (pc := 85) (v := (4 : Int32)) C dX3_mileBy_85 (by decide) ?_
    refine go_ialdK (pc := 86) (j := 4) C x3aA_1 (by decide) (by decide) dX3_mileBy_86 ?_
    refine go_iconst (pc := 87) (v := (1 : Int32)) C dX3_mileBy_87 (by decide) ?_
    refine go_isub (pc := 88) C dX3_mileBy_88 ?_
    refine go_istore_n (pc := 89) C hN dX3_mileBy_89 rfl (by decide) rfl ?_
    refine go_sub [1, 2, 0] rfl ?_
    exact w3_mileBy_90 hN C hE FU ((bI s0 52 (0 : Int32)), (((bI s0 52 (0 : Int32)).2.1 1 4) - (1 : Int32))) h
  · refine go_aload_n (pc := 23) C dX3_mileBy_23 rfl 0 rfl ?_
    refine x3gr_9 (pc := 24) C dX3_mileBy_24 ?_
    refine go_iload_n (pc := 27) C dX3_mileBy_27 rfl 2 rfl ?_
    refine go_iald (pc := 28) C x3aA_9 h dX3_mileBy_28 (fun h => ?_)
    refine go_if_ne (pc := 29) (tgt := 70) C dX3_mileBy_29 (by decide) h (fun h => ?_) (fun h => ?_)
    · refine go_iinc (pc := 70) (v := (v2 + (1 : Int32))) C hN dX3_mileBy_70 (q := 2) rfl rfl (by decide) rfl ?_
      refine go_goto (pc := 73) (tgt := 13) C dX3_mileBy_73 (by decide) ?_
      refine go_sub [1, 2, 0] rfl ?_
      exact hK13 (s0, (v2 + (1 : Int32))) h
    · refine go_aload_n (pc := 32) C dX3_mileBy_32 rfl 0 rfl ?_
      refine x3gr_7 (pc := 33) C dX3_mileBy_33 ?_
      refine go_iload_n (pc := 36) C dX3_mileBy_36 rfl 2 rfl ?_
      refine go_aload_n (pc := 37) C dX3_mileBy_37 rfl 0 rfl ?_
      refine x3gr_7 (pc := 38) C dX3_mileBy_38 ?_
      refine go_iload_n (pc := 41) C dX3_mileBy_41 rfl 2 rfl ?_
      refine go_iald (pc := 42) C x3aA_7 h dX3_mileBy_42 (fun h => ?_)
      refine go_aload_n (pc := 43) C dX3_mileBy_43 rfl 0 rfl ?_
      refine x3gr_8 (pc := 44) C dX3_mileBy_44 ?_
      refine go_iload_n (pc := 47) C dX3_mileBy_47 rfl 2 rfl ?_
      refine go_iald (pc := 48) C x3aA_8 h dX3_mileBy_48 (fun h => ?_)
      refine go_icmp_le (pc := 49) (tgt := 68) C dX3_mileBy_49 (by decide) h (fun h => ?_) (fun h => ?_)
      · refine go_iconst (pc := 68) (v := (0 : Int32)) C dX3_mileBy_68 (by decide) ?_
        refine go_iast (pc := 69) C x3pA_7 h dX3_mileBy_69 (fun h => ?_)
        refine go_iinc (pc := 70) (v := (v2 + (1 : Int32))) C hN dX3_mileBy_70 (q := 2) rfl rfl (by decide) rfl ?_
        refine go_goto (pc := 73) (tgt := 13) C dX3_mileBy_73 (by decide) ?_
        refine go_sub [1, 2, 0] rfl ?_
        exact hK13 ((bA s0 7 (v2).toNatClampNeg (0 : Int32)), (v2 + (1 : Int32))) h
      · refine go_aload_n (pc := 52) C dX3_mileBy_52 rfl 0 rfl ?_
        refine x3gr_7 (pc := 53) C dX3_mileBy_53 ?_
        refine go_iload_n (pc := 56) C dX3_mileBy_56 rfl 2 rfl ?_
        refine go_iald (pc := 57) C x3aA_7 h dX3_mileBy_57 (fun h => ?_)
        refine go_aload_n (pc := 58) C dX3_mileBy_58 rfl 0 rfl ?_
        refine x3gr_8 (pc := 59) C dX3_mileBy_59 ?_
        refine go_iload_n (pc := 62) C dX3_mileBy_62 rfl 2 rfl ?_
        refine go_iald (pc := 63) C x3aA_8 h dX3_mileBy_63 (fun h => ?_)
        refine go_isub (pc := 64) C dX3_mileBy_64 ?_
        refine go_goto (pc := 65) (tgt := 69) C dX3_mileBy_65 (by decide) ?_
        refine go_iast (pc := 69) C x3pA_7 h dX3_mileBy_69 (fun h => ?_)
        refine go_iinc (pc := 70) (v := (v2 + (1 : Int32))) C hN dX3_mileBy_70 (q := 2) rfl rfl (by decide) rfl ?_
        refine go_goto (pc := 73) (tgt := 13) C dX3_mileBy_73 (by decide) ?_
        refine go_sub [1, 2, 0] rfl ?_
        exact hK13 ((bA s0 7 (v2).toNatClampNeg ((s0.2.1 7 (v2).toNatClampNeg) - (s0.2.1 8 (v2).toNatClampNeg))), (v2 + (1 : Int32))) h
theorem m3_mileBy {l : Launch} {d : gD} {a : Nat → Nat} {s0 : Bl} {v1 : Int32} {r9 : Int32} {s9 : Bl} (h : f3_mileBy s0 v1 = some (r9, s9)) : Mt l d yX3_mileBy cX3_mileBy 5 (some .int) (6, 0, 0) 151 (bW d 3 FK3 a s0) [.ref (a 0), .int v1] (fun v w => v = some (.int r9) ∧ w = (bW d 3 FK3 a s9)) := by
  refine Mt.of x3pn (Nat.le_of_ble_eq_true rfl) ?_
  intro Γ hl hd hN C hE
  subst hl; subst hd
  show Go Γ 0 0 (bW Γ.d 3 FK3 a s0) 0 [(0, .ref (a 0)), (1, .int v1)] []
  dsimp only [f3_mileBy] at h
  refine go_aload_n (pc := 0) C dX3_mileBy_0 rfl 0 rfl ?_
  refine x3gr_1 (pc := 1) C dX3_mileBy_1 ?_
  refine go_bipush (pc := 4) (v := (6 : Int32)) C dX3_mileBy_4 (by decide) ?_
  refine go_dup2 (pc := 6) C dX3_mileBy_6 rfl rfl ?_
  refine go_ialdK (pc := 7) (j := 6) C x3aA_1 (by decide) (by decide) dX3_mileBy_7 ?_
  refine go_iconst (pc := 8) (v := (1 : Int32)) C dX3_mileBy_8 (by decide) ?_
  refine go_iadd (pc := 9) C dX3_mileBy_9 ?_
  refine go_iastK (pc := 10) (j := 6) C x3pA_1 (by decide) (by decide) dX3_mileBy_10 ?_
  refine go_iconst (pc := 11) (v := (0 : Int32)) C dX3_mileBy_11 (by decide) ?_
  refine go_istore_n (pc := 12) C hN dX3_mileBy_12 rfl (by decide) rfl ?_
  refine go_sub [1, 2, 0] rfl ?_
  exact w3_mileBy_13 hN C hE FU ((bA s0 1 6 ((s0.2.1 1 6) + (1 : Int32))), (0 : Int32)) h
theorem m3_goesMile {l : Launch} {d : gD} {a : Nat → Nat} {s0 : Bl} {r9 : Int32} {s9 : Bl} (h : f3_goesMile s0 = some (r9, s9)) : Mt l d yX3_goesMile cX3_goesMile 1 (some .int) (7, 0, 0) 175 (bW d 3 FK3 a s0) [.ref (a 0)] (fun v w => v = some (.int r9) ∧ w = (bW d 3 FK3 a s9)) := by
  refine Mt.of x3pn (Nat.le_of_ble_eq_true rfl) ?_
  intro Γ hl hd hN C hE
  subst hl; subst hd
  show Go Γ 0 0 (bW Γ.d 3 FK3 a s0) 0 [(0, .ref (a 0))] []
  dsimp only [f3_goesMile] at h
  refine go_aload_n (pc := 0) C dX3_goesMile_0 rfl 0 rfl ?_
  refine go_aload_n (pc := 1) C dX3_goesMile_1 rfl 0 rfl ?_
  refine go_aload_n (pc := 2) C dX3_goesMile_2 rfl 0 rfl ?_
  refine x3gr_1 (pc := 3) C dX3_goesMile_3 ?_
  refine go_bipush (pc := 6) (v := (6 : Int32)) C dX3_goesMile_6 (by decide) ?_
  refine go_ialdK (pc := 8) (j := 6) C x3aA_1 (by decide) (by decide) dX3_goesMile_8 ?_
  refine go_iconst (pc := 9) (v := (1 : Int32)) C dX3_goesMile_9 (by decide) ?_
  refine go_iadd (pc := 10) C dX3_goesMile_10 ?_
  obtain ⟨r1, e1, h⟩ := bnd_some h
  refine go_callVi (pc := 11) C [.int ((s0.2.1 1 6) + (1 : Int32))] (m3_forceAt e1) q1720 q1722 qs93 q144 q1723 x3pd_forceAt (by decide) (by decide) bW_O x3c rfl (Nat.le_of_ble_eq_true rfl) ⟨Nat.zero_le _, Nat.zero_le _⟩ dX3_goesMile_11 rfl ?_
  obtain ⟨r2, s2, e2, h⟩ := bnd2_some h
  refine go_callVi (pc := 14) C [.int r1] (m3_mileBy e2) q1780 q1782 qs105 q144 q1783 x3pd_mileBy (by decide) (by decide) bW_O x3c rfl (Nat.le_of_ble_eq_true rfl) ⟨Nat.zero_le _, Nat.zero_le _⟩ dX3_goesMile_14 rfl ?_
  exact (hE 0 0 _ _ _ (Nat.zero_le _) (Nat.zero_le _)).1 _ rfl dX3_goesMile_17 ⟨congrArg (fun z => some (Value.int z)) (some2 h).1, congrArg (fun z => bW Γ.d 3 FK3 a z) (some2 h).2⟩
theorem m3_mile {l : Launch} {d : gD} {a : Nat → Nat} {s0 : Bl} {r9 : Int32} {s9 : Bl} (h : f3_mile s0 = some (r9, s9)) : Mt l d yX3_mile cX3_mile 1 (some .int) (8, 0, 0) 195 (bW d 3 FK3 a s0) [.ref (a 0)] (fun v w => v = some (.int r9) ∧ w = (bW d 3 FK3 a s9)) := by
  refine Mt.of x3pn (Nat.le_of_ble_eq_true rfl) ?_
  intro Γ hl hd hN C hE
  subst hl; subst hd
  show Go Γ 0 0 (bW Γ.d 3 FK3 a s0) 0 [(0, .ref (a 0))] []
  dsimp only [f3_mile] at h
  refine go_aload_n (pc := 0) C dX3_mile_0 rfl 0 rfl ?_
  obtain ⟨r1, e1, h⟩ := bnd_some h
  refine go_callVi (pc := 1) C [] (m3_isRiver e1) q1716 q1718 qs92 q144 q1719 x3pd_isRiver (by decide) (by decide) bW_O x3c rfl (Nat.le_of_ble_eq_true rfl) ⟨Nat.zero_le _, Nat.zero_le _⟩ dX3_mile_1 rfl ?_
  refine go_if_eq (pc := 4) (tgt := 14) C dX3_mile_4 (by decide) h (fun h => ?_) (fun h => ?_)
  · refine go_iconst (pc := 14) (v := (-1 : Int32)) C dX3_mile_14 (by decide) ?_
    exact (hE 0 0 _ _ _ (Nat.zero_le _) (Nat.zero_le _)).1 _ rfl dX3_mile_15 ⟨congrArg (fun z => some (Value.int z)) (some2 h).1, congrArg (fun z => bW Γ.d 3 FK3 a z) (some2 h).2⟩
  · refine go_aload_n (pc := 7) C dX3_mile_7 rfl 0 rfl ?_
    obtain ⟨r2, e2, h⟩ := bnd_some h
    refine go_callVi (pc := 8) C [] (m3_milesLeft e2) q1768 q1770 qs102 q144 q1771 x3pd_milesLeft (by decide) (by decide) bW_O x3c rfl (Nat.le_of_ble_eq_true rfl) ⟨Nat.zero_le _, Nat.zero_le _⟩ dX3_mile_8 rfl ?_
    refine go_if_ne (pc := 11) (tgt := 16) C dX3_mile_11 (by decide) h (fun h => ?_) (fun h => ?_)
    · refine go_aload_n (pc := 16) C dX3_mile_16 rfl 0 rfl ?_
      obtain ⟨s3, e3, h⟩ := bnd_some h
      refine go_callVv (pc := 17) C [] (m3_keepsAct e3) q1772 q1774 qs103 q144 q1775 x3pd_keepsAct (by decide) (by decide) bW_O x3c rfl (Nat.le_of_ble_eq_true rfl) ⟨Nat.zero_le _, Nat.zero_le _⟩ dX3_mile_17 rfl ?_
      refine go_aload_n (pc := 20) C dX3_mile_20 rfl 0 rfl ?_
      obtain ⟨r4, s4, e4, h⟩ := bnd2_some h
      refine go_callVi (pc := 21) C [] (m3_goesMile e4) q1776 q1778 qs104 q144 q1779 x3pd_goesMile (by decide) (by decide) bW_O x3c rfl (Nat.le_of_ble_eq_true rfl) ⟨Nat.zero_le _, Nat.zero_le _⟩ dX3_mile_21 rfl ?_
      exact (hE 0 0 _ _ _ (Nat.zero_le _) (Nat.zero_le _)).1 _ rfl dX3_mile_24 ⟨congrArg (fun z => some (Value.int z)) (some2 h).1, congrArg (fun z => bW Γ.d 3 FK3 a z) (some2 h).2⟩
    · refine go_iconst (pc := 14) (v := (-1 : Int32)) C dX3_mile_14 (by decide) ?_
      exact (hE 0 0 _ _ _ (Nat.zero_le _) (Nat.zero_le _)).1 _ rfl dX3_mile_15 ⟨congrArg (fun z => some (Value.int z)) (some2 h).1, congrArg (fun z => bW Γ.d 3 FK3 a z) (some2 h).2⟩
theorem w3_isBound_32 {Γ : Gam} {a : Nat → Nat} {s0 : Bl} {v1 : Int32} {v2 : Int32} {v3 : Int32} {r9 : Int32} {K2 : Int32 → Option Int32} (hN : Γ.nL = 4) (C : Cx Γ cX3_isBound RX3 (0, 0, 0) 0) (hE : Rets Γ cX3_isBound (some .boolean) 0 0 (fun v w => v = some (.int r9) ∧ w = (bW Γ.d 3 FK3 a s0)))
    (hK2 : ∀ s, K2 s = some r9 → (fun s : Int32 => Go Γ 0 0 (bW Γ.d 3 FK3 a s0) 2 [(0, .ref (a 0)), (1, .int v1), (2, .int v2), (3, .int s)] []) s) (h : g3_isBound_32 s0 K2 v1 v2 v3 = some r9) : Go Γ 0 0 (bW Γ.d 3 FK3 a s0) 32 [(0, .ref (a 0)), (1, .int v1), (2, .int v2), (3, .int v3)] [] := by
  dsimp only [g3_isBound_32] at h
  refine go_aload_n (pc := 32) C dX3_isBound_32 rfl 0 rfl ?_
  refine x3gr_11 (pc := 33) C dX3_isBound_33 ?_
  refine go_iload_n (pc := 36) C dX3_isBound_36 rfl 3 rfl ?_
  refine go_iald (pc := 37) C x3aA_11 h dX3_isBound_37 (fun h => ?_)
  refine go_iload_n (pc := 38) C dX3_isBound_38 rfl 2 rfl ?_
  refine go_icmp_ne (pc := 39) (tgt := 54) C dX3_isBound_39 (by decide) h (fun h => ?_) (fun h => ?_)
  · refine go_iinc (pc := 54) (v := (v3 + (1 : Int32))) C hN dX3_isBound_54 (q := 3) rfl rfl (by decide) rfl ?_
    refine go_goto (pc := 57) (tgt := 2) C dX3_isBound_57 (by decide) ?_
    refine go_sub [1, 2, 3, 0] rfl ?_
    exact hK2 (v3 + (1 : Int32)) h
  · refine go_aload_n (pc := 42) C dX3_isBound_42 rfl 0 rfl ?_
    refine x3gr_12 (pc := 43) C dX3_isBound_43 ?_
    refine go_iload_n (pc := 46) C dX3_isBound_46 rfl 3 rfl ?_
    refine go_iald (pc := 47) C x3aA_12 h dX3_isBound_47 (fun h => ?_)
    refine go_iload_n (pc := 48) C dX3_isBound_48 rfl 1 rfl ?_
    refine go_icmp_ne (pc := 49) (tgt := 54) C dX3_isBound_49 (by decide) h (fun h => ?_) (fun h => ?_)
    · refine go_iinc (pc := 54) (v := (v3 + (1 : Int32))) C hN dX3_isBound_54 (q := 3) rfl rfl (by decide) rfl ?_
      refine go_goto (pc := 57) (tgt := 2) C dX3_isBound_57 (by decide) ?_
      refine go_sub [1, 2, 3, 0] rfl ?_
      exact hK2 (v3 + (1 : Int32)) h
    · refine go_iconst (pc := 52) (v := (1 : Int32)) C dX3_isBound_52 (by decide) ?_
      exact (hE 0 0 _ _ _ (Nat.zero_le _) (Nat.zero_le _)).2.1 _ rfl (Or.inr rfl) dX3_isBound_53 ⟨congrArg (fun z => some (Value.int z)) (some1 h), rfl⟩
theorem w3_isBound_2 {Γ : Gam} {a : Nat → Nat} {s0 : Bl} {v1 : Int32} {v2 : Int32} {r9 : Int32} (hN : Γ.nL = 4) (C : Cx Γ cX3_isBound RX3 (0, 0, 0) 0) (hE : Rets Γ cX3_isBound (some .boolean) 0 0 (fun v w => v = some (.int r9) ∧ w = (bW Γ.d 3 FK3 a s0))) : ∀ (n : Nat) (s : Int32), loop (g3_isBound_2 s0 v1 v2) n s = some r9 → (fun s : Int32 => Go Γ 0 0 (bW Γ.d 3 FK3 a s0) 2 [(0, .ref (a 0)), (1, .int v1), (2, .int v2), (3, .int s)] []) s := by
  refine loop_walk (P := fun s : Int32 => Go Γ 0 0 (bW Γ.d 3 FK3 a s0) 2 [(0, .ref (a 0)), (1, .int v1), (2, .int v2), (3, .int s)] []) ?_
  intro K2 hK2 s h
  obtain ⟨v3, rfl⟩ : ∃ z, z = s := ⟨_, rfl⟩
  dsimp only [g3_isBound_2] at h
  show Go Γ 0 0 (bW Γ.d 3 FK3 a s0) 2 [(0, .ref (a 0)), (1, .int v1), (2, .int v2), (3, .int v3)] []
  refine go_iload_n (pc := 2) C dX3_isBound_2 rfl 3 rfl ?_
  refine go_aload_n (pc := 3) C dX3_isBound_3 rfl 0 rfl ?_
  refine x3gr_1 (pc := 4) C dX3_isBound_4 ?_
  refine go_iconst (pc := 7) (v := (4 : Int32)) C dX3_isBound_7 (by decide) ?_
  refine go_ialdK (pc := 8) (j := 4) C x3aA_1 (by decide) (by decide) dX3_isBound_8 ?_
  refine go_icmp_ge (pc := 9) (tgt := 60) C dX3_isBound_9 (by decide) h (fun h => ?_) (fun h => ?_)
  · refine go_iconst (pc := 60) (v := (0 : Int32)) C dX3_isBound_60 (by decide) ?_
    exact (hE 0 0 _ _ _ (Nat.zero_le _) (Nat.zero_le _)).2.1 _ rfl (Or.inl rfl) dX3_isBound_61 ⟨congrArg (fun z => some (Value.int z)) (some1 h), rfl⟩
  · refine go_aload_n (pc := 12) C dX3_isBound_12 rfl 0 rfl ?_
    refine x3gr_11 (pc := 13) C dX3_isBound_13 ?_
    refine go_iload_n (pc := 16) C dX3_isBound_16 rfl 3 rfl ?_
    refine go_iald (pc := 17) C x3aA_11 h dX3_isBound_17 (fun h => ?_)
    refine go_iload_n (pc := 18) C dX3_isBound_18 rfl 1 rfl ?_
    refine go_icmp_ne (pc := 19) (tgt := 32) C dX3_isBound_19 (by decide) h (fun h => ?_) (fun h => ?_)
    · exact w3_isBound_32 hN C hE hK2 h
    · refine go_aload_n (pc := 22) C dX3_isBound_22 rfl 0 rfl ?_
      refine x3gr_12 (pc := 23) C dX3_isBound_23 ?_
      refine go_iload_n (pc := 26) C dX3_isBound_26 rfl 3 rfl ?_
      refine go_iald (pc := 27) C x3aA_12 h dX3_isBound_27 (fun h => ?_)
      refine go_iload_n (pc := 28) C dX3_isBound_28 rfl 2 rfl ?_
      refine go_icmp_eq (pc := 29) (tgt := 52) C dX3_isBound_29 (by decide) h (fun h => ?_) (fun h => ?_)
      · refine go_iconst (pc := 52) (v := (1 : Int32)) C dX3_isBound_52 (by decide) ?_
        exact (hE 0 0 _ _ _ (Nat.zero_le _) (Nat.zero_le _)).2.1 _ rfl (Or.inr rfl) dX3_isBound_53 ⟨congrArg (fun z => some (Value.int z)) (some1 h), rfl⟩
      · exact w3_isBound_32 hN C hE hK2 h
theorem m3_isBound {l : Launch} {d : gD} {a : Nat → Nat} {s0 : Bl} {v1 : Int32} {v2 : Int32} {r9 : Int32} (h : f3_isBound s0 v1 v2 = some r9) : Mt l d yX3_isBound cX3_isBound 4 (some .boolean) (0, 0, 0) 0 (bW d 3 FK3 a s0) [.ref (a 0), .int v1, .int v2] (fun v w => v = some (.int r9) ∧ w = (bW d 3 FK3 a s0)) := by
  refine Mt.of x3pn (Nat.le_of_ble_eq_true rfl) ?_
  intro Γ hl hd hN C hE
  subst hl; subst hd
  show Go Γ 0 0 (bW Γ.d 3 FK3 a s0) 0 [(0, .ref (a 0)), (1, .int v1), (2, .int v2)] []
  dsimp only [f3_isBound] at h
  refine go_iconst (pc := 0) (v := (0 : Int32)) C dX3_isBound_0 (by decide) ?_
  refine go_istore_n (pc := 1) C hN dX3_isBound_1 rfl (by decide) rfl ?_
  refine go_sub [1, 2, 3, 0] rfl ?_
  exact w3_isBound_2 hN C hE FU (0 : Int32) h
theorem m3_canBind {l : Launch} {d : gD} {a : Nat → Nat} {s0 : Bl} {v1 : Int32} {v2 : Int32} {v3 : Int32} {r9 : Int32} (h : f3_canBind s0 v1 v2 v3 = some r9) : Mt l d yX3_canBind cX3_canBind 4 (some .boolean) (3, 0, 0) 67 (bW d 3 FK3 a s0) [.ref (a 0), .int v1, .int v2, .int v3] (fun v w => v = some (.int r9) ∧ w = (bW d 3 FK3 a s0)) := by
  refine Mt.of x3pn (Nat.le_of_ble_eq_true rfl) ?_
  intro Γ hl hd hN C hE
  subst hl; subst hd
  show Go Γ 0 0 (bW Γ.d 3 FK3 a s0) 0 [(0, .ref (a 0)), (1, .int v1), (2, .int v2), (3, .int v3)] []
  dsimp only [f3_canBind] at h
  refine go_aload_n (pc := 0) C dX3_canBind_0 rfl 0 rfl ?_
  refine go_iload_n (pc := 1) C dX3_canBind_1 rfl 1 rfl ?_
  obtain ⟨r1, e1, h⟩ := bnd_some h
  refine go_callVi (pc := 2) C [.int v1] (m3_isAfloat e1) q1728 q1730 qs94 q144 q1731 x3pd_isAfloat (by decide) (by decide) bW_O x3c rfl (Nat.le_of_ble_eq_true rfl) ⟨Nat.zero_le _, Nat.zero_le _⟩ dX3_canBind_2 rfl ?_
  refine go_if_eq (pc := 5) (tgt := 67) C dX3_canBind_5 (by decide) h (fun h => ?_) (fun h => ?_)
  · refine go_iconst (pc := 67) (v := (0 : Int32)) C dX3_canBind_67 (by decide) ?_
    exact (hE 0 0 _ _ _ (Nat.zero_le _) (Nat.zero_le _)).2.1 _ rfl (Or.inl rfl) dX3_canBind_68 ⟨congrArg (fun z => some (Value.int z)) (some1 h), rfl⟩
  · refine go_aload_n (pc := 8) C dX3_canBind_8 rfl 0 rfl ?_
    refine go_iload_n (pc := 9) C dX3_canBind_9 rfl 2 rfl ?_
    obtain ⟨r2, e2, h⟩ := bnd_some h
    refine go_callVi (pc := 10) C [.int v2] (m3_isAfloat e2) q1728 q1730 qs94 q144 q1731 x3pd_isAfloat (by decide) (by decide) bW_O x3c rfl (Nat.le_of_ble_eq_true rfl) ⟨Nat.zero_le _, Nat.zero_le _⟩ dX3_canBind_10 rfl ?_
    refine go_if_eq (pc := 13) (tgt := 67) C dX3_canBind_13 (by decide) h (fun h => ?_) (fun h => ?_)
    · refine go_iconst (pc := 67) (v := (0 : Int32)) C dX3_canBind_67 (by decide) ?_
      exact (hE 0 0 _ _ _ (Nat.zero_le _) (Nat.zero_le _)).2.1 _ rfl (Or.inl rfl) dX3_canBind_68 ⟨congrArg (fun z => some (Value.int z)) (some1 h), rfl⟩
    · refine go_iload_n (pc := 16) C dX3_canBind_16 rfl 1 rfl ?_
      refine go_iload_n (pc := 17) C dX3_canBind_17 rfl 2 rfl ?_
      refine go_icmp_eq (pc := 18) (tgt := 67) C dX3_canBind_18 (by decide) h (fun h => ?_) (fun h => ?_)
      · refine go_iconst (pc := 67) (v := (0 : Int32)) C dX3_canBind_67 (by decide) ?_
        exact (hE 0 0 _ _ _ (Nat.zero_le _) (Nat.zero_le _)).2.1 _ rfl (Or.inl rfl) dX3_canBind_68 ⟨congrArg (fun z => some (Value.int z)) (some1 h), rfl⟩
      · refine go_iload_n (pc := 21) C dX3_canBind_21 rfl 3 rfl ?_
        refine go_i2l (pc := 22) C dX3_canBind_22 ?_
        refine go_lconst (pc := 23) (v := (1 : Int64)) C dX3_canBind_23 (by decide) ?_
        refine go_ldc2 (pc := 24) C dX3_canBind_24 q1811 ?_
        obtain ⟨r3, e3, h⟩ := bnd_some h
        refine go_callSi (pc := 27) C [.long (v3).toInt64, .long (1 : Int64), .long (9 : Int64)] (m3_in e3) q1564 q1565 q144 q1566 x3pd_in (by decide) (by decide) rfl (Nat.le_of_ble_eq_true rfl) ⟨Nat.zero_le _, Nat.zero_le _⟩ dX3_canBind_27 rfl ?_
        refine go_if_eq (pc := 30) (tgt := 67) C dX3_canBind_30 (by decide) h (fun h => ?_) (fun h => ?_)
        · refine go_iconst (pc := 67) (v := (0 : Int32)) C dX3_canBind_67 (by decide) ?_
          exact (hE 0 0 _ _ _ (Nat.zero_le _) (Nat.zero_le _)).2.1 _ rfl (Or.inl rfl) dX3_canBind_68 ⟨congrArg (fun z => some (Value.int z)) (some1 h), rfl⟩
        · refine go_iload_n (pc := 33) C dX3_canBind_33 rfl 3 rfl ?_
          refine go_aload_n (pc := 34) C dX3_canBind_34 rfl 0 rfl ?_
          refine x3gr_1 (pc := 35) C dX3_canBind_35 ?_
          refine go_iconst (pc := 38) (v := (1 : Int32)) C dX3_canBind_38 (by decide) ?_
          refine go_ialdK (pc := 39) (j := 1) C x3aA_1 (by decide) (by decide) dX3_canBind_39 ?_
          refine go_icmp_gt (pc := 40) (tgt := 67) C dX3_canBind_40 (by decide) h (fun h => ?_) (fun h => ?_)
          · refine go_iconst (pc := 67) (v := (0 : Int32)) C dX3_canBind_67 (by decide) ?_
            exact (hE 0 0 _ _ _ (Nat.zero_le _) (Nat.zero_le _)).2.1 _ rfl (Or.inl rfl) dX3_canBind_68 ⟨congrArg (fun z => some (Value.int z)) (some1 h), rfl⟩
          · refine go_aload_n (pc := 43) C dX3_canBind_43 rfl 0 rfl ?_
            refine x3gr_1 (pc := 44) C dX3_canBind_44 ?_
            refine go_iconst (pc := 47) (v := (4 : Int32)) C dX3_canBind_47 (by decide) ?_
            refine go_ialdK (pc := 48) (j := 4) C x3aA_1 (by decide) (by decide) dX3_canBind_48 ?_
            refine go_bipush (pc := 49) (v := (12 : Int32)) C dX3_canBind_49 (by decide) ?_
            refine go_icmp_ge (pc := 51) (tgt := 67) C dX3_canBind_51 (by decide) h (fun h => ?_) (fun h => ?_)
            · refine go_iconst (pc := 67) (v := (0 : Int32)) C dX3_canBind_67 (by decide) ?_
              exact (hE 0 0 _ _ _ (Nat.zero_le _) (Nat.zero_le _)).2.1 _ rfl (Or.inl rfl) dX3_canBind_68 ⟨congrArg (fun z => some (Value.int z)) (some1 h), rfl⟩
            · refine go_aload_n (pc := 54) C dX3_canBind_54 rfl 0 rfl ?_
              refine go_iload_n (pc := 55) C dX3_canBind_55 rfl 1 rfl ?_
              refine go_iload_n (pc := 56) C dX3_canBind_56 rfl 2 rfl ?_
              obtain ⟨r4, e4, h⟩ := bnd_some h
              refine go_callVi (pc := 57) C [.int v1, .int v2] (m3_isBound e4) q1812 q1814 qs111 q144 q1815 x3pd_isBound (by decide) (by decide) bW_O x3c rfl (Nat.le_of_ble_eq_true rfl) ⟨Nat.zero_le _, Nat.zero_le _⟩ dX3_canBind_57 rfl ?_
              refine go_if_ne (pc := 60) (tgt := 67) C dX3_canBind_60 (by decide) h (fun h => ?_) (fun h => ?_)
              · refine go_iconst (pc := 67) (v := (0 : Int32)) C dX3_canBind_67 (by decide) ?_
                exact (hE 0 0 _ _ _ (Nat.zero_le _) (Nat.zero_le _)).2.1 _ rfl (Or.inl rfl) dX3_canBind_68 ⟨congrArg (fun z => some (Value.int z)) (some1 h), rfl⟩
              · refine go_iconst (pc := 63) (v := (1 : Int32)) C dX3_canBind_63 (by decide) ?_
                refine go_goto (pc := 64) (tgt := 68) C dX3_canBind_64 (by decide) ?_
                exact (hE 0 0 _ _ _ (Nat.zero_le _) (Nat.zero_le _)).2.1 _ rfl (Or.inr rfl) dX3_canBind_68 ⟨congrArg (fun z => some (Value.int z)) (some1 h), rfl⟩
theorem w3_binds_41 {Γ : Gam} {a : Nat → Nat} {s0 : Bl} {v3 : Int32} {v4 : Int32} {z0 : Int32} {z1 : Int32} {r9 : Int32} {s9 : Bl} (hN : Γ.nL = 5) (C : Cx Γ cX3_binds RX3 (0, 0, 0) 0) (hE : Rets Γ cX3_binds (some .int) 0 0 (fun v w => v = some (.int r9) ∧ w = (bW Γ.d 3 FK3 a s9))) (h : g3_binds_41 s0 v3 v4 z0 z1 = some (r9, s9)) : Go Γ 0 0 (bW Γ.d 3 FK3 a s0) 41 [(0, .ref (a 0)), (3, .int v3), (4, .int v4)] [.int z0, .int z1, .ref (a (12 + 1))] := by
  dsimp only [g3_binds_41] at h
  refine go_iast (pc := 41) C x3pA_12 h dX3_binds_41 (fun h => ?_)
  refine go_aload_n (pc := 42) C dX3_binds_42 rfl 0 rfl ?_
  refine x3gr_13 (pc := 43) C dX3_binds_43 ?_
  refine go_iload (pc := 46) C dX3_binds_46 2 rfl ?_
  refine go_iload_n (pc := 48) C dX3_binds_48 rfl 1 rfl ?_
  refine go_iast (pc := 49) C x3pA_13 h dX3_binds_49 (fun h => ?_)
  refine go_aload_n (pc := 50) C dX3_binds_50 rfl 0 rfl ?_
  refine x3gr_1 (pc := 51) C dX3_binds_51 ?_
  refine go_iconst (pc := 54) (v := (1 : Int32)) C dX3_binds_54 (by decide) ?_
  refine go_dup2 (pc := 55) C dX3_binds_55 rfl rfl ?_
  refine go_ialdK (pc := 56) (j := 1) C x3aA_1 (by decide) (by decide) dX3_binds_56 ?_
  refine go_iload_n (pc := 57) C dX3_binds_57 rfl 1 rfl ?_
  refine go_isub (pc := 58) C dX3_binds_58 ?_
  refine go_iastK (pc := 59) (j := 1) C x3pA_1 (by decide) (by decide) dX3_binds_59 ?_
  refine go_nm (pc := 60) (fun z9 => (bW Γ.d 3 FK3 a z9)) (fun s1 es1 => ?_)
  have h := ltv_eq es1 h
  refine go_aload_n (pc := 60) C dX3_binds_60 rfl 0 rfl ?_
  refine x3gr_1 (pc := 61) C dX3_binds_61 ?_
  refine go_iconst (pc := 64) (v := (4 : Int32)) C dX3_binds_64 (by decide) ?_
  refine go_dup2 (pc := 65) C dX3_binds_65 rfl rfl ?_
  refine go_ialdK (pc := 66) (j := 4) C x3aA_1 (by decide) (by decide) dX3_binds_66 ?_
  refine go_iconst (pc := 67) (v := (1 : Int32)) C dX3_binds_67 (by decide) ?_
  refine go_iadd (pc := 68) C dX3_binds_68 ?_
  refine go_iastK (pc := 69) (j := 4) C x3pA_1 (by decide) (by decide) dX3_binds_69 ?_
  refine go_iload (pc := 70) C dX3_binds_70 2 rfl ?_
  exact (hE 0 0 _ _ _ (Nat.zero_le _) (Nat.zero_le _)).1 _ rfl dX3_binds_72 ⟨congrArg (fun z => some (Value.int z)) (some2 h).1, congrArg (fun z => bW Γ.d 3 FK3 a z) (some2 h).2⟩
theorem m3_binds {l : Launch} {d : gD} {a : Nat → Nat} {s0 : Bl} {v1 : Int32} {v2 : Int32} {v3 : Int32} {r9 : Int32} {s9 : Bl} (h : f3_binds s0 v1 v2 v3 = some (r9, s9)) : Mt l d yX3_binds cX3_binds 5 (some .int) (0, 0, 0) 0 (bW d 3 FK3 a s0) [.ref (a 0), .int v1, .int v2, .int v3] (fun v w => v = some (.int r9) ∧ w = (bW d 3 FK3 a s9)) := by
  refine Mt.of x3pn (Nat.le_of_ble_eq_true rfl) ?_
  intro Γ hl hd hN C hE
  subst hl; subst hd
  show Go Γ 0 0 (bW Γ.d 3 FK3 a s0) 0 [(0, .ref (a 0)), (1, .int v1), (2, .int v2), (3, .int v3)] []
  dsimp only [f3_binds] at h
  refine go_aload_n (pc := 0) C dX3_binds_0 rfl 0 rfl ?_
  refine x3gr_1 (pc := 1) C dX3_binds_1 ?_
  refine go_iconst (pc := 4) (v := (4 : Int32)) C dX3_binds_4 (by decide) ?_
  refine go_ialdK (pc := 5) (j := 4) C x3aA_1 (by decide) (by decide) dX3_binds_5 ?_
  refine go_istore (pc := 6) C hN dX3_binds_6 (by decide) rfl ?_
  refine go_aload_n (pc := 8) C dX3_binds_8 rfl 1 rfl ?_
  refine x3gr_11 (pc := 9) C dX3_binds_9 ?_
  refine go_iload (pc := 12) C dX3_binds_12 0 rfl ?_
  refine go_iload_n (pc := 14) C dX3_binds_14 rfl 2 rfl ?_
  refine go_iload_n (pc := 15) C dX3_binds_15 rfl 3 rfl ?_
  refine go_icmp_ge (pc := 16) (tgt := 23) C dX3_binds_16 (by decide) h (fun h => ?_) (fun h => ?_)
  · refine go_iload_n (pc := 23) C dX3_binds_23 rfl 3 rfl ?_
    refine go_iast (pc := 24) C x3pA_11 h dX3_binds_24 (fun h => ?_)
    refine go_aload_n (pc := 25) C dX3_binds_25 rfl 1 rfl ?_
    refine x3gr_12 (pc := 26) C dX3_binds_26 ?_
    refine go_iload (pc := 29) C dX3_binds_29 0 rfl ?_
    refine go_iload_n (pc := 31) C dX3_binds_31 rfl 2 rfl ?_
    refine go_iload_n (pc := 32) C dX3_binds_32 rfl 3 rfl ?_
    refine go_icmp_ge (pc := 33) (tgt := 40) C dX3_binds_33 (by decide) h (fun h => ?_) (fun h => ?_)
    · refine go_iload_n (pc := 40) C dX3_binds_40 rfl 2 rfl ?_
      refine go_sub [1, 4, 0] rfl ?_
      exact w3_binds_41 hN C hE h
    · refine go_iload_n (pc := 36) C dX3_binds_36 rfl 3 rfl ?_
      refine go_goto (pc := 37) (tgt := 41) C dX3_binds_37 (by decide) ?_
      refine go_sub [1, 4, 0] rfl ?_
      exact w3_binds_41 hN C hE h
  · refine go_iload_n (pc := 19) C dX3_binds_19 rfl 2 rfl ?_
    refine go_goto (pc := 20) (tgt := 24) C dX3_binds_20 (by decide) ?_
    refine go_iast (pc := 24) C x3pA_11 h dX3_binds_24 (fun h => ?_)
    refine go_aload_n (pc := 25) C dX3_binds_25 rfl 1 rfl ?_
    refine x3gr_12 (pc := 26) C dX3_binds_26 ?_
    refine go_iload (pc := 29) C dX3_binds_29 0 rfl ?_
    refine go_iload_n (pc := 31) C dX3_binds_31 rfl 2 rfl ?_
    refine go_iload_n (pc := 32) C dX3_binds_32 rfl 3 rfl ?_
    refine go_icmp_ge (pc := 33) (tgt := 40) C dX3_binds_33 (by decide) h (fun h => ?_) (fun h => ?_)
    · refine go_iload_n (pc := 40) C dX3_binds_40 rfl 2 rfl ?_
      refine go_sub [1, 4, 0] rfl ?_
      exact w3_binds_41 hN C hE h
    · refine go_iload_n (pc := 36) C dX3_binds_36 rfl 3 rfl ?_
      refine go_goto (pc := 37) (tgt := 41) C dX3_binds_37 (by decide) ?_
      refine go_sub [1, 4, 0] rfl ?_
      exact w3_binds_41 hN C hE h
theorem m3_bind {l : Launch} {d : gD} {a : Nat → Nat} {s0 : Bl} {v1 : Int32} {v2 : Int32} {v3 : Int32} {r9 : Int32} {s9 : Bl} (h : f3_bind s0 v1 v2 v3 = some (r9, s9)) : Mt l d yX3_bind cX3_bind 4 (some .int) (4, 0, 0) 90 (bW d 3 FK3 a s0) [.ref (a 0), .int v1, .int v2, .int v3] (fun v w => v = some (.int r9) ∧ w = (bW d 3 FK3 a s9)) := by
  refine Mt.of x3pn (Nat.le_of_ble_eq_true rfl) ?_
  intro Γ hl hd hN C hE
  subst hl; subst hd
  show Go Γ 0 0 (bW Γ.d 3 FK3 a s0) 0 [(0, .ref (a 0)), (1, .int v1), (2, .int v2), (3, .int v3)] []
  dsimp only [f3_bind] at h
  refine go_aload_n (pc := 0) C dX3_bind_0 rfl 0 rfl ?_
  refine go_iload_n (pc := 1) C dX3_bind_1 rfl 1 rfl ?_
  refine go_iload_n (pc := 2) C dX3_bind_2 rfl 2 rfl ?_
  refine go_iload_n (pc := 3) C dX3_bind_3 rfl 3 rfl ?_
  obtain ⟨r1, e1, h⟩ := bnd_some h
  refine go_callVi (pc := 4) C [.int v1, .int v2, .int v3] (m3_canBind e1) q1807 q1809 qs110 q144 q1810 x3pd_canBind (by decide) (by decide) bW_O x3c rfl (Nat.le_of_ble_eq_true rfl) ⟨Nat.zero_le _, Nat.zero_le _⟩ dX3_bind_4 rfl ?_
  refine go_if_ne (pc := 7) (tgt := 12) C dX3_bind_7 (by decide) h (fun h => ?_) (fun h => ?_)
  · refine go_aload_n (pc := 12) C dX3_bind_12 rfl 0 rfl ?_
    obtain ⟨s2, e2, h⟩ := bnd_some h
    refine go_callVv (pc := 13) C [] (m3_keepsAct e2) q1772 q1774 qs103 q144 q1775 x3pd_keepsAct (by decide) (by decide) bW_O x3c rfl (Nat.le_of_ble_eq_true rfl) ⟨Nat.zero_le _, Nat.zero_le _⟩ dX3_bind_13 rfl ?_
    refine go_aload_n (pc := 16) C dX3_bind_16 rfl 0 rfl ?_
    refine go_iload_n (pc := 17) C dX3_bind_17 rfl 1 rfl ?_
    refine go_iload_n (pc := 18) C dX3_bind_18 rfl 2 rfl ?_
    refine go_iload_n (pc := 19) C dX3_bind_19 rfl 3 rfl ?_
    obtain ⟨r3, s3, e3, h⟩ := bnd2_some h
    refine go_callVi (pc := 20) C [.int v1, .int v2, .int v3] (m3_binds e3) q1816 q1818 qs112 q144 q1819 x3pd_binds (by decide) (by decide) bW_O x3c rfl (Nat.le_of_ble_eq_true rfl) ⟨Nat.zero_le _, Nat.zero_le _⟩ dX3_bind_20 rfl ?_
    exact (hE 0 0 _ _ _ (Nat.zero_le _) (Nat.zero_le _)).1 _ rfl dX3_bind_23 ⟨congrArg (fun z => some (Value.int z)) (some2 h).1, congrArg (fun z => bW Γ.d 3 FK3 a z) (some2 h).2⟩
  · refine go_iconst (pc := 10) (v := (-1 : Int32)) C dX3_bind_10 (by decide) ?_
    exact (hE 0 0 _ _ _ (Nat.zero_le _) (Nat.zero_le _)).1 _ rfl dX3_bind_11 ⟨congrArg (fun z => some (Value.int z)) (some2 h).1, congrArg (fun z => bW Γ.d 3 FK3 a z) (some2 h).2⟩
theorem m3_cut {l : Launch} {d : gD} {a : Nat → Nat} {s0 : Bl} {v1 : Int32} {r9 : Int32} {s9 : Bl} (h : f3_cut s0 v1 = some (r9, s9)) : Mt l d yX3_cut cX3_cut 2 (some .int) (4, 0, 0) 87 (bW d 3 FK3 a s0) [.ref (a 0), .int v1] (fun v w => v = some (.int r9) ∧ w = (bW d 3 FK3 a s9)) := by
  refine Mt.of x3pn (Nat.le_of_ble_eq_true rfl) ?_
  intro Γ hl hd hN C hE
  subst hl; subst hd
  show Go Γ 0 0 (bW Γ.d 3 FK3 a s0) 0 [(0, .ref (a 0)), (1, .int v1)] []
  dsimp only [f3_cut] at h
  refine go_aload_n (pc := 0) C dX3_cut_0 rfl 0 rfl ?_
  refine go_iload_n (pc := 1) C dX3_cut_1 rfl 1 rfl ?_
  obtain ⟨r1, e1, h⟩ := bnd_some h
  refine go_callVi (pc := 2) C [.int v1] (m3_isRope e1) q1708 q1710 qs91 q144 q1711 x3pd_isRope (by decide) (by decide) bW_O x3c rfl (Nat.le_of_ble_eq_true rfl) ⟨Nat.zero_le _, Nat.zero_le _⟩ dX3_cut_2 rfl ?_
  refine go_if_ne (pc := 5) (tgt := 10) C dX3_cut_5 (by decide) h (fun h => ?_) (fun h => ?_)
  · refine go_aload_n (pc := 10) C dX3_cut_10 rfl 0 rfl ?_
    obtain ⟨s2, e2, h⟩ := bnd_some h
    refine go_callVv (pc := 11) C [] (m3_keepsAct e2) q1772 q1774 qs103 q144 q1775 x3pd_keepsAct (by decide) (by decide) bW_O x3c rfl (Nat.le_of_ble_eq_true rfl) ⟨Nat.zero_le _, Nat.zero_le _⟩ dX3_cut_11 rfl ?_
    refine go_aload_n (pc := 14) C dX3_cut_14 rfl 0 rfl ?_
    refine x3gr_1 (pc := 15) C dX3_cut_15 ?_
    refine go_iconst (pc := 18) (v := (1 : Int32)) C dX3_cut_18 (by decide) ?_
    refine go_dup2 (pc := 19) C dX3_cut_19 rfl rfl ?_
    refine go_ialdK (pc := 20) (j := 1) C x3aA_1 (by decide) (by decide) dX3_cut_20 ?_
    refine go_aload_n (pc := 21) C dX3_cut_21 rfl 0 rfl ?_
    refine x3gr_13 (pc := 22) C dX3_cut_22 ?_
    refine go_iload_n (pc := 25) C dX3_cut_25 rfl 1 rfl ?_
    refine go_iald (pc := 26) C x3aA_13 h dX3_cut_26 (fun h => ?_)
    refine go_iadd (pc := 27) C dX3_cut_27 ?_
    refine go_iastK (pc := 28) (j := 1) C x3pA_1 (by decide) (by decide) dX3_cut_28 ?_
    refine go_aload_n (pc := 29) C dX3_cut_29 rfl 0 rfl ?_
    refine go_iload_n (pc := 30) C dX3_cut_30 rfl 1 rfl ?_
    obtain ⟨s3, e3, h⟩ := bnd_some h
    refine go_callVv (pc := 31) C [.int v1] (m3_ropeGoes e3) q1784 q1786 qs106 q144 q1787 x3pd_ropeGoes (by decide) (by decide) bW_O x3c rfl (Nat.le_of_ble_eq_true rfl) ⟨Nat.zero_le _, Nat.zero_le _⟩ dX3_cut_31 rfl ?_
    refine go_aload_n (pc := 34) C dX3_cut_34 rfl 0 rfl ?_
    refine x3gr_1 (pc := 35) C dX3_cut_35 ?_
    refine go_iconst (pc := 38) (v := (1 : Int32)) C dX3_cut_38 (by decide) ?_
    refine go_ialdK (pc := 39) (j := 1) C x3aA_1 (by decide) (by decide) dX3_cut_39 ?_
    exact (hE 0 0 _ _ _ (Nat.zero_le _) (Nat.zero_le _)).1 _ rfl dX3_cut_40 ⟨congrArg (fun z => some (Value.int z)) (some2 h).1, congrArg (fun z => bW Γ.d 3 FK3 a z) (some2 h).2⟩
  · refine go_iconst (pc := 8) (v := (-1 : Int32)) C dX3_cut_8 (by decide) ?_
    exact (hE 0 0 _ _ _ (Nat.zero_le _) (Nat.zero_le _)).1 _ rfl dX3_cut_9 ⟨congrArg (fun z => some (Value.int z)) (some2 h).1, congrArg (fun z => bW Γ.d 3 FK3 a z) (some2 h).2⟩
theorem m3_saw {l : Launch} {d : gD} {a : Nat → Nat} {s0 : Bl} {v1 : Int32} {r9 : Int32} {s9 : Bl} (h : f3_saw s0 v1 = some (r9, s9)) : Mt l d yX3_saw cX3_saw 2 (some .int) (4, 0, 0) 87 (bW d 3 FK3 a s0) [.ref (a 0), .int v1] (fun v w => v = some (.int r9) ∧ w = (bW d 3 FK3 a s9)) := by
  refine Mt.of x3pn (Nat.le_of_ble_eq_true rfl) ?_
  intro Γ hl hd hN C hE
  subst hl; subst hd
  show Go Γ 0 0 (bW Γ.d 3 FK3 a s0) 0 [(0, .ref (a 0)), (1, .int v1)] []
  dsimp only [f3_saw] at h
  refine go_aload_n (pc := 0) C dX3_saw_0 rfl 0 rfl ?_
  refine go_iload_n (pc := 1) C dX3_saw_1 rfl 1 rfl ?_
  obtain ⟨r1, e1, h⟩ := bnd_some h
  refine go_callVi (pc := 2) C [.int v1] (m3_isAfloat e1) q1728 q1730 qs94 q144 q1731 x3pd_isAfloat (by decide) (by decide) bW_O x3c rfl (Nat.le_of_ble_eq_true rfl) ⟨Nat.zero_le _, Nat.zero_le _⟩ dX3_saw_2 rfl ?_
  refine go_if_ne (pc := 5) (tgt := 10) C dX3_saw_5 (by decide) h (fun h => ?_) (fun h => ?_)
  · refine go_aload_n (pc := 10) C dX3_saw_10 rfl 0 rfl ?_
    obtain ⟨s2, e2, h⟩ := bnd_some h
    refine go_callVv (pc := 11) C [] (m3_keepsAct e2) q1772 q1774 qs103 q144 q1775 x3pd_keepsAct (by decide) (by decide) bW_O x3c rfl (Nat.le_of_ble_eq_true rfl) ⟨Nat.zero_le _, Nat.zero_le _⟩ dX3_saw_11 rfl ?_
    refine go_aload_n (pc := 14) C dX3_saw_14 rfl 0 rfl ?_
    refine go_iconst (pc := 15) (v := (1 : Int32)) C dX3_saw_15 (by decide) ?_
    refine go_iload_n (pc := 16) C dX3_saw_16 rfl 1 rfl ?_
    refine go_ishl (pc := 17) C dX3_saw_17 ?_
    refine go_iconst (pc := 18) (v := (0 : Int32)) C dX3_saw_18 (by decide) ?_
    obtain ⟨r3, s3, e3, h⟩ := bnd2_some h
    refine go_callVi (pc := 19) C [.int ((1 : Int32) <<< (v1 &&& 31)), .int (0 : Int32)] (m3_ropesGoOf e3) q1792 q1794 qs108 q144 q1795 x3pd_ropesGoOf (by decide) (by decide) bW_O x3c rfl (Nat.le_of_ble_eq_true rfl) ⟨Nat.zero_le _, Nat.zero_le _⟩ dX3_saw_19 rfl ?_
    exact (hE 0 0 _ _ _ (Nat.zero_le _) (Nat.zero_le _)).1 _ rfl dX3_saw_22 ⟨congrArg (fun z => some (Value.int z)) (some2 h).1, congrArg (fun z => bW Γ.d 3 FK3 a z) (some2 h).2⟩
  · refine go_iconst (pc := 8) (v := (-1 : Int32)) C dX3_saw_8 (by decide) ?_
    exact (hE 0 0 _ _ _ (Nat.zero_le _) (Nat.zero_le _)).1 _ rfl dX3_saw_9 ⟨congrArg (fun z => some (Value.int z)) (some2 h).1, congrArg (fun z => bW Γ.d 3 FK3 a z) (some2 h).2⟩
theorem m3_push {l : Launch} {d : gD} {a : Nat → Nat} {s0 : Bl} {v1 : Int32} {v2 : Int32} {r9 : Int32} {s9 : Bl} (h : f3_push s0 v1 v2 = some (r9, s9)) : Mt l d yX3_push cX3_push 4 (some .int) (4, 0, 0) 87 (bW d 3 FK3 a s0) [.ref (a 0), .int v1, .int v2] (fun v w => v = some (.int r9) ∧ w = (bW d 3 FK3 a s9)) := by
  refine Mt.of x3pn (Nat.le_of_ble_eq_true rfl) ?_
  intro Γ hl hd hN C hE
  subst hl; subst hd
  show Go Γ 0 0 (bW Γ.d 3 FK3 a s0) 0 [(0, .ref (a 0)), (1, .int v1), (2, .int v2)] []
  dsimp only [f3_push] at h
  refine go_aload_n (pc := 0) C dX3_push_0 rfl 0 rfl ?_
  refine go_iload_n (pc := 1) C dX3_push_1 rfl 1 rfl ?_
  obtain ⟨r1, e1, h⟩ := bnd_some h
  refine go_callVi (pc := 2) C [.int v1] (m3_isAfloat e1) q1728 q1730 qs94 q144 q1731 x3pd_isAfloat (by decide) (by decide) bW_O x3c rfl (Nat.le_of_ble_eq_true rfl) ⟨Nat.zero_le _, Nat.zero_le _⟩ dX3_push_2 rfl ?_
  refine go_if_eq (pc := 5) (tgt := 26) C dX3_push_5 (by decide) h (fun h => ?_) (fun h => ?_)
  · refine go_iconst (pc := 26) (v := (-1 : Int32)) C dX3_push_26 (by decide) ?_
    exact (hE 0 0 _ _ _ (Nat.zero_le _) (Nat.zero_le _)).1 _ rfl dX3_push_27 ⟨congrArg (fun z => some (Value.int z)) (some2 h).1, congrArg (fun z => bW Γ.d 3 FK3 a z) (some2 h).2⟩
  · refine go_aload_n (pc := 8) C dX3_push_8 rfl 0 rfl ?_
    refine go_iload_n (pc := 9) C dX3_push_9 rfl 2 rfl ?_
    obtain ⟨r2, e2, h⟩ := bnd_some h
    refine go_callVi (pc := 10) C [.int v2] (m3_isOwner e2) q1666 q1668 qs84 q144 q1669 x3pd_isOwner (by decide) (by decide) bW_O x3c rfl (Nat.le_of_ble_eq_true rfl) ⟨Nat.zero_le _, Nat.zero_le _⟩ dX3_push_10 rfl ?_
    refine go_if_eq (pc := 13) (tgt := 26) C dX3_push_13 (by decide) h (fun h => ?_) (fun h => ?_)
    · refine go_iconst (pc := 26) (v := (-1 : Int32)) C dX3_push_26 (by decide) ?_
      exact (hE 0 0 _ _ _ (Nat.zero_le _) (Nat.zero_le _)).1 _ rfl dX3_push_27 ⟨congrArg (fun z => some (Value.int z)) (some2 h).1, congrArg (fun z => bW Γ.d 3 FK3 a z) (some2 h).2⟩
    · refine go_aload_n (pc := 16) C dX3_push_16 rfl 0 rfl ?_
      refine x3gr_5 (pc := 17) C dX3_push_17 ?_
      refine go_iload_n (pc := 20) C dX3_push_20 rfl 1 rfl ?_
      refine go_iald (pc := 21) C x3aA_5 h dX3_push_21 (fun h => ?_)
      refine go_iload_n (pc := 22) C dX3_push_22 rfl 2 rfl ?_
      refine go_icmp_ne (pc := 23) (tgt := 28) C dX3_push_23 (by decide) h (fun h => ?_) (fun h => ?_)
      · refine go_aload_n (pc := 28) C dX3_push_28 rfl 0 rfl ?_
        obtain ⟨s3, e3, h⟩ := bnd_some h
        refine go_callVv (pc := 29) C [] (m3_keepsAct e3) q1772 q1774 qs103 q144 q1775 x3pd_keepsAct (by decide) (by decide) bW_O x3c rfl (Nat.le_of_ble_eq_true rfl) ⟨Nat.zero_le _, Nat.zero_le _⟩ dX3_push_29 rfl ?_
        refine go_aload_n (pc := 32) C dX3_push_32 rfl 0 rfl ?_
        refine x3gr_5 (pc := 33) C dX3_push_33 ?_
        refine go_iload_n (pc := 36) C dX3_push_36 rfl 1 rfl ?_
        refine go_iald (pc := 37) C x3aA_5 h dX3_push_37 (fun h => ?_)
        refine go_istore_n (pc := 38) C hN dX3_push_38 rfl (by decide) rfl ?_
        refine go_aload_n (pc := 39) C dX3_push_39 rfl 1 rfl ?_
        refine x3gr_5 (pc := 40) C dX3_push_40 ?_
        refine go_iload_n (pc := 43) C dX3_push_43 rfl 2 rfl ?_
        refine go_iload_n (pc := 44) C dX3_push_44 rfl 3 rfl ?_
        refine go_iast (pc := 45) C x3pA_5 h dX3_push_45 (fun h => ?_)
        refine go_iload_n (pc := 46) C dX3_push_46 rfl 0 rfl ?_
        exact (hE 0 0 _ _ _ (Nat.zero_le _) (Nat.zero_le _)).1 _ rfl dX3_push_47 ⟨congrArg (fun z => some (Value.int z)) (some2 h).1, congrArg (fun z => bW Γ.d 3 FK3 a z) (some2 h).2⟩
      · refine go_iconst (pc := 26) (v := (-1 : Int32)) C dX3_push_26 (by decide) ?_
        exact (hE 0 0 _ _ _ (Nat.zero_le _) (Nat.zero_le _)).1 _ rfl dX3_push_27 ⟨congrArg (fun z => some (Value.int z)) (some2 h).1, congrArg (fun z => bW Γ.d 3 FK3 a z) (some2 h).2⟩
theorem m3_undo {l : Launch} {d : gD} {a : Nat → Nat} {s0 : Bl} {r9 : Int32} {s9 : Bl} (h : f3_undo s0 = some (r9, s9)) : Mt l d yX3_undo cX3_undo 1 (some .int) (3, 0, 0) 66 (bW d 3 FK3 a s0) [.ref (a 0)] (fun v w => v = some (.int r9) ∧ w = (bW d 3 FK3 a s9)) := by
  refine Mt.of x3pn (Nat.le_of_ble_eq_true rfl) ?_
  intro Γ hl hd hN C hE
  subst hl; subst hd
  show Go Γ 0 0 (bW Γ.d 3 FK3 a s0) 0 [(0, .ref (a 0))] []
  dsimp only [f3_undo] at h
  refine go_aload_n (pc := 0) C dX3_undo_0 rfl 0 rfl ?_
  refine x3gi_55 (pc := 1) C dX3_undo_1 ?_
  refine go_if_ne (pc := 4) (tgt := 10) C dX3_undo_4 (by decide) h (fun h => ?_) (fun h => ?_)
  · refine go_aload_n (pc := 10) C dX3_undo_10 rfl 0 rfl ?_
    refine go_dup (pc := 11) C dX3_undo_11 rfl ?_
    refine x3gi_55 (pc := 12) C dX3_undo_12 ?_
    refine go_iconst (pc := 15) (v := (1 : Int32)) C dX3_undo_15 (by decide) ?_
    refine go_isub (pc := 16) C dX3_undo_16 ?_
    refine x3pi_55 (pc := 17) C dX3_undo_17 ?_
    refine go_aload_n (pc := 20) C dX3_undo_20 rfl 0 rfl ?_
    refine go_aload_n (pc := 21) C dX3_undo_21 rfl 0 rfl ?_
    refine x3gi_55 (pc := 22) C dX3_undo_22 ?_
    refine go_iconst (pc := 25) (v := (1 : Int32)) C dX3_undo_25 (by decide) ?_
    obtain ⟨s1, e1, h⟩ := bnd_some h
    refine go_callVv (pc := 26) C [.int ((bI s0 55 ((s0.1 55) - (1 : Int32))).1 55), .int (1 : Int32)] (m3_movesAll e1) q1752 q1754 qs99 q144 q1755 x3pd_movesAll (by decide) (by decide) bW_O x3c rfl (Nat.le_of_ble_eq_true rfl) ⟨Nat.zero_le _, Nat.zero_le _⟩ dX3_undo_26 rfl ?_
    refine go_aload_n (pc := 29) C dX3_undo_29 rfl 0 rfl ?_
    refine x3gi_55 (pc := 30) C dX3_undo_30 ?_
    exact (hE 0 0 _ _ _ (Nat.zero_le _) (Nat.zero_le _)).1 _ rfl dX3_undo_33 ⟨congrArg (fun z => some (Value.int z)) (some2 h).1, congrArg (fun z => bW Γ.d 3 FK3 a z) (some2 h).2⟩
  · refine go_bipush (pc := 7) (v := (-2 : Int32)) C dX3_undo_7 (by decide) ?_
    exact (hE 0 0 _ _ _ (Nat.zero_le _) (Nat.zero_le _)).1 _ rfl dX3_undo_9 ⟨congrArg (fun z => some (Value.int z)) (some2 h).1, congrArg (fun z => bW Γ.d 3 FK3 a z) (some2 h).2⟩
theorem w3_carryRow_2 {Γ : Gam} {a : Nat → Nat} {k1 : Nat} {n1 : Nat} {s9 : Bl} (hN : Γ.nL = 3) (C : Cx Γ cX3_carryRow RX3 (0, 0, 0) 0) (hE : Rets Γ cX3_carryRow none 0 0 (fun v w => v = none ∧ w = (bW Γ.d 3 FK3 a s9))) (hk1 : FK3[k1]? = some (1, n1)) : ∀ (n : Nat) (s : Bl × Int32), loop (g3_carryRow_2 k1 n1) n s = some s9 → (fun s : Bl × Int32 => Go Γ 0 0 (bW Γ.d 3 FK3 a s.1) 2 [(0, .ref (a 0)), (1, .ref (a (k1 + 1))), (2, .int s.2)] []) s := by
  refine loop_walk (P := fun s : Bl × Int32 => Go Γ 0 0 (bW Γ.d 3 FK3 a s.1) 2 [(0, .ref (a 0)), (1, .ref (a (k1 + 1))), (2, .int s.2)] []) ?_
  intro K2 hK2 s h
  obtain ⟨s0, v2⟩ := s
  dsimp only [g3_carryRow_2] at h
  show Go Γ 0 0 (bW Γ.d 3 FK3 a s0) 2 [(0, .ref (a 0)), (1, .ref (a (k1 + 1))), (2, .int v2)] []
  refine go_iload_n (pc := 2) C dX3_carryRow_2 rfl 2 rfl ?_
  refine go_aload_n (pc := 3) C dX3_carryRow_3 rfl 1 rfl ?_
  refine go_alen (pc := 4) (t := 0) C (bW_A hk1 (by decide)) rfl rfl dX3_carryRow_4 ?_
  refine go_icmp_ge (pc := 5) (tgt := 58) C dX3_carryRow_5 (by decide) h (fun h => ?_) (fun h => ?_)
  · exact (hE 0 0 _ _ _ (Nat.zero_le _) (Nat.zero_le _)).2.2.2.1 rfl dX3_carryRow_58 ⟨rfl, congrArg (fun z => bW Γ.d 3 FK3 a z) (some1 h)⟩
  · refine go_aload_n (pc := 8) C dX3_carryRow_8 rfl 0 rfl ?_
    refine x3gi_72 (pc := 9) C dX3_carryRow_9 ?_
    refine go_if_eq (pc := 12) (tgt := 30) C dX3_carryRow_12 (by decide) h (fun h => ?_) (fun h => ?_)
    · refine go_aload_n (pc := 30) C dX3_carryRow_30 rfl 0 rfl ?_
      refine x3gr_69 (pc := 31) C dX3_carryRow_31 ?_
      refine go_aload_n (pc := 34) C dX3_carryRow_34 rfl 0 rfl ?_
      refine x3gi_71 (pc := 35) C dX3_carryRow_35 ?_
      refine go_aload_n (pc := 38) C dX3_carryRow_38 rfl 1 rfl ?_
      refine go_iload_n (pc := 39) C dX3_carryRow_39 rfl 2 rfl ?_
      refine go_iald (pc := 40) C (bW_A hk1 (by decide)) h dX3_carryRow_40 (fun h => ?_)
      refine go_iast (pc := 41) C x3pA_69 h dX3_carryRow_41 (fun h => ?_)
      refine go_aload_n (pc := 42) C dX3_carryRow_42 rfl 0 rfl ?_
      refine go_dup (pc := 43) C dX3_carryRow_43 rfl ?_
      refine x3gi_71 (pc := 44) C dX3_carryRow_44 ?_
      refine go_iconst (pc := 47) (v := (1 : Int32)) C dX3_carryRow_47 (by decide) ?_
      refine go_iadd (pc := 48) C dX3_carryRow_48 ?_
      refine x3pi_71 (pc := 49) C dX3_carryRow_49 ?_
      refine go_nm (pc := 52) (fun z9 => (bW Γ.d 3 FK3 a z9)) (fun s1 es1 => ?_)
      have h := ltv_eq es1 h
      refine go_iinc (pc := 52) (v := (v2 + (1 : Int32))) C hN dX3_carryRow_52 (q := 2) rfl rfl (by decide) rfl ?_
      refine go_goto (pc := 55) (tgt := 2) C dX3_carryRow_55 (by decide) ?_
      refine go_sub [1, 2, 0] rfl ?_
      exact hK2 (s1, (v2 + (1 : Int32))) h
    · refine go_aload_n (pc := 15) C dX3_carryRow_15 rfl 1 rfl ?_
      refine go_iload_n (pc := 16) C dX3_carryRow_16 rfl 2 rfl ?_
      refine go_aload_n (pc := 17) C dX3_carryRow_17 rfl 0 rfl ?_
      refine x3gr_69 (pc := 18) C dX3_carryRow_18 ?_
      refine go_aload_n (pc := 21) C dX3_carryRow_21 rfl 0 rfl ?_
      refine x3gi_71 (pc := 22) C dX3_carryRow_22 ?_
      refine go_iald (pc := 25) C x3aA_69 h dX3_carryRow_25 (fun h => ?_)
      refine go_iast (pc := 26) C (bW_putA hk1 (by decide)) h dX3_carryRow_26 (fun h => ?_)
      refine go_goto (pc := 27) (tgt := 42) C dX3_carryRow_27 (by decide) ?_
      refine go_aload_n (pc := 42) C dX3_carryRow_42 rfl 0 rfl ?_
      refine go_dup (pc := 43) C dX3_carryRow_43 rfl ?_
      refine x3gi_71 (pc := 44) C dX3_carryRow_44 ?_
      refine go_iconst (pc := 47) (v := (1 : Int32)) C dX3_carryRow_47 (by decide) ?_
      refine go_iadd (pc := 48) C dX3_carryRow_48 ?_
      refine x3pi_71 (pc := 49) C dX3_carryRow_49 ?_
      refine go_nm (pc := 52) (fun z9 => (bW Γ.d 3 FK3 a z9)) (fun s2 es2 => ?_)
      have h := ltv_eq es2 h
      refine go_iinc (pc := 52) (v := (v2 + (1 : Int32))) C hN dX3_carryRow_52 (q := 2) rfl rfl (by decide) rfl ?_
      refine go_goto (pc := 55) (tgt := 2) C dX3_carryRow_55 (by decide) ?_
      refine go_sub [1, 2, 0] rfl ?_
      exact hK2 (s2, (v2 + (1 : Int32))) h
theorem m3_carryRow {l : Launch} {d : gD} {a : Nat → Nat} {s0 : Bl} {k1 : Nat} {n1 : Nat} {s9 : Bl} (h : f3_carryRow s0 k1 n1 = some s9) (hk1 : FK3[k1]? = some (1, n1)) : Mt l d yX3_carryRow cX3_carryRow 3 none (0, 0, 0) 0 (bW d 3 FK3 a s0) [.ref (a 0), .ref (a (k1 + 1))] (fun v w => v = none ∧ w = (bW d 3 FK3 a s9)) := by
  refine Mt.of x3pn (Nat.le_of_ble_eq_true rfl) ?_
  intro Γ hl hd hN C hE
  subst hl; subst hd
  show Go Γ 0 0 (bW Γ.d 3 FK3 a s0) 0 [(0, .ref (a 0)), (1, .ref (a (k1 + 1)))] []
  dsimp only [f3_carryRow] at h
  refine go_iconst (pc := 0) (v := (0 : Int32)) C dX3_carryRow_0 (by decide) ?_
  refine go_istore_n (pc := 1) C hN dX3_carryRow_1 rfl (by decide) rfl ?_
  refine go_sub [1, 2, 0] rfl ?_
  exact w3_carryRow_2 hN C hE hk1 FU (s0, (0 : Int32)) h
theorem m3_carriesAll {l : Launch} {d : gD} {a : Nat → Nat} {s0 : Bl} {v1 : Int32} {v2 : Int32} {s9 : Bl} (h : f3_carriesAll s0 v1 v2 = some s9) : Mt l d yX3_carriesAll cX3_carriesAll 3 none (1, 0, 0) 22 (bW d 3 FK3 a s0) [.ref (a 0), .int v1, .int v2] (fun v w => v = none ∧ w = (bW d 3 FK3 a s9)) := by
  refine Mt.of x3pn (Nat.le_of_ble_eq_true rfl) ?_
  intro Γ hl hd hN C hE
  subst hl; subst hd
  show Go Γ 0 0 (bW Γ.d 3 FK3 a s0) 0 [(0, .ref (a 0)), (1, .int v1), (2, .int v2)] []
  dsimp only [f3_carriesAll] at h
  refine go_aload_n (pc := 0) C dX3_carriesAll_0 rfl 0 rfl ?_
  refine go_sipush (pc := 1) (v := (1900 : Int32)) C dX3_carriesAll_1 (by decide) ?_
  refine go_iload_n (pc := 4) C dX3_carriesAll_4 rfl 1 rfl ?_
  refine go_imul (pc := 5) C dX3_carriesAll_5 ?_
  refine x3pi_71 (pc := 6) C dX3_carriesAll_6 ?_
  refine go_aload_n (pc := 9) C dX3_carriesAll_9 rfl 0 rfl ?_
  refine go_iload_n (pc := 10) C dX3_carriesAll_10 rfl 2 rfl ?_
  obtain ⟨hz, h⟩ := chk_some h
  refine x3pz_72 (pc := 11) C dX3_carriesAll_11 hz ?_
  refine go_aload_n (pc := 14) C dX3_carriesAll_14 rfl 0 rfl ?_
  refine x3gr_54 (pc := 15) C dX3_carriesAll_15 ?_
  refine go_iconst (pc := 18) (v := (0 : Int32)) C dX3_carriesAll_18 (by decide) ?_
  refine go_aload_n (pc := 19) C dX3_carriesAll_19 rfl 0 rfl ?_
  refine x3gi_55 (pc := 20) C dX3_carriesAll_20 ?_
  refine go_iastK (pc := 23) (j := 0) C x3pA_54 (by decide) (by decide) dX3_carriesAll_23 ?_
  refine go_aload_n (pc := 24) C dX3_carriesAll_24 rfl 0 rfl ?_
  refine go_aload_n (pc := 25) C dX3_carriesAll_25 rfl 0 rfl ?_
  refine x3gr_54 (pc := 26) C dX3_carriesAll_26 ?_
  obtain ⟨s1, e1, h⟩ := bnd_some h
  refine go_callVv (pc := 29) C [.ref (a (54 + 1))] (m3_carryRow e1 x3fk_54) q1875 q1877 qs120 q144 q1878 x3pd_carryRow (by decide) (by decide) bW_O x3c rfl (Nat.le_of_ble_eq_true rfl) ⟨Nat.zero_le _, Nat.zero_le _⟩ dX3_carriesAll_29 rfl ?_
  refine go_aload_n (pc := 32) C dX3_carriesAll_32 rfl 0 rfl ?_
  refine go_aload_n (pc := 33) C dX3_carriesAll_33 rfl 0 rfl ?_
  refine x3gr_54 (pc := 34) C dX3_carriesAll_34 ?_
  refine go_iconst (pc := 37) (v := (0 : Int32)) C dX3_carriesAll_37 (by decide) ?_
  refine go_ialdK (pc := 38) (j := 0) C x3aA_54 (by decide) (by decide) dX3_carriesAll_38 ?_
  refine x3pi_55 (pc := 39) C dX3_carriesAll_39 ?_
  refine go_aload_n (pc := 42) C dX3_carriesAll_42 rfl 0 rfl ?_
  refine go_aload_n (pc := 43) C dX3_carriesAll_43 rfl 0 rfl ?_
  refine x3gr_1 (pc := 44) C dX3_carriesAll_44 ?_
  obtain ⟨s2, e2, h⟩ := bnd_some h
  refine go_callVv (pc := 47) C [.ref (a (1 + 1))] (m3_carryRow e2 x3fk_1) q1875 q1877 qs120 q144 q1878 x3pd_carryRow (by decide) (by decide) bW_O x3c rfl (Nat.le_of_ble_eq_true rfl) ⟨Nat.zero_le _, Nat.zero_le _⟩ dX3_carriesAll_47 rfl ?_
  refine go_aload_n (pc := 50) C dX3_carriesAll_50 rfl 0 rfl ?_
  refine go_aload_n (pc := 51) C dX3_carriesAll_51 rfl 0 rfl ?_
  refine x3gr_2 (pc := 52) C dX3_carriesAll_52 ?_
  obtain ⟨s3, e3, h⟩ := bnd_some h
  refine go_callVv (pc := 55) C [.ref (a (2 + 1))] (m3_carryRow e3 x3fk_2) q1875 q1877 qs120 q144 q1878 x3pd_carryRow (by decide) (by decide) bW_O x3c rfl (Nat.le_of_ble_eq_true rfl) ⟨Nat.zero_le _, Nat.zero_le _⟩ dX3_carriesAll_55 rfl ?_
  refine go_aload_n (pc := 58) C dX3_carriesAll_58 rfl 0 rfl ?_
  refine go_aload_n (pc := 59) C dX3_carriesAll_59 rfl 0 rfl ?_
  refine x3gr_3 (pc := 60) C dX3_carriesAll_60 ?_
  obtain ⟨s4, e4, h⟩ := bnd_some h
  refine go_callVv (pc := 63) C [.ref (a (3 + 1))] (m3_carryRow e4 x3fk_3) q1875 q1877 qs120 q144 q1878 x3pd_carryRow (by decide) (by decide) bW_O x3c rfl (Nat.le_of_ble_eq_true rfl) ⟨Nat.zero_le _, Nat.zero_le _⟩ dX3_carriesAll_63 rfl ?_
  refine go_aload_n (pc := 66) C dX3_carriesAll_66 rfl 0 rfl ?_
  refine go_aload_n (pc := 67) C dX3_carriesAll_67 rfl 0 rfl ?_
  refine x3gr_4 (pc := 68) C dX3_carriesAll_68 ?_
  obtain ⟨s5, e5, h⟩ := bnd_some h
  refine go_callVv (pc := 71) C [.ref (a (4 + 1))] (m3_carryRow e5 x3fk_4) q1875 q1877 qs120 q144 q1878 x3pd_carryRow (by decide) (by decide) bW_O x3c rfl (Nat.le_of_ble_eq_true rfl) ⟨Nat.zero_le _, Nat.zero_le _⟩ dX3_carriesAll_71 rfl ?_
  refine go_aload_n (pc := 74) C dX3_carriesAll_74 rfl 0 rfl ?_
  refine go_aload_n (pc := 75) C dX3_carriesAll_75 rfl 0 rfl ?_
  refine x3gr_5 (pc := 76) C dX3_carriesAll_76 ?_
  obtain ⟨s6, e6, h⟩ := bnd_some h
  refine go_callVv (pc := 79) C [.ref (a (5 + 1))] (m3_carryRow e6 x3fk_5) q1875 q1877 qs120 q144 q1878 x3pd_carryRow (by decide) (by decide) bW_O x3c rfl (Nat.le_of_ble_eq_true rfl) ⟨Nat.zero_le _, Nat.zero_le _⟩ dX3_carriesAll_79 rfl ?_
  refine go_aload_n (pc := 82) C dX3_carriesAll_82 rfl 0 rfl ?_
  refine go_aload_n (pc := 83) C dX3_carriesAll_83 rfl 0 rfl ?_
  refine x3gr_6 (pc := 84) C dX3_carriesAll_84 ?_
  obtain ⟨s7, e7, h⟩ := bnd_some h
  refine go_callVv (pc := 87) C [.ref (a (6 + 1))] (m3_carryRow e7 x3fk_6) q1875 q1877 qs120 q144 q1878 x3pd_carryRow (by decide) (by decide) bW_O x3c rfl (Nat.le_of_ble_eq_true rfl) ⟨Nat.zero_le _, Nat.zero_le _⟩ dX3_carriesAll_87 rfl ?_
  refine go_aload_n (pc := 90) C dX3_carriesAll_90 rfl 0 rfl ?_
  refine go_aload_n (pc := 91) C dX3_carriesAll_91 rfl 0 rfl ?_
  refine x3gr_7 (pc := 92) C dX3_carriesAll_92 ?_
  obtain ⟨s8, e8, h⟩ := bnd_some h
  refine go_callVv (pc := 95) C [.ref (a (7 + 1))] (m3_carryRow e8 x3fk_7) q1875 q1877 qs120 q144 q1878 x3pd_carryRow (by decide) (by decide) bW_O x3c rfl (Nat.le_of_ble_eq_true rfl) ⟨Nat.zero_le _, Nat.zero_le _⟩ dX3_carriesAll_95 rfl ?_
  refine go_aload_n (pc := 98) C dX3_carriesAll_98 rfl 0 rfl ?_
  refine go_aload_n (pc := 99) C dX3_carriesAll_99 rfl 0 rfl ?_
  refine x3gr_8 (pc := 100) C dX3_carriesAll_100 ?_
  obtain ⟨s9, e9, h⟩ := bnd_some h
  refine go_callVv (pc := 103) C [.ref (a (8 + 1))] (m3_carryRow e9 x3fk_8) q1875 q1877 qs120 q144 q1878 x3pd_carryRow (by decide) (by decide) bW_O x3c rfl (Nat.le_of_ble_eq_true rfl) ⟨Nat.zero_le _, Nat.zero_le _⟩ dX3_carriesAll_103 rfl ?_
  refine go_aload_n (pc := 106) C dX3_carriesAll_106 rfl 0 rfl ?_
  refine go_aload_n (pc := 107) C dX3_carriesAll_107 rfl 0 rfl ?_
  refine x3gr_9 (pc := 108) C dX3_carriesAll_108 ?_
  obtain ⟨s10, e10, h⟩ := bnd_some h
  refine go_callVv (pc := 111) C [.ref (a (9 + 1))] (m3_carryRow e10 x3fk_9) q1875 q1877 qs120 q144 q1878 x3pd_carryRow (by decide) (by decide) bW_O x3c rfl (Nat.le_of_ble_eq_true rfl) ⟨Nat.zero_le _, Nat.zero_le _⟩ dX3_carriesAll_111 rfl ?_
  refine go_aload_n (pc := 114) C dX3_carriesAll_114 rfl 0 rfl ?_
  refine go_aload_n (pc := 115) C dX3_carriesAll_115 rfl 0 rfl ?_
  refine x3gr_10 (pc := 116) C dX3_carriesAll_116 ?_
  obtain ⟨s11, e11, h⟩ := bnd_some h
  refine go_callVv (pc := 119) C [.ref (a (10 + 1))] (m3_carryRow e11 x3fk_10) q1875 q1877 qs120 q144 q1878 x3pd_carryRow (by decide) (by decide) bW_O x3c rfl (Nat.le_of_ble_eq_true rfl) ⟨Nat.zero_le _, Nat.zero_le _⟩ dX3_carriesAll_119 rfl ?_
  refine go_aload_n (pc := 122) C dX3_carriesAll_122 rfl 0 rfl ?_
  refine go_aload_n (pc := 123) C dX3_carriesAll_123 rfl 0 rfl ?_
  refine x3gr_11 (pc := 124) C dX3_carriesAll_124 ?_
  obtain ⟨s12, e12, h⟩ := bnd_some h
  refine go_callVv (pc := 127) C [.ref (a (11 + 1))] (m3_carryRow e12 x3fk_11) q1875 q1877 qs120 q144 q1878 x3pd_carryRow (by decide) (by decide) bW_O x3c rfl (Nat.le_of_ble_eq_true rfl) ⟨Nat.zero_le _, Nat.zero_le _⟩ dX3_carriesAll_127 rfl ?_
  refine go_aload_n (pc := 130) C dX3_carriesAll_130 rfl 0 rfl ?_
  refine go_aload_n (pc := 131) C dX3_carriesAll_131 rfl 0 rfl ?_
  refine x3gr_12 (pc := 132) C dX3_carriesAll_132 ?_
  obtain ⟨s13, e13, h⟩ := bnd_some h
  refine go_callVv (pc := 135) C [.ref (a (12 + 1))] (m3_carryRow e13 x3fk_12) q1875 q1877 qs120 q144 q1878 x3pd_carryRow (by decide) (by decide) bW_O x3c rfl (Nat.le_of_ble_eq_true rfl) ⟨Nat.zero_le _, Nat.zero_le _⟩ dX3_carriesAll_135 rfl ?_
  refine go_aload_n (pc := 138) C dX3_carriesAll_138 rfl 0 rfl ?_
  refine go_aload_n (pc := 139) C dX3_carriesAll_139 rfl 0 rfl ?_
  refine x3gr_13 (pc := 140) C dX3_carriesAll_140 ?_
  obtain ⟨s14, e14, h⟩ := bnd_some h
  refine go_callVv (pc := 143) C [.ref (a (13 + 1))] (m3_carryRow e14 x3fk_13) q1875 q1877 qs120 q144 q1878 x3pd_carryRow (by decide) (by decide) bW_O x3c rfl (Nat.le_of_ble_eq_true rfl) ⟨Nat.zero_le _, Nat.zero_le _⟩ dX3_carriesAll_143 rfl ?_
  refine go_aload_n (pc := 146) C dX3_carriesAll_146 rfl 0 rfl ?_
  refine go_aload_n (pc := 147) C dX3_carriesAll_147 rfl 0 rfl ?_
  refine x3gr_14 (pc := 148) C dX3_carriesAll_148 ?_
  obtain ⟨s15, e15, h⟩ := bnd_some h
  refine go_callVv (pc := 151) C [.ref (a (14 + 1))] (m3_carryRow e15 x3fk_14) q1875 q1877 qs120 q144 q1878 x3pd_carryRow (by decide) (by decide) bW_O x3c rfl (Nat.le_of_ble_eq_true rfl) ⟨Nat.zero_le _, Nat.zero_le _⟩ dX3_carriesAll_151 rfl ?_
  refine go_aload_n (pc := 154) C dX3_carriesAll_154 rfl 0 rfl ?_
  refine go_aload_n (pc := 155) C dX3_carriesAll_155 rfl 0 rfl ?_
  refine x3gr_15 (pc := 156) C dX3_carriesAll_156 ?_
  obtain ⟨s16, e16, h⟩ := bnd_some h
  refine go_callVv (pc := 159) C [.ref (a (15 + 1))] (m3_carryRow e16 x3fk_15) q1875 q1877 qs120 q144 q1878 x3pd_carryRow (by decide) (by decide) bW_O x3c rfl (Nat.le_of_ble_eq_true rfl) ⟨Nat.zero_le _, Nat.zero_le _⟩ dX3_carriesAll_159 rfl ?_
  refine go_aload_n (pc := 162) C dX3_carriesAll_162 rfl 0 rfl ?_
  refine go_aload_n (pc := 163) C dX3_carriesAll_163 rfl 0 rfl ?_
  refine x3gr_16 (pc := 164) C dX3_carriesAll_164 ?_
  obtain ⟨s17, e17, h⟩ := bnd_some h
  refine go_callVv (pc := 167) C [.ref (a (16 + 1))] (m3_carryRow e17 x3fk_16) q1875 q1877 qs120 q144 q1878 x3pd_carryRow (by decide) (by decide) bW_O x3c rfl (Nat.le_of_ble_eq_true rfl) ⟨Nat.zero_le _, Nat.zero_le _⟩ dX3_carriesAll_167 rfl ?_
  refine go_aload_n (pc := 170) C dX3_carriesAll_170 rfl 0 rfl ?_
  refine go_aload_n (pc := 171) C dX3_carriesAll_171 rfl 0 rfl ?_
  refine x3gr_17 (pc := 172) C dX3_carriesAll_172 ?_
  obtain ⟨s18, e18, h⟩ := bnd_some h
  refine go_callVv (pc := 175) C [.ref (a (17 + 1))] (m3_carryRow e18 x3fk_17) q1875 q1877 qs120 q144 q1878 x3pd_carryRow (by decide) (by decide) bW_O x3c rfl (Nat.le_of_ble_eq_true rfl) ⟨Nat.zero_le _, Nat.zero_le _⟩ dX3_carriesAll_175 rfl ?_
  refine go_aload_n (pc := 178) C dX3_carriesAll_178 rfl 0 rfl ?_
  refine go_aload_n (pc := 179) C dX3_carriesAll_179 rfl 0 rfl ?_
  refine x3gr_18 (pc := 180) C dX3_carriesAll_180 ?_
  obtain ⟨s19, e19, h⟩ := bnd_some h
  refine go_callVv (pc := 183) C [.ref (a (18 + 1))] (m3_carryRow e19 x3fk_18) q1875 q1877 qs120 q144 q1878 x3pd_carryRow (by decide) (by decide) bW_O x3c rfl (Nat.le_of_ble_eq_true rfl) ⟨Nat.zero_le _, Nat.zero_le _⟩ dX3_carriesAll_183 rfl ?_
  refine go_aload_n (pc := 186) C dX3_carriesAll_186 rfl 0 rfl ?_
  refine go_aload_n (pc := 187) C dX3_carriesAll_187 rfl 0 rfl ?_
  refine x3gr_53 (pc := 188) C dX3_carriesAll_188 ?_
  obtain ⟨s20, e20, h⟩ := bnd_some h
  refine go_callVv (pc := 191) C [.ref (a (53 + 1))] (m3_carryRow e20 x3fk_53) q1875 q1877 qs120 q144 q1878 x3pd_carryRow (by decide) (by decide) bW_O x3c rfl (Nat.le_of_ble_eq_true rfl) ⟨Nat.zero_le _, Nat.zero_le _⟩ dX3_carriesAll_191 rfl ?_
  exact (hE 0 0 _ _ _ (Nat.zero_le _) (Nat.zero_le _)).2.2.2.1 rfl dX3_carriesAll_194 ⟨rfl, congrArg (fun z => bW Γ.d 3 FK3 a z) (some1 h)⟩
theorem m3_keepsAll {l : Launch} {d : gD} {a : Nat → Nat} {s0 : Bl} {s9 : Bl} (h : f3_keepsAll s0 = some s9) : Mt l d yX3_keepsAll cX3_keepsAll 1 none (2, 0, 0) 44 (bW d 3 FK3 a s0) [.ref (a 0)] (fun v w => v = none ∧ w = (bW d 3 FK3 a s9)) := by
  refine Mt.of x3pn (Nat.le_of_ble_eq_true rfl) ?_
  intro Γ hl hd hN C hE
  subst hl; subst hd
  show Go Γ 0 0 (bW Γ.d 3 FK3 a s0) 0 [(0, .ref (a 0))] []
  dsimp only [f3_keepsAll] at h
  refine go_aload_n (pc := 0) C dX3_keepsAll_0 rfl 0 rfl ?_
  refine go_iconst (pc := 1) (v := (4 : Int32)) C dX3_keepsAll_1 (by decide) ?_
  refine go_iconst (pc := 2) (v := (0 : Int32)) C dX3_keepsAll_2 (by decide) ?_
  obtain ⟨s1, e1, h⟩ := bnd_some h
  refine go_callVv (pc := 3) C [.int (4 : Int32), .int (0 : Int32)] (m3_carriesAll e1) q1871 q1873 qs119 q144 q1874 x3pd_carriesAll (by decide) (by decide) bW_O x3c rfl (Nat.le_of_ble_eq_true rfl) ⟨Nat.zero_le _, Nat.zero_le _⟩ dX3_keepsAll_3 rfl ?_
  exact (hE 0 0 _ _ _ (Nat.zero_le _) (Nat.zero_le _)).2.2.2.1 rfl dX3_keepsAll_6 ⟨rfl, congrArg (fun z => bW Γ.d 3 FK3 a z) (some1 h)⟩
theorem w3_thingsAt_4 {Γ : Gam} {a : Nat → Nat} {s0 : Bl} {v1 : Int32} {r9 : Int32} (hN : Γ.nL = 4) (C : Cx Γ cX3_thingsAt RX3 (0, 0, 0) 0) (hE : Rets Γ cX3_thingsAt (some .int) 0 0 (fun v w => v = some (.int r9) ∧ w = (bW Γ.d 3 FK3 a s0))) : ∀ (n : Nat) (s : Int32 × Int32), loop (g3_thingsAt_4 s0 v1) n s = some r9 → (fun s : Int32 × Int32 => Go Γ 0 0 (bW Γ.d 3 FK3 a s0) 4 [(0, .ref (a 0)), (1, .int v1), (2, .int s.1), (3, .int s.2)] []) s := by
  refine loop_walk (P := fun s : Int32 × Int32 => Go Γ 0 0 (bW Γ.d 3 FK3 a s0) 4 [(0, .ref (a 0)), (1, .int v1), (2, .int s.1), (3, .int s.2)] []) ?_
  intro K4 hK4 s h
  obtain ⟨v2, v3⟩ := s
  dsimp only [g3_thingsAt_4] at h
  show Go Γ 0 0 (bW Γ.d 3 FK3 a s0) 4 [(0, .ref (a 0)), (1, .int v1), (2, .int v2), (3, .int v3)] []
  refine go_iload_n (pc := 4) C dX3_thingsAt_4 rfl 3 rfl ?_
  refine go_aload_n (pc := 5) C dX3_thingsAt_5 rfl 0 rfl ?_
  refine x3gr_1 (pc := 6) C dX3_thingsAt_6 ?_
  refine go_iconst (pc := 9) (v := (3 : Int32)) C dX3_thingsAt_9 (by decide) ?_
  refine go_ialdK (pc := 10) (j := 3) C x3aA_1 (by decide) (by decide) dX3_thingsAt_10 ?_
  refine go_icmp_ge (pc := 11) (tgt := 40) C dX3_thingsAt_11 (by decide) h (fun h => ?_) (fun h => ?_)
  · refine go_iload_n (pc := 40) C dX3_thingsAt_40 rfl 2 rfl ?_
    exact (hE 0 0 _ _ _ (Nat.zero_le _) (Nat.zero_le _)).1 _ rfl dX3_thingsAt_41 ⟨congrArg (fun z => some (Value.int z)) (some1 h), rfl⟩
  · refine go_iload_n (pc := 14) C dX3_thingsAt_14 rfl 2 rfl ?_
    refine go_aload_n (pc := 15) C dX3_thingsAt_15 rfl 0 rfl ?_
    refine x3gr_9 (pc := 16) C dX3_thingsAt_16 ?_
    refine go_iload_n (pc := 19) C dX3_thingsAt_19 rfl 3 rfl ?_
    refine go_iald (pc := 20) C x3aA_9 h dX3_thingsAt_20 (fun h => ?_)
    refine go_iload_n (pc := 21) C dX3_thingsAt_21 rfl 1 rfl ?_
    refine go_icmp_ne (pc := 22) (tgt := 31) C dX3_thingsAt_22 (by decide) h (fun h => ?_) (fun h => ?_)
    · refine go_iconst (pc := 31) (v := (0 : Int32)) C dX3_thingsAt_31 (by decide) ?_
      refine go_ior (pc := 32) C dX3_thingsAt_32 ?_
      refine go_istore_n (pc := 33) C hN dX3_thingsAt_33 rfl (by decide) rfl ?_
      refine go_iinc (pc := 34) (v := (v3 + (1 : Int32))) C hN dX3_thingsAt_34 (q := 3) rfl rfl (by decide) rfl ?_
      refine go_goto (pc := 37) (tgt := 4) C dX3_thingsAt_37 (by decide) ?_
      refine go_sub [2, 3, 1, 0] rfl ?_
      exact hK4 ((v2 ||| (0 : Int32)), (v3 + (1 : Int32))) h
    · refine go_iconst (pc := 25) (v := (1 : Int32)) C dX3_thingsAt_25 (by decide) ?_
      refine go_iload_n (pc := 26) C dX3_thingsAt_26 rfl 3 rfl ?_
      refine go_ishl (pc := 27) C dX3_thingsAt_27 ?_
      refine go_goto (pc := 28) (tgt := 32) C dX3_thingsAt_28 (by decide) ?_
      refine go_ior (pc := 32) C dX3_thingsAt_32 ?_
      refine go_istore_n (pc := 33) C hN dX3_thingsAt_33 rfl (by decide) rfl ?_
      refine go_iinc (pc := 34) (v := (v3 + (1 : Int32))) C hN dX3_thingsAt_34 (q := 3) rfl rfl (by decide) rfl ?_
      refine go_goto (pc := 37) (tgt := 4) C dX3_thingsAt_37 (by decide) ?_
      refine go_sub [2, 3, 1, 0] rfl ?_
      exact hK4 ((v2 ||| ((1 : Int32) <<< (v3 &&& 31))), (v3 + (1 : Int32))) h
theorem m3_thingsAt {l : Launch} {d : gD} {a : Nat → Nat} {s0 : Bl} {v1 : Int32} {r9 : Int32} (h : f3_thingsAt s0 v1 = some r9) : Mt l d yX3_thingsAt cX3_thingsAt 4 (some .int) (0, 0, 0) 0 (bW d 3 FK3 a s0) [.ref (a 0), .int v1] (fun v w => v = some (.int r9) ∧ w = (bW d 3 FK3 a s0)) := by
  refine Mt.of x3pn (Nat.le_of_ble_eq_true rfl) ?_
  intro Γ hl hd hN C hE
  subst hl; subst hd
  show Go Γ 0 0 (bW Γ.d 3 FK3 a s0) 0 [(0, .ref (a 0)), (1, .int v1)] []
  dsimp only [f3_thingsAt] at h
  refine go_iconst (pc := 0) (v := (0 : Int32)) C dX3_thingsAt_0 (by decide) ?_
  refine go_istore_n (pc := 1) C hN dX3_thingsAt_1 rfl (by decide) rfl ?_
  refine go_iconst (pc := 2) (v := (0 : Int32)) C dX3_thingsAt_2 (by decide) ?_
  refine go_istore_n (pc := 3) C hN dX3_thingsAt_3 rfl (by decide) rfl ?_
  refine go_sub [2, 3, 1, 0] rfl ?_
  exact w3_thingsAt_4 hN C hE FU ((0 : Int32), (0 : Int32)) h
theorem m3_laysBack {l : Launch} {d : gD} {a : Nat → Nat} {s0 : Bl} {s9 : Bl} (h : f3_laysBack s0 = some s9) : Mt l d yX3_laysBack cX3_laysBack 1 none (2, 0, 0) 44 (bW d 3 FK3 a s0) [.ref (a 0)] (fun v w => v = none ∧ w = (bW d 3 FK3 a s9)) := by
  refine Mt.of x3pn (Nat.le_of_ble_eq_true rfl) ?_
  intro Γ hl hd hN C hE
  subst hl; subst hd
  show Go Γ 0 0 (bW Γ.d 3 FK3 a s0) 0 [(0, .ref (a 0))] []
  dsimp only [f3_laysBack] at h
  refine go_aload_n (pc := 0) C dX3_laysBack_0 rfl 0 rfl ?_
  refine go_iconst (pc := 1) (v := (4 : Int32)) C dX3_laysBack_1 (by decide) ?_
  refine go_iconst (pc := 2) (v := (1 : Int32)) C dX3_laysBack_2 (by decide) ?_
  obtain ⟨s1, e1, h⟩ := bnd_some h
  refine go_callVv (pc := 3) C [.int (4 : Int32), .int (1 : Int32)] (m3_carriesAll e1) q1871 q1873 qs119 q144 q1874 x3pd_carriesAll (by decide) (by decide) bW_O x3c rfl (Nat.le_of_ble_eq_true rfl) ⟨Nat.zero_le _, Nat.zero_le _⟩ dX3_laysBack_3 rfl ?_
  exact (hE 0 0 _ _ _ (Nat.zero_le _) (Nat.zero_le _)).2.2.2.1 rfl dX3_laysBack_6 ⟨rfl, congrArg (fun z => bW Γ.d 3 FK3 a z) (some1 h)⟩
theorem w3_ahead_75 {Γ : Gam} {a : Nat → Nat} {s0 : Bl} {v2 : Int32} {r9 : Int32} {s9 : Bl} (hN : Γ.nL = 5) (C : Cx Γ cX3_ahead RX3 (8, 0, 0) 195) (hE : Rets Γ cX3_ahead (some .int) 0 0 (fun v w => v = some (.int r9) ∧ w = (bW Γ.d 3 FK3 a s9))) : ∀ (n : Nat) (s : Int32 × Int32), loop (g3_ahead_75 s0 v2) n s = some (r9, s9) → (fun s : Int32 × Int32 => Go Γ 0 0 (bW Γ.d 3 FK3 a s0) 75 [(0, .ref (a 0)), (2, .int v2), (3, .int s.1), (4, .int s.2)] []) s := by
  refine loop_walk (P := fun s : Int32 × Int32 => Go Γ 0 0 (bW Γ.d 3 FK3 a s0) 75 [(0, .ref (a 0)), (2, .int v2), (3, .int s.1), (4, .int s.2)] []) ?_
  intro K75 hK75 s h
  obtain ⟨v3, v4⟩ := s
  dsimp only [g3_ahead_75] at h
  show Go Γ 0 0 (bW Γ.d 3 FK3 a s0) 75 [(0, .ref (a 0)), (2, .int v2), (3, .int v3), (4, .int v4)] []
  refine go_iload (pc := 75) C dX3_ahead_75 3 rfl ?_
  refine go_aload_n (pc := 77) C dX3_ahead_77 rfl 0 rfl ?_
  refine x3gr_1 (pc := 78) C dX3_ahead_78 ?_
  refine go_iconst (pc := 81) (v := (2 : Int32)) C dX3_ahead_81 (by decide) ?_
  refine go_ialdK (pc := 82) (j := 2) C x3aA_1 (by decide) (by decide) dX3_ahead_82 ?_
  refine go_icmp_ge (pc := 83) (tgt := 119) C dX3_ahead_83 (by decide) h (fun h => ?_) (fun h => ?_)
  · refine go_aload_n (pc := 119) C dX3_ahead_119 rfl 0 rfl ?_
    obtain ⟨s6, e6, h⟩ := bnd_some h
    refine go_callVv (pc := 120) C [] (m3_laysBack e6) q1883 q1885 qs122 q144 q1886 x3pd_laysBack (by decide) (by decide) bW_O x3c rfl (Nat.le_of_ble_eq_true rfl) ⟨Nat.zero_le _, Nat.zero_le _⟩ dX3_ahead_120 rfl ?_
    refine go_iload_n (pc := 123) C dX3_ahead_123 rfl 2 rfl ?_
    exact (hE 0 0 _ _ _ (Nat.zero_le _) (Nat.zero_le _)).1 _ rfl dX3_ahead_124 ⟨congrArg (fun z => some (Value.int z)) (some2 h).1, congrArg (fun z => bW Γ.d 3 FK3 a z) (some2 h).2⟩
  · refine go_iload_n (pc := 86) C dX3_ahead_86 rfl 1 rfl ?_
    refine go_iconst (pc := 87) (v := (3 : Int32)) C dX3_ahead_87 (by decide) ?_
    refine go_icmp_ne (pc := 88) (tgt := 119) C dX3_ahead_88 (by decide) h (fun h => ?_) (fun h => ?_)
    · refine go_aload_n (pc := 119) C dX3_ahead_119 rfl 0 rfl ?_
      obtain ⟨s7, e7, h⟩ := bnd_some h
      refine go_callVv (pc := 120) C [] (m3_laysBack e7) q1883 q1885 qs122 q144 q1886 x3pd_laysBack (by decide) (by decide) bW_O x3c rfl (Nat.le_of_ble_eq_true rfl) ⟨Nat.zero_le _, Nat.zero_le _⟩ dX3_ahead_120 rfl ?_
      refine go_iload_n (pc := 123) C dX3_ahead_123 rfl 2 rfl ?_
      exact (hE 0 0 _ _ _ (Nat.zero_le _) (Nat.zero_le _)).1 _ rfl dX3_ahead_124 ⟨congrArg (fun z => some (Value.int z)) (some2 h).1, congrArg (fun z => bW Γ.d 3 FK3 a z) (some2 h).2⟩
    · refine go_iload_n (pc := 91) C dX3_ahead_91 rfl 2 rfl ?_
      refine go_aload_n (pc := 92) C dX3_ahead_92 rfl 0 rfl ?_
      refine x3gr_4 (pc := 93) C dX3_ahead_93 ?_
      refine go_iload (pc := 96) C dX3_ahead_96 3 rfl ?_
      refine go_iald (pc := 98) C x3aA_4 h dX3_ahead_98 (fun h => ?_)
      refine go_iconst (pc := 99) (v := (2 : Int32)) C dX3_ahead_99 (by decide) ?_
      refine go_icmp_ne (pc := 100) (tgt := 110) C dX3_ahead_100 (by decide) h (fun h => ?_) (fun h => ?_)
      · refine go_iconst (pc := 110) (v := (0 : Int32)) C dX3_ahead_110 (by decide) ?_
        refine go_ior (pc := 111) C dX3_ahead_111 ?_
        refine go_istore_n (pc := 112) C hN dX3_ahead_112 rfl (by decide) rfl ?_
        refine go_iinc (pc := 113) (v := (v4 + (1 : Int32))) C hN dX3_ahead_113 (q := 3) rfl rfl (by decide) rfl ?_
        refine go_goto (pc := 116) (tgt := 75) C dX3_ahead_116 (by decide) ?_
        refine go_sub [2, 3, 1, 0] rfl ?_
        exact hK75 ((v3 ||| (0 : Int32)), (v4 + (1 : Int32))) h
      · refine go_iconst (pc := 103) (v := (1 : Int32)) C dX3_ahead_103 (by decide) ?_
        refine go_iload (pc := 104) C dX3_ahead_104 3 rfl ?_
        refine go_ishl (pc := 106) C dX3_ahead_106 ?_
        refine go_goto (pc := 107) (tgt := 111) C dX3_ahead_107 (by decide) ?_
        refine go_ior (pc := 111) C dX3_ahead_111 ?_
        refine go_istore_n (pc := 112) C hN dX3_ahead_112 rfl (by decide) rfl ?_
        refine go_iinc (pc := 113) (v := (v4 + (1 : Int32))) C hN dX3_ahead_113 (q := 3) rfl rfl (by decide) rfl ?_
        refine go_goto (pc := 116) (tgt := 75) C dX3_ahead_116 (by decide) ?_
        refine go_sub [2, 3, 1, 0] rfl ?_
        exact hK75 ((v3 ||| ((1 : Int32) <<< (v4 &&& 31))), (v4 + (1 : Int32))) h
theorem w3_ahead_41 {Γ : Gam} {a : Nat → Nat} {v1 : Int32} {v2 : Int32} {r9 : Int32} {s9 : Bl} (hN : Γ.nL = 5) (C : Cx Γ cX3_ahead RX3 (8, 0, 0) 195) (hE : Rets Γ cX3_ahead (some .int) 0 0 (fun v w => v = some (.int r9) ∧ w = (bW Γ.d 3 FK3 a s9))) : ∀ (n : Nat) (s : Bl × Int32), loop (g3_ahead_41 v1 v2) n s = some (r9, s9) → (fun s : Bl × Int32 => Go Γ 0 0 (bW Γ.d 3 FK3 a s.1) 41 [(0, .ref (a 0)), (1, .int v1), (2, .int v2), (3, .int s.2)] []) s := by
  refine loop_walk (P := fun s : Bl × Int32 => Go Γ 0 0 (bW Γ.d 3 FK3 a s.1) 41 [(0, .ref (a 0)), (1, .int v1), (2, .int v2), (3, .int s.2)] []) ?_
  intro K41 hK41 s h
  obtain ⟨s0, v3⟩ := s
  dsimp only [g3_ahead_41] at h
  show Go Γ 0 0 (bW Γ.d 3 FK3 a s0) 41 [(0, .ref (a 0)), (1, .int v1), (2, .int v2), (3, .int v3)] []
  refine go_iload_n (pc := 41) C dX3_ahead_41 rfl 3 rfl ?_
  refine go_iload_n (pc := 42) C dX3_ahead_42 rfl 1 rfl ?_
  refine go_icmp_ge (pc := 43) (tgt := 57) C dX3_ahead_43 (by decide) h (fun h => ?_) (fun h => ?_)
  · refine go_iload_n (pc := 57) C dX3_ahead_57 rfl 2 rfl ?_
    refine go_iconst (pc := 58) (v := (3 : Int32)) C dX3_ahead_58 (by decide) ?_
    refine go_icmp_ge (pc := 59) (tgt := 70) C dX3_ahead_59 (by decide) h (fun h => ?_) (fun h => ?_)
    · refine go_iconst (pc := 70) (v := (0 : Int32)) C dX3_ahead_70 (by decide) ?_
      refine go_istore_n (pc := 71) C hN dX3_ahead_71 rfl (by decide) rfl ?_
      refine go_iconst (pc := 72) (v := (0 : Int32)) C dX3_ahead_72 (by decide) ?_
      refine go_istore (pc := 73) C hN dX3_ahead_73 (by decide) rfl ?_
      refine go_sub [2, 4, 1, 0] rfl ?_
      exact w3_ahead_75 hN C hE FU ((0 : Int32), (0 : Int32)) h
    · refine go_aload_n (pc := 62) C dX3_ahead_62 rfl 0 rfl ?_
      refine go_iload_n (pc := 63) C dX3_ahead_63 rfl 2 rfl ?_
      obtain ⟨r8, e8, h⟩ := bnd_some h
      refine go_callVi (pc := 64) C [.int v2] (m3_thingsAt e8) q1879 q1881 qs121 q144 q1882 x3pd_thingsAt (by decide) (by decide) bW_O x3c rfl (Nat.le_of_ble_eq_true rfl) ⟨Nat.zero_le _, Nat.zero_le _⟩ dX3_ahead_64 rfl ?_
      refine go_goto (pc := 67) (tgt := 71) C dX3_ahead_67 (by decide) ?_
      refine go_istore_n (pc := 71) C hN dX3_ahead_71 rfl (by decide) rfl ?_
      refine go_iconst (pc := 72) (v := (0 : Int32)) C dX3_ahead_72 (by decide) ?_
      refine go_istore (pc := 73) C hN dX3_ahead_73 (by decide) rfl ?_
      refine go_sub [2, 4, 1, 0] rfl ?_
      exact w3_ahead_75 hN C hE FU (r8, (0 : Int32)) h
  · refine go_aload_n (pc := 46) C dX3_ahead_46 rfl 0 rfl ?_
    obtain ⟨r9, s9, e9, h⟩ := bnd2_some h
    refine go_callVi (pc := 47) C [] (m3_goesMile e9) q1776 q1778 qs104 q144 q1779 x3pd_goesMile (by decide) (by decide) bW_O x3c rfl (Nat.le_of_ble_eq_true rfl) ⟨Nat.zero_le _, Nat.zero_le _⟩ dX3_ahead_47 rfl ?_
    refine go_pop (pc := 50) C dX3_ahead_50 rfl ?_
    refine go_iinc (pc := 51) (v := (v3 + (1 : Int32))) C hN dX3_ahead_51 (q := 3) rfl rfl (by decide) rfl ?_
    refine go_goto (pc := 54) (tgt := 41) C dX3_ahead_54 (by decide) ?_
    refine go_sub [1, 2, 3, 0] rfl ?_
    exact hK41 (s9, (v3 + (1 : Int32))) h
theorem m3_ahead {l : Launch} {d : gD} {a : Nat → Nat} {s0 : Bl} {v1 : Int32} {v2 : Int32} {r9 : Int32} {s9 : Bl} (h : f3_ahead s0 v1 v2 = some (r9, s9)) : Mt l d yX3_ahead cX3_ahead 5 (some .int) (8, 0, 0) 195 (bW d 3 FK3 a s0) [.ref (a 0), .int v1, .int v2] (fun v w => v = some (.int r9) ∧ w = (bW d 3 FK3 a s9)) := by
  refine Mt.of x3pn (Nat.le_of_ble_eq_true rfl) ?_
  intro Γ hl hd hN C hE
  subst hl; subst hd
  show Go Γ 0 0 (bW Γ.d 3 FK3 a s0) 0 [(0, .ref (a 0)), (1, .int v1), (2, .int v2)] []
  dsimp only [f3_ahead] at h
  refine go_aload_n (pc := 0) C dX3_ahead_0 rfl 0 rfl ?_
  obtain ⟨r1, e1, h⟩ := bnd_some h
  refine go_callVi (pc := 1) C [] (m3_isRiver e1) q1716 q1718 qs92 q144 q1719 x3pd_isRiver (by decide) (by decide) bW_O x3c rfl (Nat.le_of_ble_eq_true rfl) ⟨Nat.zero_le _, Nat.zero_le _⟩ dX3_ahead_1 rfl ?_
  refine go_if_eq (pc := 4) (tgt := 33) C dX3_ahead_4 (by decide) h (fun h => ?_) (fun h => ?_)
  · refine go_iconst (pc := 33) (v := (-1 : Int32)) C dX3_ahead_33 (by decide) ?_
    exact (hE 0 0 _ _ _ (Nat.zero_le _) (Nat.zero_le _)).1 _ rfl dX3_ahead_34 ⟨congrArg (fun z => some (Value.int z)) (some2 h).1, congrArg (fun z => bW Γ.d 3 FK3 a z) (some2 h).2⟩
  · refine go_iload_n (pc := 7) C dX3_ahead_7 rfl 1 rfl ?_
    refine go_i2l (pc := 8) C dX3_ahead_8 ?_
    refine go_lconst (pc := 9) (v := (0 : Int64)) C dX3_ahead_9 (by decide) ?_
    refine go_aload_n (pc := 10) C dX3_ahead_10 rfl 0 rfl ?_
    obtain ⟨r2, e2, h⟩ := bnd_some h
    refine go_callVi (pc := 11) C [] (m3_milesLeft e2) q1768 q1770 qs102 q144 q1771 x3pd_milesLeft (by decide) (by decide) bW_O x3c rfl (Nat.le_of_ble_eq_true rfl) ⟨Nat.zero_le _, Nat.zero_le _⟩ dX3_ahead_11 rfl ?_
    refine go_i2l (pc := 14) C dX3_ahead_14 ?_
    obtain ⟨r3, e3, h⟩ := bnd_some h
    refine go_callSi (pc := 15) C [.long (v1).toInt64, .long (0 : Int64), .long (r2).toInt64] (m3_in e3) q1564 q1565 q144 q1566 x3pd_in (by decide) (by decide) rfl (Nat.le_of_ble_eq_true rfl) ⟨Nat.zero_le _, Nat.zero_le _⟩ dX3_ahead_15 rfl ?_
    refine go_if_eq (pc := 18) (tgt := 33) C dX3_ahead_18 (by decide) h (fun h => ?_) (fun h => ?_)
    · refine go_iconst (pc := 33) (v := (-1 : Int32)) C dX3_ahead_33 (by decide) ?_
      exact (hE 0 0 _ _ _ (Nat.zero_le _) (Nat.zero_le _)).1 _ rfl dX3_ahead_34 ⟨congrArg (fun z => some (Value.int z)) (some2 h).1, congrArg (fun z => bW Γ.d 3 FK3 a z) (some2 h).2⟩
    · refine go_iload_n (pc := 21) C dX3_ahead_21 rfl 2 rfl ?_
      refine go_i2l (pc := 22) C dX3_ahead_22 ?_
      refine go_lconst (pc := 23) (v := (0 : Int64)) C dX3_ahead_23 (by decide) ?_
      refine go_ldc2 (pc := 24) C dX3_ahead_24 q1866 ?_
      obtain ⟨r4, e4, h⟩ := bnd_some h
      refine go_callSi (pc := 27) C [.long (v2).toInt64, .long (0 : Int64), .long (3 : Int64)] (m3_in e4) q1564 q1565 q144 q1566 x3pd_in (by decide) (by decide) rfl (Nat.le_of_ble_eq_true rfl) ⟨Nat.zero_le _, Nat.zero_le _⟩ dX3_ahead_27 rfl ?_
      refine go_if_ne (pc := 30) (tgt := 35) C dX3_ahead_30 (by decide) h (fun h => ?_) (fun h => ?_)
      · refine go_aload_n (pc := 35) C dX3_ahead_35 rfl 0 rfl ?_
        obtain ⟨s5, e5, h⟩ := bnd_some h
        refine go_callVv (pc := 36) C [] (m3_keepsAll e5) q1867 q1869 qs118 q144 q1870 x3pd_keepsAll (by decide) (by decide) bW_O x3c rfl (Nat.le_of_ble_eq_true rfl) ⟨Nat.zero_le _, Nat.zero_le _⟩ dX3_ahead_36 rfl ?_
        refine go_iconst (pc := 39) (v := (0 : Int32)) C dX3_ahead_39 (by decide) ?_
        refine go_istore_n (pc := 40) C hN dX3_ahead_40 rfl (by decide) rfl ?_
        refine go_sub [1, 2, 3, 0] rfl ?_
        exact w3_ahead_41 hN C hE FU (s5, (0 : Int32)) h
      · refine go_iconst (pc := 33) (v := (-1 : Int32)) C dX3_ahead_33 (by decide) ?_
        exact (hE 0 0 _ _ _ (Nat.zero_le _) (Nat.zero_le _)).1 _ rfl dX3_ahead_34 ⟨congrArg (fun z => some (Value.int z)) (some2 h).1, congrArg (fun z => bW Γ.d 3 FK3 a z) (some2 h).2⟩
theorem w3_sinks_14 {Γ : Gam} {a : Nat → Nat} {v1 : Int32} {r9 : Int32} {s9 : Bl} (hN : Γ.nL = 3) (C : Cx Γ cX3_sinks RX3 (8, 0, 0) 195) (hE : Rets Γ cX3_sinks (some .int) 0 0 (fun v w => v = some (.int r9) ∧ w = (bW Γ.d 3 FK3 a s9))) : ∀ (n : Nat) (s : Bl), loop (g3_sinks_14 v1) n s = some (r9, s9) → (fun s : Bl => Go Γ 0 0 (bW Γ.d 3 FK3 a s) 14 [(0, .ref (a 0)), (1, .int v1)] []) s := by
  refine loop_walk (P := fun s : Bl => Go Γ 0 0 (bW Γ.d 3 FK3 a s) 14 [(0, .ref (a 0)), (1, .int v1)] []) ?_
  intro K14 hK14 s h
  obtain ⟨s0, rfl⟩ : ∃ z, z = s := ⟨_, rfl⟩
  dsimp only [g3_sinks_14] at h
  show Go Γ 0 0 (bW Γ.d 3 FK3 a s0) 14 [(0, .ref (a 0)), (1, .int v1)] []
  refine go_aload_n (pc := 14) C dX3_sinks_14 rfl 0 rfl ?_
  obtain ⟨r3, e3, h⟩ := bnd_some h
  refine go_callVi (pc := 15) C [] (m3_milesLeft e3) q1768 q1770 qs102 q144 q1771 x3pd_milesLeft (by decide) (by decide) bW_O x3c rfl (Nat.le_of_ble_eq_true rfl) ⟨Nat.zero_le _, Nat.zero_le _⟩ dX3_sinks_15 rfl ?_
  refine go_if_le (pc := 18) (tgt := 38) C dX3_sinks_18 (by decide) h (fun h => ?_) (fun h => ?_)
  · refine go_aload_n (pc := 38) C dX3_sinks_38 rfl 0 rfl ?_
    refine x3gr_10 (pc := 39) C dX3_sinks_39 ?_
    refine go_iload_n (pc := 42) C dX3_sinks_42 rfl 1 rfl ?_
    refine go_iald (pc := 43) C x3aA_10 h dX3_sinks_43 (fun h => ?_)
    refine go_istore_n (pc := 44) C hN dX3_sinks_44 rfl (by decide) rfl ?_
    refine go_aload_n (pc := 45) C dX3_sinks_45 rfl 1 rfl ?_
    obtain ⟨s4, e4, h⟩ := bnd_some h
    refine go_callVv (pc := 46) C [] (m3_laysBack e4) q1883 q1885 qs122 q144 q1886 x3pd_laysBack (by decide) (by decide) bW_O x3c rfl (Nat.le_of_ble_eq_true rfl) ⟨Nat.zero_le _, Nat.zero_le _⟩ dX3_sinks_46 rfl ?_
    refine go_iload_n (pc := 49) C dX3_sinks_49 rfl 0 rfl ?_
    exact (hE 0 0 _ _ _ (Nat.zero_le _) (Nat.zero_le _)).1 _ rfl dX3_sinks_50 ⟨congrArg (fun z => some (Value.int z)) (some2 h).1, congrArg (fun z => bW Γ.d 3 FK3 a z) (some2 h).2⟩
  · refine go_aload_n (pc := 21) C dX3_sinks_21 rfl 0 rfl ?_
    refine x3gr_9 (pc := 22) C dX3_sinks_22 ?_
    refine go_iload_n (pc := 25) C dX3_sinks_25 rfl 1 rfl ?_
    refine go_iald (pc := 26) C x3aA_9 h dX3_sinks_26 (fun h => ?_)
    refine go_if_ne (pc := 27) (tgt := 38) C dX3_sinks_27 (by decide) h (fun h => ?_) (fun h => ?_)
    · refine go_aload_n (pc := 38) C dX3_sinks_38 rfl 0 rfl ?_
      refine x3gr_10 (pc := 39) C dX3_sinks_39 ?_
      refine go_iload_n (pc := 42) C dX3_sinks_42 rfl 1 rfl ?_
      refine go_iald (pc := 43) C x3aA_10 h dX3_sinks_43 (fun h => ?_)
      refine go_istore_n (pc := 44) C hN dX3_sinks_44 rfl (by decide) rfl ?_
      refine go_aload_n (pc := 45) C dX3_sinks_45 rfl 1 rfl ?_
      obtain ⟨s5, e5, h⟩ := bnd_some h
      refine go_callVv (pc := 46) C [] (m3_laysBack e5) q1883 q1885 qs122 q144 q1886 x3pd_laysBack (by decide) (by decide) bW_O x3c rfl (Nat.le_of_ble_eq_true rfl) ⟨Nat.zero_le _, Nat.zero_le _⟩ dX3_sinks_46 rfl ?_
      refine go_iload_n (pc := 49) C dX3_sinks_49 rfl 0 rfl ?_
      exact (hE 0 0 _ _ _ (Nat.zero_le _) (Nat.zero_le _)).1 _ rfl dX3_sinks_50 ⟨congrArg (fun z => some (Value.int z)) (some2 h).1, congrArg (fun z => bW Γ.d 3 FK3 a z) (some2 h).2⟩
    · refine go_aload_n (pc := 30) C dX3_sinks_30 rfl 0 rfl ?_
      obtain ⟨r6, s6, e6, h⟩ := bnd2_some h
      refine go_callVi (pc := 31) C [] (m3_goesMile e6) q1776 q1778 qs104 q144 q1779 x3pd_goesMile (by decide) (by decide) bW_O x3c rfl (Nat.le_of_ble_eq_true rfl) ⟨Nat.zero_le _, Nat.zero_le _⟩ dX3_sinks_31 rfl ?_
      refine go_pop (pc := 34) C dX3_sinks_34 rfl ?_
      refine go_goto (pc := 35) (tgt := 14) C dX3_sinks_35 (by decide) ?_
      exact hK14 s6 h
theorem m3_sinks {l : Launch} {d : gD} {a : Nat → Nat} {s0 : Bl} {v1 : Int32} {r9 : Int32} {s9 : Bl} (h : f3_sinks s0 v1 = some (r9, s9)) : Mt l d yX3_sinks cX3_sinks 3 (some .int) (8, 0, 0) 195 (bW d 3 FK3 a s0) [.ref (a 0), .int v1] (fun v w => v = some (.int r9) ∧ w = (bW d 3 FK3 a s9)) := by
  refine Mt.of x3pn (Nat.le_of_ble_eq_true rfl) ?_
  intro Γ hl hd hN C hE
  subst hl; subst hd
  show Go Γ 0 0 (bW Γ.d 3 FK3 a s0) 0 [(0, .ref (a 0)), (1, .int v1)] []
  dsimp only [f3_sinks] at h
  refine go_aload_n (pc := 0) C dX3_sinks_0 rfl 0 rfl ?_
  refine go_iload_n (pc := 1) C dX3_sinks_1 rfl 1 rfl ?_
  obtain ⟨r1, e1, h⟩ := bnd_some h
  refine go_callVi (pc := 2) C [.int v1] (m3_isThing e1) q1696 q1698 qs89 q144 q1699 x3pd_isThing (by decide) (by decide) bW_O x3c rfl (Nat.le_of_ble_eq_true rfl) ⟨Nat.zero_le _, Nat.zero_le _⟩ dX3_sinks_2 rfl ?_
  refine go_if_ne (pc := 5) (tgt := 10) C dX3_sinks_5 (by decide) h (fun h => ?_) (fun h => ?_)
  · refine go_aload_n (pc := 10) C dX3_sinks_10 rfl 0 rfl ?_
    obtain ⟨s2, e2, h⟩ := bnd_some h
    refine go_callVv (pc := 11) C [] (m3_keepsAll e2) q1867 q1869 qs118 q144 q1870 x3pd_keepsAll (by decide) (by decide) bW_O x3c rfl (Nat.le_of_ble_eq_true rfl) ⟨Nat.zero_le _, Nat.zero_le _⟩ dX3_sinks_11 rfl ?_
    exact w3_sinks_14 hN C hE FU s2 h
  · refine go_iconst (pc := 8) (v := (-1 : Int32)) C dX3_sinks_8 (by decide) ?_
    exact (hE 0 0 _ _ _ (Nat.zero_le _) (Nat.zero_le _)).1 _ rfl dX3_sinks_9 ⟨congrArg (fun z => some (Value.int z)) (some2 h).1, congrArg (fun z => bW Γ.d 3 FK3 a z) (some2 h).2⟩
theorem m3_isBorne {l : Launch} {d : gD} {a : Nat → Nat} {s0 : Bl} {v1 : Int32} {r9 : Int32} (h : f3_isBorne s0 v1 = some r9) : Mt l d yX3_isBorne cX3_isBorne 2 (some .boolean) (2, 0, 0) 44 (bW d 3 FK3 a s0) [.ref (a 0), .int v1] (fun v w => v = some (.int r9) ∧ w = (bW d 3 FK3 a s0)) := by
  refine Mt.of x3pn (Nat.le_of_ble_eq_true rfl) ?_
  intro Γ hl hd hN C hE
  subst hl; subst hd
  show Go Γ 0 0 (bW Γ.d 3 FK3 a s0) 0 [(0, .ref (a 0)), (1, .int v1)] []
  dsimp only [f3_isBorne] at h
  refine go_aload_n (pc := 0) C dX3_isBorne_0 rfl 0 rfl ?_
  refine go_iload_n (pc := 1) C dX3_isBorne_1 rfl 1 rfl ?_
  obtain ⟨r1, e1, h⟩ := bnd_some h
  refine go_callVi (pc := 2) C [.int v1] (m3_floatOf e1) q1736 q1738 qs96 q144 q1739 x3pd_floatOf (by decide) (by decide) bW_O x3c rfl (Nat.le_of_ble_eq_true rfl) ⟨Nat.zero_le _, Nat.zero_le _⟩ dX3_isBorne_2 rfl ?_
  refine go_aload_n (pc := 5) C dX3_isBorne_5 rfl 0 rfl ?_
  refine go_iload_n (pc := 6) C dX3_isBorne_6 rfl 1 rfl ?_
  obtain ⟨r2, e2, h⟩ := bnd_some h
  refine go_callVi (pc := 7) C [.int v1] (m3_weightOf e2) q1740 q1742 qs97 q144 q1743 x3pd_weightOf (by decide) (by decide) bW_O x3c rfl (Nat.le_of_ble_eq_true rfl) ⟨Nat.zero_le _, Nat.zero_le _⟩ dX3_isBorne_7 rfl ?_
  refine go_icmp_lt (pc := 10) (tgt := 17) C dX3_isBorne_10 (by decide) h (fun h => ?_) (fun h => ?_)
  · refine go_iconst (pc := 17) (v := (0 : Int32)) C dX3_isBorne_17 (by decide) ?_
    exact (hE 0 0 _ _ _ (Nat.zero_le _) (Nat.zero_le _)).2.1 _ rfl (Or.inl rfl) dX3_isBorne_18 ⟨congrArg (fun z => some (Value.int z)) (some1 h), rfl⟩
  · refine go_iconst (pc := 13) (v := (1 : Int32)) C dX3_isBorne_13 (by decide) ?_
    refine go_goto (pc := 14) (tgt := 18) C dX3_isBorne_14 (by decide) ?_
    exact (hE 0 0 _ _ _ (Nat.zero_le _) (Nat.zero_le _)).2.1 _ rfl (Or.inr rfl) dX3_isBorne_18 ⟨congrArg (fun z => some (Value.int z)) (some1 h), rfl⟩
theorem w3_bearers_50 {Γ : Gam} {a : Nat → Nat} {s0 : Bl} {v1 : Int32} {v2 : Int32} {v3 : Int32} {r9 : Int32} (hN : Γ.nL = 6) (C : Cx Γ cX3_bearers RX3 (3, 0, 0) 65) (hE : Rets Γ cX3_bearers (some .int) 0 0 (fun v w => v = some (.int r9) ∧ w = (bW Γ.d 3 FK3 a s0))) : ∀ (n : Nat) (s : Int32 × Int32), loop (g3_bearers_50 s0 v1 v2 v3) n s = some r9 → (fun s : Int32 × Int32 => Go Γ 0 0 (bW Γ.d 3 FK3 a s0) 50 [(0, .ref (a 0)), (1, .int v1), (2, .int v2), (3, .int v3), (4, .int s.1), (5, .int s.2)] []) s := by
  refine loop_walk (P := fun s : Int32 × Int32 => Go Γ 0 0 (bW Γ.d 3 FK3 a s0) 50 [(0, .ref (a 0)), (1, .int v1), (2, .int v2), (3, .int v3), (4, .int s.1), (5, .int s.2)] []) ?_
  intro K50 hK50 s h
  obtain ⟨v4, v5⟩ := s
  dsimp only [g3_bearers_50] at h
  show Go Γ 0 0 (bW Γ.d 3 FK3 a s0) 50 [(0, .ref (a 0)), (1, .int v1), (2, .int v2), (3, .int v3), (4, .int v4), (5, .int v5)] []
  refine go_iload (pc := 50) C dX3_bearers_50 5 rfl ?_
  refine go_iload_n (pc := 52) C dX3_bearers_52 rfl 3 rfl ?_
  refine go_icmp_gt (pc := 53) (tgt := 106) C dX3_bearers_53 (by decide) h (fun h => ?_) (fun h => ?_)
  · refine go_iload (pc := 106) C dX3_bearers_106 4 rfl ?_
    refine go_bipush (pc := 108) (v := (-2 : Int32)) C dX3_bearers_108 (by decide) ?_
    refine go_icmp_eq (pc := 110) (tgt := 118) C dX3_bearers_110 (by decide) h (fun h => ?_) (fun h => ?_)
    · refine go_iload (pc := 118) C dX3_bearers_118 4 rfl ?_
      refine go_goto (pc := 120) (tgt := 128) C dX3_bearers_120 (by decide) ?_
      exact (hE 0 0 _ _ _ (Nat.zero_le _) (Nat.zero_le _)).1 _ rfl dX3_bearers_128 ⟨congrArg (fun z => some (Value.int z)) (some1 h), rfl⟩
    · refine go_iload_n (pc := 113) C dX3_bearers_113 rfl 2 rfl ?_
      refine go_iconst (pc := 114) (v := (1 : Int32)) C dX3_bearers_114 (by decide) ?_
      refine go_icmp_ne (pc := 115) (tgt := 123) C dX3_bearers_115 (by decide) h (fun h => ?_) (fun h => ?_)
      · refine go_iload (pc := 123) C dX3_bearers_123 4 rfl ?_
        obtain ⟨r5, e5, h⟩ := bnd_some h
        refine go_callSi (pc := 125) C [.int v4] (m3_bits e5) q1796 q1797 q144 q1798 x3pd_bits (by decide) (by decide) rfl (Nat.le_of_ble_eq_true rfl) ⟨Nat.zero_le _, Nat.zero_le _⟩ dX3_bearers_125 rfl ?_
        exact (hE 0 0 _ _ _ (Nat.zero_le _) (Nat.zero_le _)).1 _ rfl dX3_bearers_128 ⟨congrArg (fun z => some (Value.int z)) (some1 h), rfl⟩
      · refine go_iload (pc := 118) C dX3_bearers_118 4 rfl ?_
        refine go_goto (pc := 120) (tgt := 128) C dX3_bearers_120 (by decide) ?_
        exact (hE 0 0 _ _ _ (Nat.zero_le _) (Nat.zero_le _)).1 _ rfl dX3_bearers_128 ⟨congrArg (fun z => some (Value.int z)) (some1 h), rfl⟩
  · refine go_iload (pc := 56) C dX3_bearers_56 5 rfl ?_
    refine go_iload_n (pc := 58) C dX3_bearers_58 rfl 3 rfl ?_
    refine go_iconst (pc := 59) (v := (-1 : Int32)) C dX3_bearers_59 (by decide) ?_
    refine go_ixor (pc := 60) C dX3_bearers_60 ?_
    refine go_iand (pc := 61) C dX3_bearers_61 ?_
    refine go_if_ne (pc := 62) (tgt := 100) C dX3_bearers_62 (by decide) h (fun h => ?_) (fun h => ?_)
    · refine go_iinc (pc := 100) (v := (v5 + (1 : Int32))) C hN dX3_bearers_100 (q := 5) rfl rfl (by decide) rfl ?_
      refine go_goto (pc := 103) (tgt := 50) C dX3_bearers_103 (by decide) ?_
      refine go_sub [1, 2, 3, 4, 5, 0] rfl ?_
      exact hK50 (v4, (v5 + (1 : Int32))) h
    · refine go_iload (pc := 65) C dX3_bearers_65 4 rfl ?_
      refine go_bipush (pc := 67) (v := (-2 : Int32)) C dX3_bearers_67 (by decide) ?_
      refine go_icmp_eq (pc := 69) (tgt := 85) C dX3_bearers_69 (by decide) h (fun h => ?_) (fun h => ?_)
      · refine go_aload_n (pc := 85) C dX3_bearers_85 rfl 0 rfl ?_
        refine go_iload_n (pc := 86) C dX3_bearers_86 rfl 1 rfl ?_
        refine go_iload (pc := 87) C dX3_bearers_87 5 rfl ?_
        refine go_ior (pc := 89) C dX3_bearers_89 ?_
        obtain ⟨r6, e6, h⟩ := bnd_some h
        refine go_callVi (pc := 90) C [.int (v1 ||| v5)] (m3_isBorne e6) q1895 q1897 qs123 q144 q1898 x3pd_isBorne (by decide) (by decide) bW_O x3c rfl (Nat.le_of_ble_eq_true rfl) ⟨Nat.zero_le _, Nat.zero_le _⟩ dX3_bearers_90 rfl ?_
        refine go_if_eq (pc := 93) (tgt := 100) C dX3_bearers_93 (by decide) h (fun h => ?_) (fun h => ?_)
        · refine go_iinc (pc := 100) (v := (v5 + (1 : Int32))) C hN dX3_bearers_100 (q := 5) rfl rfl (by decide) rfl ?_
          refine go_goto (pc := 103) (tgt := 50) C dX3_bearers_103 (by decide) ?_
          refine go_sub [1, 2, 3, 4, 5, 0] rfl ?_
          exact hK50 (v4, (v5 + (1 : Int32))) h
        · refine go_iload (pc := 96) C dX3_bearers_96 5 rfl ?_
          refine go_istore (pc := 98) C hN dX3_bearers_98 (by decide) rfl ?_
          refine go_iinc (pc := 100) (v := (v5 + (1 : Int32))) C hN dX3_bearers_100 (q := 5) rfl rfl (by decide) rfl ?_
          refine go_goto (pc := 103) (tgt := 50) C dX3_bearers_103 (by decide) ?_
          refine go_sub [2, 3, 4, 5, 1, 0] rfl ?_
          exact hK50 (v5, (v5 + (1 : Int32))) h
      · refine go_iload (pc := 72) C dX3_bearers_72 5 rfl ?_
        obtain ⟨r7, e7, h⟩ := bnd_some h
        refine go_callSi (pc := 74) C [.int v5] (m3_bits e7) q1796 q1797 q144 q1798 x3pd_bits (by decide) (by decide) rfl (Nat.le_of_ble_eq_true rfl) ⟨Nat.zero_le _, Nat.zero_le _⟩ dX3_bearers_74 rfl ?_
        refine go_iload (pc := 77) C dX3_bearers_77 4 rfl ?_
        obtain ⟨r8, e8, h⟩ := bnd_some h
        refine go_callSi (pc := 79) C [.int v4] (m3_bits e8) q1796 q1797 q144 q1798 x3pd_bits (by decide) (by decide) rfl (Nat.le_of_ble_eq_true rfl) ⟨Nat.zero_le _, Nat.zero_le _⟩ dX3_bearers_79 rfl ?_
        refine go_icmp_ge (pc := 82) (tgt := 100) C dX3_bearers_82 (by decide) h (fun h => ?_) (fun h => ?_)
        · refine go_iinc (pc := 100) (v := (v5 + (1 : Int32))) C hN dX3_bearers_100 (q := 5) rfl rfl (by decide) rfl ?_
          refine go_goto (pc := 103) (tgt := 50) C dX3_bearers_103 (by decide) ?_
          refine go_sub [1, 2, 3, 4, 5, 0] rfl ?_
          exact hK50 (v4, (v5 + (1 : Int32))) h
        · refine go_aload_n (pc := 85) C dX3_bearers_85 rfl 0 rfl ?_
          refine go_iload_n (pc := 86) C dX3_bearers_86 rfl 1 rfl ?_
          refine go_iload (pc := 87) C dX3_bearers_87 5 rfl ?_
          refine go_ior (pc := 89) C dX3_bearers_89 ?_
          obtain ⟨r9, e9, h⟩ := bnd_some h
          refine go_callVi (pc := 90) C [.int (v1 ||| v5)] (m3_isBorne e9) q1895 q1897 qs123 q144 q1898 x3pd_isBorne (by decide) (by decide) bW_O x3c rfl (Nat.le_of_ble_eq_true rfl) ⟨Nat.zero_le _, Nat.zero_le _⟩ dX3_bearers_90 rfl ?_
          refine go_if_eq (pc := 93) (tgt := 100) C dX3_bearers_93 (by decide) h (fun h => ?_) (fun h => ?_)
          · refine go_iinc (pc := 100) (v := (v5 + (1 : Int32))) C hN dX3_bearers_100 (q := 5) rfl rfl (by decide) rfl ?_
            refine go_goto (pc := 103) (tgt := 50) C dX3_bearers_103 (by decide) ?_
            refine go_sub [1, 2, 3, 4, 5, 0] rfl ?_
            exact hK50 (v4, (v5 + (1 : Int32))) h
          · refine go_iload (pc := 96) C dX3_bearers_96 5 rfl ?_
            refine go_istore (pc := 98) C hN dX3_bearers_98 (by decide) rfl ?_
            refine go_iinc (pc := 100) (v := (v5 + (1 : Int32))) C hN dX3_bearers_100 (q := 5) rfl rfl (by decide) rfl ?_
            refine go_goto (pc := 103) (tgt := 50) C dX3_bearers_103 (by decide) ?_
            refine go_sub [2, 3, 4, 5, 1, 0] rfl ?_
            exact hK50 (v5, (v5 + (1 : Int32))) h
theorem m3_bearers {l : Launch} {d : gD} {a : Nat → Nat} {s0 : Bl} {v1 : Int32} {v2 : Int32} {r9 : Int32} (h : f3_bearers s0 v1 v2 = some r9) : Mt l d yX3_bearers cX3_bearers 6 (some .int) (3, 0, 0) 65 (bW d 3 FK3 a s0) [.ref (a 0), .int v1, .int v2] (fun v w => v = some (.int r9) ∧ w = (bW d 3 FK3 a s0)) := by
  refine Mt.of x3pn (Nat.le_of_ble_eq_true rfl) ?_
  intro Γ hl hd hN C hE
  subst hl; subst hd
  show Go Γ 0 0 (bW Γ.d 3 FK3 a s0) 0 [(0, .ref (a 0)), (1, .int v1), (2, .int v2)] []
  dsimp only [f3_bearers] at h
  refine go_aload_n (pc := 0) C dX3_bearers_0 rfl 0 rfl ?_
  obtain ⟨r1, e1, h⟩ := bnd_some h
  refine go_callVi (pc := 1) C [] (m3_isRiver e1) q1716 q1718 qs92 q144 q1719 x3pd_isRiver (by decide) (by decide) bW_O x3c rfl (Nat.le_of_ble_eq_true rfl) ⟨Nat.zero_le _, Nat.zero_le _⟩ dX3_bearers_1 rfl ?_
  refine go_if_eq (pc := 4) (tgt := 32) C dX3_bearers_4 (by decide) h (fun h => ?_) (fun h => ?_)
  · refine go_iconst (pc := 32) (v := (-1 : Int32)) C dX3_bearers_32 (by decide) ?_
    exact (hE 0 0 _ _ _ (Nat.zero_le _) (Nat.zero_le _)).1 _ rfl dX3_bearers_33 ⟨congrArg (fun z => some (Value.int z)) (some1 h), rfl⟩
  · refine go_iload_n (pc := 7) C dX3_bearers_7 rfl 1 rfl ?_
    refine go_if_lt (pc := 8) (tgt := 32) C dX3_bearers_8 (by decide) h (fun h => ?_) (fun h => ?_)
    · refine go_iconst (pc := 32) (v := (-1 : Int32)) C dX3_bearers_32 (by decide) ?_
      exact (hE 0 0 _ _ _ (Nat.zero_le _) (Nat.zero_le _)).1 _ rfl dX3_bearers_33 ⟨congrArg (fun z => some (Value.int z)) (some1 h), rfl⟩
    · refine go_iload_n (pc := 11) C dX3_bearers_11 rfl 1 rfl ?_
      refine go_aload_n (pc := 12) C dX3_bearers_12 rfl 0 rfl ?_
      obtain ⟨r2, e2, h⟩ := bnd_some h
      refine go_callVi (pc := 13) C [] (m3_afloat e2) q1678 q1680 qs87 q144 q1681 x3pd_afloat (by decide) (by decide) bW_O x3c rfl (Nat.le_of_ble_eq_true rfl) ⟨Nat.zero_le _, Nat.zero_le _⟩ dX3_bearers_13 rfl ?_
      refine go_iconst (pc := 16) (v := (-1 : Int32)) C dX3_bearers_16 (by decide) ?_
      refine go_ixor (pc := 17) C dX3_bearers_17 ?_
      refine go_iand (pc := 18) C dX3_bearers_18 ?_
      refine go_if_ne (pc := 19) (tgt := 32) C dX3_bearers_19 (by decide) h (fun h => ?_) (fun h => ?_)
      · refine go_iconst (pc := 32) (v := (-1 : Int32)) C dX3_bearers_32 (by decide) ?_
        exact (hE 0 0 _ _ _ (Nat.zero_le _) (Nat.zero_le _)).1 _ rfl dX3_bearers_33 ⟨congrArg (fun z => some (Value.int z)) (some1 h), rfl⟩
      · refine go_iload_n (pc := 22) C dX3_bearers_22 rfl 2 rfl ?_
        refine go_i2l (pc := 23) C dX3_bearers_23 ?_
        refine go_lconst (pc := 24) (v := (0 : Int64)) C dX3_bearers_24 (by decide) ?_
        refine go_lconst (pc := 25) (v := (1 : Int64)) C dX3_bearers_25 (by decide) ?_
        obtain ⟨r3, e3, h⟩ := bnd_some h
        refine go_callSi (pc := 26) C [.long (v2).toInt64, .long (0 : Int64), .long (1 : Int64)] (m3_in e3) q1564 q1565 q144 q1566 x3pd_in (by decide) (by decide) rfl (Nat.le_of_ble_eq_true rfl) ⟨Nat.zero_le _, Nat.zero_le _⟩ dX3_bearers_26 rfl ?_
        refine go_if_ne (pc := 29) (tgt := 34) C dX3_bearers_29 (by decide) h (fun h => ?_) (fun h => ?_)
        · refine go_aload_n (pc := 34) C dX3_bearers_34 rfl 0 rfl ?_
          obtain ⟨r4, e4, h⟩ := bnd_some h
          refine go_callVi (pc := 35) C [] (m3_afloat e4) q1678 q1680 qs87 q144 q1681 x3pd_afloat (by decide) (by decide) bW_O x3c rfl (Nat.le_of_ble_eq_true rfl) ⟨Nat.zero_le _, Nat.zero_le _⟩ dX3_bearers_35 rfl ?_
          refine go_iload_n (pc := 38) C dX3_bearers_38 rfl 1 rfl ?_
          refine go_iconst (pc := 39) (v := (-1 : Int32)) C dX3_bearers_39 (by decide) ?_
          refine go_ixor (pc := 40) C dX3_bearers_40 ?_
          refine go_iand (pc := 41) C dX3_bearers_41 ?_
          refine go_istore_n (pc := 42) C hN dX3_bearers_42 rfl (by decide) rfl ?_
          refine go_bipush (pc := 43) (v := (-2 : Int32)) C dX3_bearers_43 (by decide) ?_
          refine go_istore (pc := 45) C hN dX3_bearers_45 (by decide) rfl ?_
          refine go_iconst (pc := 47) (v := (0 : Int32)) C dX3_bearers_47 (by decide) ?_
          refine go_istore (pc := 48) C hN dX3_bearers_48 (by decide) rfl ?_
          refine go_sub [3, 4, 5, 2, 1, 0] rfl ?_
          exact w3_bearers_50 hN C hE FU ((-2 : Int32), (0 : Int32)) h
        · refine go_iconst (pc := 32) (v := (-1 : Int32)) C dX3_bearers_32 (by decide) ?_
          exact (hE 0 0 _ _ _ (Nat.zero_le _) (Nat.zero_le _)).1 _ rfl dX3_bearers_33 ⟨congrArg (fun z => some (Value.int z)) (some1 h), rfl⟩
theorem w3_laysLater_237 {Γ : Gam} {a : Nat → Nat} {v1 : Int32} {s0 : Bl} {v3 : Int32} {v4 : Int32} {z0 : Int32} {r9 : Int32} {s9 : Bl} {K34 : Bl × Int32 × Int32 → Option (Int32 × Bl)} (hN : Γ.nL = 9) (C : Cx Γ cX3_laysLater RX3 (2, 0, 0) 44) (hE : Rets Γ cX3_laysLater (some .boolean) 0 0 (fun v w => v = some (.int r9) ∧ w = (bW Γ.d 3 FK3 a s9)))
    (hK34 : ∀ s, K34 s = some (r9, s9) → (fun s : Bl × Int32 × Int32 => Go Γ 0 0 (bW Γ.d 3 FK3 a s.1) 34 [(0, .ref (a 0)), (1, .int v1), (2, .int s.2.1), (3, .int s.2.2)] []) s) (h : g3_laysLater_237 K34 s0 v1 v3 v4 z0 = some (r9, s9)) : Go Γ 0 0 (bW Γ.d 3 FK3 a s0) 237 [(0, .ref (a 0)), (1, .int v1), (3, .int v3), (4, .int v4)] [.int z0] := by
  dsimp only [g3_laysLater_237] at h
  refine go_istore_n (pc := 237) C hN dX3_laysLater_237 rfl (by decide) rfl ?_
  refine go_aload_n (pc := 238) C dX3_laysLater_238 rfl 1 rfl ?_
  refine x3gr_60 (pc := 239) C dX3_laysLater_239 ?_
  refine go_aload_n (pc := 242) C dX3_laysLater_242 rfl 1 rfl ?_
  refine x3gi_61 (pc := 243) C dX3_laysLater_243 ?_
  refine go_iload (pc := 246) C dX3_laysLater_246 4 rfl ?_
  refine go_iast (pc := 248) C x3pA_60 h dX3_laysLater_248 (fun h => ?_)
  refine go_aload_n (pc := 249) C dX3_laysLater_249 rfl 1 rfl ?_
  refine go_dup (pc := 250) C dX3_laysLater_250 rfl ?_
  refine x3gi_61 (pc := 251) C dX3_laysLater_251 ?_
  refine go_iconst (pc := 254) (v := (1 : Int32)) C dX3_laysLater_254 (by decide) ?_
  refine go_iadd (pc := 255) C dX3_laysLater_255 ?_
  refine x3pi_61 (pc := 256) C dX3_laysLater_256 ?_
  refine go_iinc (pc := 259) (v := (v3 + (1 : Int32))) C hN dX3_laysLater_259 (q := 3) rfl rfl (by decide) rfl ?_
  refine go_goto (pc := 262) (tgt := 34) C dX3_laysLater_262 (by decide) ?_
  refine go_sub [2, 3, 1, 0] rfl ?_
  exact hK34 ((bI (bA s0 60 ((s0.1 61)).toNatClampNeg v4) 61 (((bA s0 60 ((s0.1 61)).toNatClampNeg v4).1 61) + (1 : Int32))), z0, (v3 + (1 : Int32))) h
theorem w3_laysLater_153 {Γ : Gam} {a : Nat → Nat} {s0 : Bl} {v1 : Int32} {v2 : Int32} {v3 : Int32} {v4 : Int32} {r9 : Int32} {s9 : Bl} {K34 : Bl × Int32 × Int32 → Option (Int32 × Bl)} (hN : Γ.nL = 9) (C : Cx Γ cX3_laysLater RX3 (2, 0, 0) 44) (hE : Rets Γ cX3_laysLater (some .boolean) 0 0 (fun v w => v = some (.int r9) ∧ w = (bW Γ.d 3 FK3 a s9)))
    (hK34 : ∀ s, K34 s = some (r9, s9) → (fun s : Bl × Int32 × Int32 => Go Γ 0 0 (bW Γ.d 3 FK3 a s.1) 34 [(0, .ref (a 0)), (1, .int v1), (2, .int s.2.1), (3, .int s.2.2)] []) s) : ∀ (n : Nat) (s : Int32 × Int32), loop (g3_laysLater_153 s0 v1 v2 v3 v4 K34) n s = some (r9, s9) → (fun s : Int32 × Int32 => Go Γ 0 0 (bW Γ.d 3 FK3 a s0) 153 [(0, .ref (a 0)), (1, .int v1), (2, .int v2), (3, .int v3), (4, .int v4), (6, .int s.1), (7, .int s.2)] []) s := by
  refine loop_walk (P := fun s : Int32 × Int32 => Go Γ 0 0 (bW Γ.d 3 FK3 a s0) 153 [(0, .ref (a 0)), (1, .int v1), (2, .int v2), (3, .int v3), (4, .int v4), (6, .int s.1), (7, .int s.2)] []) ?_
  intro K153 hK153 s h
  obtain ⟨v6, v7⟩ := s
  dsimp only [g3_laysLater_153] at h
  show Go Γ 0 0 (bW Γ.d 3 FK3 a s0) 153 [(0, .ref (a 0)), (1, .int v1), (2, .int v2), (3, .int v3), (4, .int v4), (6, .int v6), (7, .int v7)] []
  refine go_iload (pc := 153) C dX3_laysLater_153 6 rfl ?_
  refine go_aload_n (pc := 155) C dX3_laysLater_155 rfl 0 rfl ?_
  refine x3gr_1 (pc := 156) C dX3_laysLater_156 ?_
  refine go_iconst (pc := 159) (v := (3 : Int32)) C dX3_laysLater_159 (by decide) ?_
  refine go_ialdK (pc := 160) (j := 3) C x3aA_1 (by decide) (by decide) dX3_laysLater_160 ?_
  refine go_icmp_ge (pc := 161) (tgt := 223) C dX3_laysLater_161 (by decide) h (fun h => ?_) (fun h => ?_)
  · refine go_iload_n (pc := 223) C dX3_laysLater_223 rfl 2 rfl ?_
    refine go_if_eq (pc := 224) (tgt := 236) C dX3_laysLater_224 (by decide) h (fun h => ?_) (fun h => ?_)
    · refine go_iconst (pc := 236) (v := (0 : Int32)) C dX3_laysLater_236 (by decide) ?_
      refine go_sub [0, 1, 3, 4] rfl ?_
      exact w3_laysLater_237 hN C hE hK34 h
    · refine go_iload (pc := 227) C dX3_laysLater_227 5 rfl ?_
      refine go_if_lt (pc := 229) (tgt := 236) C dX3_laysLater_229 (by decide) h (fun h => ?_) (fun h => ?_)
      · refine go_iconst (pc := 236) (v := (0 : Int32)) C dX3_laysLater_236 (by decide) ?_
        refine go_sub [0, 1, 3, 4] rfl ?_
        exact w3_laysLater_237 hN C hE hK34 h
      · refine go_iconst (pc := 232) (v := (1 : Int32)) C dX3_laysLater_232 (by decide) ?_
        refine go_goto (pc := 233) (tgt := 237) C dX3_laysLater_233 (by decide) ?_
        refine go_sub [0, 1, 3, 4] rfl ?_
        exact w3_laysLater_237 hN C hE hK34 h
  · refine go_aload_n (pc := 164) C dX3_laysLater_164 rfl 0 rfl ?_
    refine x3gr_7 (pc := 165) C dX3_laysLater_165 ?_
    refine go_iload (pc := 168) C dX3_laysLater_168 6 rfl ?_
    refine go_iald (pc := 170) C x3aA_7 h dX3_laysLater_170 (fun h => ?_)
    refine go_aload_n (pc := 171) C dX3_laysLater_171 rfl 0 rfl ?_
    refine x3gr_8 (pc := 172) C dX3_laysLater_172 ?_
    refine go_iload (pc := 175) C dX3_laysLater_175 6 rfl ?_
    refine go_iald (pc := 177) C x3aA_8 h dX3_laysLater_177 (fun h => ?_)
    refine go_iload_n (pc := 178) C dX3_laysLater_178 rfl 3 rfl ?_
    refine go_aload_n (pc := 179) C dX3_laysLater_179 rfl 0 rfl ?_
    refine x3gr_1 (pc := 180) C dX3_laysLater_180 ?_
    refine go_bipush (pc := 183) (v := (6 : Int32)) C dX3_laysLater_183 (by decide) ?_
    refine go_ialdK (pc := 185) (j := 6) C x3aA_1 (by decide) (by decide) dX3_laysLater_185 ?_
    refine go_isub (pc := 186) C dX3_laysLater_186 ?_
    refine go_imul (pc := 187) C dX3_laysLater_187 ?_
    refine go_isub (pc := 188) C dX3_laysLater_188 ?_
    refine go_topi (pc := 189) (fun y4 ey4 => ?_)
    have h := ltv_eq ey4 h
    refine go_istore (pc := 189) C hN dX3_laysLater_189 (by decide) rfl ?_
    refine go_iload (pc := 191) C dX3_laysLater_191 6 rfl ?_
    refine go_iload (pc := 193) C dX3_laysLater_193 5 rfl ?_
    refine go_iload (pc := 195) C dX3_laysLater_195 7 rfl ?_
    obtain ⟨r5, e5, h⟩ := bnd_some h
    refine go_callSi (pc := 197) C [.int v4, .int v7] (m3_has e5) q1682 q1683 q144 q1684 x3pd_has (by decide) (by decide) rfl (Nat.le_of_ble_eq_true rfl) ⟨Nat.zero_le _, Nat.zero_le _⟩ dX3_laysLater_197 rfl ?_
    refine go_if_eq (pc := 200) (tgt := 213) C dX3_laysLater_200 (by decide) h (fun h => ?_) (fun h => ?_)
    · refine go_iconst (pc := 213) (v := (0 : Int32)) C dX3_laysLater_213 (by decide) ?_
      refine go_iadd (pc := 214) C dX3_laysLater_214 ?_
      refine go_istore (pc := 215) C hN dX3_laysLater_215 (by decide) rfl ?_
      refine go_iinc (pc := 217) (v := (v7 + (1 : Int32))) C hN dX3_laysLater_217 (q := 7) rfl rfl (by decide) rfl ?_
      refine go_goto (pc := 220) (tgt := 153) C dX3_laysLater_220 (by decide) ?_
      refine go_sub [3, 4, 5, 6, 7, 1, 0] rfl ?_
      exact hK153 ((v6 + (0 : Int32)), (v7 + (1 : Int32))) h
    · refine go_iload (pc := 203) C dX3_laysLater_203 0 rfl ?_
      refine go_if_le (pc := 205) (tgt := 213) C dX3_laysLater_205 (by decide) h (fun h => ?_) (fun h => ?_)
      · refine go_iconst (pc := 213) (v := (0 : Int32)) C dX3_laysLater_213 (by decide) ?_
        refine go_iadd (pc := 214) C dX3_laysLater_214 ?_
        refine go_istore (pc := 215) C hN dX3_laysLater_215 (by decide) rfl ?_
        refine go_iinc (pc := 217) (v := (v7 + (1 : Int32))) C hN dX3_laysLater_217 (q := 7) rfl rfl (by decide) rfl ?_
        refine go_goto (pc := 220) (tgt := 153) C dX3_laysLater_220 (by decide) ?_
        refine go_sub [3, 4, 5, 6, 7, 1, 0] rfl ?_
        exact hK153 ((v6 + (0 : Int32)), (v7 + (1 : Int32))) h
      · refine go_iload (pc := 208) C dX3_laysLater_208 0 rfl ?_
        refine go_goto (pc := 210) (tgt := 214) C dX3_laysLater_210 (by decide) ?_
        refine go_iadd (pc := 214) C dX3_laysLater_214 ?_
        refine go_istore (pc := 215) C hN dX3_laysLater_215 (by decide) rfl ?_
        refine go_iinc (pc := 217) (v := (v7 + (1 : Int32))) C hN dX3_laysLater_217 (q := 7) rfl rfl (by decide) rfl ?_
        refine go_goto (pc := 220) (tgt := 153) C dX3_laysLater_220 (by decide) ?_
        refine go_sub [3, 4, 5, 6, 7, 1, 0] rfl ?_
        exact hK153 ((v6 + y4), (v7 + (1 : Int32))) h
theorem w3_laysLater_99 {Γ : Gam} {a : Nat → Nat} {v1 : Int32} {s0 : Bl} {v2 : Int32} {v3 : Int32} {v5 : Int32} {v6 : Int32} {z0 : Int32} {z1 : Int32} {r9 : Int32} {s9 : Bl} {K34 : Bl × Int32 × Int32 → Option (Int32 × Bl)} {K53 : Int32 × Int32 × Int32 → Option (Int32 × Bl)} (hN : Γ.nL = 9) (C : Cx Γ cX3_laysLater RX3 (2, 0, 0) 44) (hE : Rets Γ cX3_laysLater (some .boolean) 0 0 (fun v w => v = some (.int r9) ∧ w = (bW Γ.d 3 FK3 a s9)))
    (hK34 : ∀ s, K34 s = some (r9, s9) → (fun s : Bl × Int32 × Int32 => Go Γ 0 0 (bW Γ.d 3 FK3 a s.1) 34 [(0, .ref (a 0)), (1, .int v1), (2, .int s.2.1), (3, .int s.2.2)] []) s)
    (hK53 : ∀ s, K53 s = some (r9, s9) → (fun s : Int32 × Int32 × Int32 => Go Γ 0 0 (bW Γ.d 3 FK3 a s0) 53 [(0, .ref (a 0)), (1, .int v1), (2, .int v2), (3, .int v3), (4, .int s.1), (5, .int s.2.1), (6, .int s.2.2)] []) s) (h : g3_laysLater_99 K34 K53 s0 v1 v2 v3 v5 v6 z0 z1 = some (r9, s9)) : Go Γ 0 0 (bW Γ.d 3 FK3 a s0) 99 [(0, .ref (a 0)), (1, .int v1), (2, .int v2), (3, .int v3), (5, .int v5), (6, .int v6)] [.int z0, .int z1] := by
  dsimp only [g3_laysLater_99] at h
  refine go_ior (pc := 99) C dX3_laysLater_99 ?_
  refine go_istore (pc := 100) C hN dX3_laysLater_100 (by decide) rfl ?_
  refine go_iload (pc := 102) C dX3_laysLater_102 5 rfl ?_
  refine go_if_ne (pc := 104) (tgt := 123) C dX3_laysLater_104 (by decide) h (fun h => ?_) (fun h => ?_)
  · refine go_iconst (pc := 123) (v := (1 : Int32)) C dX3_laysLater_123 (by decide) ?_
    refine go_goto (pc := 124) (tgt := 128) C dX3_laysLater_124 (by decide) ?_
    refine go_istore (pc := 128) C hN dX3_laysLater_128 (by decide) rfl ?_
    refine go_iinc (pc := 130) (v := (v6 + (1 : Int32))) C hN dX3_laysLater_130 (q := 6) rfl rfl (by decide) rfl ?_
    refine go_goto (pc := 133) (tgt := 53) C dX3_laysLater_133 (by decide) ?_
    refine go_sub [3, 4, 5, 6, 2, 1, 0] rfl ?_
    exact hK53 ((z1 ||| z0), (1 : Int32), (v6 + (1 : Int32))) h
  · refine go_aload_n (pc := 107) C dX3_laysLater_107 rfl 1 rfl ?_
    refine x3gr_2 (pc := 108) C dX3_laysLater_108 ?_
    refine go_aload_n (pc := 111) C dX3_laysLater_111 rfl 1 rfl ?_
    refine x3gr_5 (pc := 112) C dX3_laysLater_112 ?_
    refine go_iload (pc := 115) C dX3_laysLater_115 6 rfl ?_
    refine go_iald (pc := 117) C x3aA_5 h dX3_laysLater_117 (fun h => ?_)
    refine go_iald (pc := 118) C x3aA_2 h dX3_laysLater_118 (fun h => ?_)
    refine go_iload_n (pc := 119) C dX3_laysLater_119 rfl 4 rfl ?_
    refine go_icmp_ne (pc := 120) (tgt := 127) C dX3_laysLater_120 (by decide) h (fun h => ?_) (fun h => ?_)
    · refine go_iconst (pc := 127) (v := (0 : Int32)) C dX3_laysLater_127 (by decide) ?_
      refine go_istore (pc := 128) C hN dX3_laysLater_128 (by decide) rfl ?_
      refine go_iinc (pc := 130) (v := (v6 + (1 : Int32))) C hN dX3_laysLater_130 (q := 6) rfl rfl (by decide) rfl ?_
      refine go_goto (pc := 133) (tgt := 53) C dX3_laysLater_133 (by decide) ?_
      refine go_sub [3, 4, 5, 6, 2, 1, 0] rfl ?_
      exact hK53 ((z1 ||| z0), (0 : Int32), (v6 + (1 : Int32))) h
    · refine go_iconst (pc := 123) (v := (1 : Int32)) C dX3_laysLater_123 (by decide) ?_
      refine go_goto (pc := 124) (tgt := 128) C dX3_laysLater_124 (by decide) ?_
      refine go_istore (pc := 128) C hN dX3_laysLater_128 (by decide) rfl ?_
      refine go_iinc (pc := 130) (v := (v6 + (1 : Int32))) C hN dX3_laysLater_130 (q := 6) rfl rfl (by decide) rfl ?_
      refine go_goto (pc := 133) (tgt := 53) C dX3_laysLater_133 (by decide) ?_
      refine go_sub [3, 4, 5, 6, 2, 1, 0] rfl ?_
      exact hK53 ((z1 ||| z0), (1 : Int32), (v6 + (1 : Int32))) h
theorem w3_laysLater_53 {Γ : Gam} {a : Nat → Nat} {s0 : Bl} {v1 : Int32} {v2 : Int32} {v3 : Int32} {r9 : Int32} {s9 : Bl} {K34 : Bl × Int32 × Int32 → Option (Int32 × Bl)} (hN : Γ.nL = 9) (C : Cx Γ cX3_laysLater RX3 (2, 0, 0) 44) (hE : Rets Γ cX3_laysLater (some .boolean) 0 0 (fun v w => v = some (.int r9) ∧ w = (bW Γ.d 3 FK3 a s9)))
    (hK34 : ∀ s, K34 s = some (r9, s9) → (fun s : Bl × Int32 × Int32 => Go Γ 0 0 (bW Γ.d 3 FK3 a s.1) 34 [(0, .ref (a 0)), (1, .int v1), (2, .int s.2.1), (3, .int s.2.2)] []) s) : ∀ (n : Nat) (s : Int32 × Int32 × Int32), loop (g3_laysLater_53 s0 v1 v2 v3 K34) n s = some (r9, s9) → (fun s : Int32 × Int32 × Int32 => Go Γ 0 0 (bW Γ.d 3 FK3 a s0) 53 [(0, .ref (a 0)), (1, .int v1), (2, .int v2), (3, .int v3), (4, .int s.1), (5, .int s.2.1), (6, .int s.2.2)] []) s := by
  refine loop_walk (P := fun s : Int32 × Int32 × Int32 => Go Γ 0 0 (bW Γ.d 3 FK3 a s0) 53 [(0, .ref (a 0)), (1, .int v1), (2, .int v2), (3, .int v3), (4, .int s.1), (5, .int s.2.1), (6, .int s.2.2)] []) ?_
  intro K53 hK53 s h
  obtain ⟨v4, v5, v6⟩ := s
  dsimp only [g3_laysLater_53] at h
  show Go Γ 0 0 (bW Γ.d 3 FK3 a s0) 53 [(0, .ref (a 0)), (1, .int v1), (2, .int v2), (3, .int v3), (4, .int v4), (5, .int v5), (6, .int v6)] []
  refine go_iload (pc := 53) C dX3_laysLater_53 6 rfl ?_
  refine go_aload_n (pc := 55) C dX3_laysLater_55 rfl 0 rfl ?_
  refine x3gr_1 (pc := 56) C dX3_laysLater_56 ?_
  refine go_iconst (pc := 59) (v := (3 : Int32)) C dX3_laysLater_59 (by decide) ?_
  refine go_ialdK (pc := 60) (j := 3) C x3aA_1 (by decide) (by decide) dX3_laysLater_60 ?_
  refine go_icmp_ge (pc := 61) (tgt := 136) C dX3_laysLater_61 (by decide) h (fun h => ?_) (fun h => ?_)
  · refine go_iload (pc := 136) C dX3_laysLater_136 5 rfl ?_
    refine go_if_eq (pc := 138) (tgt := 259) C dX3_laysLater_138 (by decide) h (fun h => ?_) (fun h => ?_)
    · refine go_iinc (pc := 259) (v := (v3 + (1 : Int32))) C hN dX3_laysLater_259 (q := 3) rfl rfl (by decide) rfl ?_
      refine go_goto (pc := 262) (tgt := 34) C dX3_laysLater_262 (by decide) ?_
      refine go_sub [1, 2, 3, 0] rfl ?_
      exact hK34 (s0, v2, (v3 + (1 : Int32))) h
    · refine go_aload_n (pc := 141) C dX3_laysLater_141 rfl 0 rfl ?_
      refine go_iload (pc := 142) C dX3_laysLater_142 4 rfl ?_
      obtain ⟨r3, e3, h⟩ := bnd_some h
      refine go_callVi (pc := 144) C [.int v4] (m3_weightOf e3) q1740 q1742 qs97 q144 q1743 x3pd_weightOf (by decide) (by decide) bW_O x3c rfl (Nat.le_of_ble_eq_true rfl) ⟨Nat.zero_le _, Nat.zero_le _⟩ dX3_laysLater_144 rfl ?_
      refine go_ineg (pc := 147) C dX3_laysLater_147 ?_
      refine go_istore (pc := 148) C hN dX3_laysLater_148 (by decide) rfl ?_
      refine go_iconst (pc := 150) (v := (0 : Int32)) C dX3_laysLater_150 (by decide) ?_
      refine go_istore (pc := 151) C hN dX3_laysLater_151 (by decide) rfl ?_
      refine go_sub [2, 3, 4, 5, 6, 1, 0] rfl ?_
      exact w3_laysLater_153 hN C hE hK34 FU ((-r3), (0 : Int32)) h
  · refine go_iload_n (pc := 64) C dX3_laysLater_64 rfl 1 rfl ?_
    refine go_iload (pc := 65) C dX3_laysLater_65 6 rfl ?_
    obtain ⟨r6, e6, h⟩ := bnd_some h
    refine go_callSi (pc := 67) C [.int v1, .int v6] (m3_has e6) q1682 q1683 q144 q1684 x3pd_has (by decide) (by decide) rfl (Nat.le_of_ble_eq_true rfl) ⟨Nat.zero_le _, Nat.zero_le _⟩ dX3_laysLater_67 rfl ?_
    refine go_if_eq (pc := 70) (tgt := 130) C dX3_laysLater_70 (by decide) h (fun h => ?_) (fun h => ?_)
    · refine go_iinc (pc := 130) (v := (v6 + (1 : Int32))) C hN dX3_laysLater_130 (q := 6) rfl rfl (by decide) rfl ?_
      refine go_goto (pc := 133) (tgt := 53) C dX3_laysLater_133 (by decide) ?_
      refine go_sub [1, 2, 3, 4, 5, 6, 0] rfl ?_
      exact hK53 (v4, v5, (v6 + (1 : Int32))) h
    · refine go_iload (pc := 73) C dX3_laysLater_73 4 rfl ?_
      refine go_aload_n (pc := 75) C dX3_laysLater_75 rfl 0 rfl ?_
      refine x3gr_2 (pc := 76) C dX3_laysLater_76 ?_
      refine go_aload_n (pc := 79) C dX3_laysLater_79 rfl 0 rfl ?_
      refine x3gr_5 (pc := 80) C dX3_laysLater_80 ?_
      refine go_iload (pc := 83) C dX3_laysLater_83 6 rfl ?_
      refine go_iald (pc := 85) C x3aA_5 h dX3_laysLater_85 (fun h => ?_)
      refine go_iald (pc := 86) C x3aA_2 h dX3_laysLater_86 (fun h => ?_)
      refine go_iload_n (pc := 87) C dX3_laysLater_87 rfl 3 rfl ?_
      refine go_icmp_le (pc := 88) (tgt := 98) C dX3_laysLater_88 (by decide) h (fun h => ?_) (fun h => ?_)
      · refine go_iconst (pc := 98) (v := (0 : Int32)) C dX3_laysLater_98 (by decide) ?_
        refine go_sub [0, 1, 2, 3, 5, 6] rfl ?_
        exact w3_laysLater_99 hN C hE hK34 hK53 h
      · refine go_iconst (pc := 91) (v := (1 : Int32)) C dX3_laysLater_91 (by decide) ?_
        refine go_iload (pc := 92) C dX3_laysLater_92 6 rfl ?_
        refine go_ishl (pc := 94) C dX3_laysLater_94 ?_
        refine go_goto (pc := 95) (tgt := 99) C dX3_laysLater_95 (by decide) ?_
        refine go_sub [0, 1, 2, 3, 5, 6] rfl ?_
        exact w3_laysLater_99 hN C hE hK34 hK53 h
theorem w3_laysLater_34 {Γ : Gam} {a : Nat → Nat} {v1 : Int32} {r9 : Int32} {s9 : Bl} (hN : Γ.nL = 9) (C : Cx Γ cX3_laysLater RX3 (2, 0, 0) 44) (hE : Rets Γ cX3_laysLater (some .boolean) 0 0 (fun v w => v = some (.int r9) ∧ w = (bW Γ.d 3 FK3 a s9))) : ∀ (n : Nat) (s : Bl × Int32 × Int32), loop (g3_laysLater_34 v1) n s = some (r9, s9) → (fun s : Bl × Int32 × Int32 => Go Γ 0 0 (bW Γ.d 3 FK3 a s.1) 34 [(0, .ref (a 0)), (1, .int v1), (2, .int s.2.1), (3, .int s.2.2)] []) s := by
  refine loop_walk (P := fun s : Bl × Int32 × Int32 => Go Γ 0 0 (bW Γ.d 3 FK3 a s.1) 34 [(0, .ref (a 0)), (1, .int v1), (2, .int s.2.1), (3, .int s.2.2)] []) ?_
  intro K34 hK34 s h
  obtain ⟨s0, v2, v3⟩ := s
  dsimp only [g3_laysLater_34] at h
  show Go Γ 0 0 (bW Γ.d 3 FK3 a s0) 34 [(0, .ref (a 0)), (1, .int v1), (2, .int v2), (3, .int v3)] []
  refine go_iload_n (pc := 34) C dX3_laysLater_34 rfl 3 rfl ?_
  refine go_aload_n (pc := 35) C dX3_laysLater_35 rfl 0 rfl ?_
  refine x3gr_1 (pc := 36) C dX3_laysLater_36 ?_
  refine go_iconst (pc := 39) (v := (0 : Int32)) C dX3_laysLater_39 (by decide) ?_
  refine go_ialdK (pc := 40) (j := 0) C x3aA_1 (by decide) (by decide) dX3_laysLater_40 ?_
  refine go_icmp_gt (pc := 41) (tgt := 265) C dX3_laysLater_41 (by decide) h (fun h => ?_) (fun h => ?_)
  · refine go_iload_n (pc := 265) C dX3_laysLater_265 rfl 2 rfl ?_
    obtain ⟨hz, h⟩ := chk_some h
    exact (hE 0 0 _ _ _ (Nat.zero_le _) (Nat.zero_le _)).2.1 _ rfl (isB_or hz) dX3_laysLater_266 ⟨congrArg (fun z => some (Value.int z)) (some2 h).1, congrArg (fun z => bW Γ.d 3 FK3 a z) (some2 h).2⟩
  · refine go_iconst (pc := 44) (v := (0 : Int32)) C dX3_laysLater_44 (by decide) ?_
    refine go_istore (pc := 45) C hN dX3_laysLater_45 (by decide) rfl ?_
    refine go_iconst (pc := 47) (v := (0 : Int32)) C dX3_laysLater_47 (by decide) ?_
    refine go_istore (pc := 48) C hN dX3_laysLater_48 (by decide) rfl ?_
    refine go_iconst (pc := 50) (v := (0 : Int32)) C dX3_laysLater_50 (by decide) ?_
    refine go_istore (pc := 51) C hN dX3_laysLater_51 (by decide) rfl ?_
    refine go_sub [3, 4, 5, 6, 2, 1, 0] rfl ?_
    exact w3_laysLater_53 hN C hE hK34 FU ((0 : Int32), (0 : Int32), (0 : Int32)) h
theorem m3_laysLater {l : Launch} {d : gD} {a : Nat → Nat} {s0 : Bl} {v1 : Int32} {r9 : Int32} {s9 : Bl} (h : f3_laysLater s0 v1 = some (r9, s9)) : Mt l d yX3_laysLater cX3_laysLater 9 (some .boolean) (2, 0, 0) 44 (bW d 3 FK3 a s0) [.ref (a 0), .int v1] (fun v w => v = some (.int r9) ∧ w = (bW d 3 FK3 a s9)) := by
  refine Mt.of x3pn (Nat.le_of_ble_eq_true rfl) ?_
  intro Γ hl hd hN C hE
  subst hl; subst hd
  show Go Γ 0 0 (bW Γ.d 3 FK3 a s0) 0 [(0, .ref (a 0)), (1, .int v1)] []
  dsimp only [f3_laysLater] at h
  refine go_aload_n (pc := 0) C dX3_laysLater_0 rfl 0 rfl ?_
  refine go_iconst (pc := 1) (v := (0 : Int32)) C dX3_laysLater_1 (by decide) ?_
  refine x3pi_61 (pc := 2) C dX3_laysLater_2 ?_
  refine go_aload_n (pc := 5) C dX3_laysLater_5 rfl 0 rfl ?_
  refine go_iload_n (pc := 6) C dX3_laysLater_6 rfl 1 rfl ?_
  obtain ⟨r1, e1, h⟩ := bnd_some h
  refine go_callVi (pc := 7) C [.int v1] (m3_floatOf e1) q1736 q1738 qs96 q144 q1739 x3pd_floatOf (by decide) (by decide) bW_O x3c rfl (Nat.le_of_ble_eq_true rfl) ⟨Nat.zero_le _, Nat.zero_le _⟩ dX3_laysLater_7 rfl ?_
  refine go_aload_n (pc := 10) C dX3_laysLater_10 rfl 0 rfl ?_
  refine go_iload_n (pc := 11) C dX3_laysLater_11 rfl 1 rfl ?_
  obtain ⟨r2, e2, h⟩ := bnd_some h
  refine go_callVi (pc := 12) C [.int v1] (m3_weightOf e2) q1740 q1742 qs97 q144 q1743 x3pd_weightOf (by decide) (by decide) bW_O x3c rfl (Nat.le_of_ble_eq_true rfl) ⟨Nat.zero_le _, Nat.zero_le _⟩ dX3_laysLater_12 rfl ?_
  refine go_icmp_lt (pc := 15) (tgt := 22) C dX3_laysLater_15 (by decide) h (fun h => ?_) (fun h => ?_)
  · refine go_iconst (pc := 22) (v := (0 : Int32)) C dX3_laysLater_22 (by decide) ?_
    refine go_istore_n (pc := 23) C hN dX3_laysLater_23 rfl (by decide) rfl ?_
    refine go_aload_n (pc := 24) C dX3_laysLater_24 rfl 1 rfl ?_
    refine x3gr_1 (pc := 25) C dX3_laysLater_25 ?_
    refine go_bipush (pc := 28) (v := (6 : Int32)) C dX3_laysLater_28 (by decide) ?_
    refine go_ialdK (pc := 30) (j := 6) C x3aA_1 (by decide) (by decide) dX3_laysLater_30 ?_
    refine go_iconst (pc := 31) (v := (1 : Int32)) C dX3_laysLater_31 (by decide) ?_
    refine go_iadd (pc := 32) C dX3_laysLater_32 ?_
    refine go_istore_n (pc := 33) C hN dX3_laysLater_33 rfl (by decide) rfl ?_
    refine go_sub [2, 3, 1, 0] rfl ?_
    exact w3_laysLater_34 hN C hE FU ((bI s0 61 (0 : Int32)), (0 : Int32), (((bI s0 61 (0 : Int32)).2.1 1 6) + (1 : Int32))) h
  · refine go_iconst (pc := 18) (v := (1 : Int32)) C dX3_laysLater_18 (by decide) ?_
    refine go_goto (pc := 19) (tgt := 23) C dX3_laysLater_19 (by decide) ?_
    refine go_istore_n (pc := 23) C hN dX3_laysLater_23 rfl (by decide) rfl ?_
    refine go_aload_n (pc := 24) C dX3_laysLater_24 rfl 1 rfl ?_
    refine x3gr_1 (pc := 25) C dX3_laysLater_25 ?_
    refine go_bipush (pc := 28) (v := (6 : Int32)) C dX3_laysLater_28 (by decide) ?_
    refine go_ialdK (pc := 30) (j := 6) C x3aA_1 (by decide) (by decide) dX3_laysLater_30 ?_
    refine go_iconst (pc := 31) (v := (1 : Int32)) C dX3_laysLater_31 (by decide) ?_
    refine go_iadd (pc := 32) C dX3_laysLater_32 ?_
    refine go_istore_n (pc := 33) C hN dX3_laysLater_33 rfl (by decide) rfl ?_
    refine go_sub [2, 3, 1, 0] rfl ?_
    exact w3_laysLater_34 hN C hE FU ((bI s0 61 (0 : Int32)), (1 : Int32), (((bI s0 61 (0 : Int32)).2.1 1 6) + (1 : Int32))) h
theorem w3_areTogether_52 {Γ : Gam} {a : Nat → Nat} {s0 : Bl} {v1 : Int32} {v2 : Int32} {v3 : Int32} {v4 : Int32} {z0 : Int32} {r9 : Int32} {K2 : Int32 → Option Int32} {K15 : Int32 × Int32 → Option Int32} (hN : Γ.nL = 6) (C : Cx Γ cX3_areTogether RX3 (1, 0, 0) 21) (hE : Rets Γ cX3_areTogether (some .boolean) 0 0 (fun v w => v = some (.int r9) ∧ w = (bW Γ.d 3 FK3 a s0)))
    (hK2 : ∀ s, K2 s = some r9 → (fun s : Int32 => Go Γ 0 0 (bW Γ.d 3 FK3 a s0) 2 [(0, .ref (a 0)), (1, .int v1), (2, .int s)] []) s)
    (hK15 : ∀ s, K15 s = some r9 → (fun s : Int32 × Int32 => Go Γ 0 0 (bW Γ.d 3 FK3 a s0) 15 [(0, .ref (a 0)), (1, .int v1), (2, .int v2), (3, .int s.1), (4, .int s.2)] []) s) (h : g3_areTogether_52 s0 K2 K15 v1 v2 v3 v4 z0 = some r9) : Go Γ 0 0 (bW Γ.d 3 FK3 a s0) 52 [(0, .ref (a 0)), (1, .int v1), (2, .int v2), (3, .int v3), (4, .int v4)] [.int z0] := by
  dsimp only [g3_areTogether_52] at h
  refine go_istore (pc := 52) C hN dX3_areTogether_52 (by decide) rfl ?_
  refine go_iload_n (pc := 54) C dX3_areTogether_54 rfl 4 rfl ?_
  refine go_aload_n (pc := 55) C dX3_areTogether_55 rfl 1 rfl ?_
  refine x3gr_60 (pc := 56) C dX3_areTogether_56 ?_
  refine go_iload_n (pc := 59) C dX3_areTogether_59 rfl 3 rfl ?_
  refine go_iald (pc := 60) C x3aA_60 h dX3_areTogether_60 (fun h => ?_)
  refine go_aload_n (pc := 61) C dX3_areTogether_61 rfl 1 rfl ?_
  refine x3gr_58 (pc := 62) C dX3_areTogether_62 ?_
  refine go_iload (pc := 65) C dX3_areTogether_65 5 rfl ?_
  refine go_iald (pc := 67) C x3aA_58 h dX3_areTogether_67 (fun h => ?_)
  obtain ⟨r1, e1, h⟩ := bnd_some h
  refine go_callSi (pc := 68) C [.int (s0.2.1 60 (v2).toNatClampNeg), .int (s0.2.1 58 (v4).toNatClampNeg)] (m3_has e1) q1682 q1683 q144 q1684 x3pd_has (by decide) (by decide) rfl (Nat.le_of_ble_eq_true rfl) ⟨Nat.zero_le _, Nat.zero_le _⟩ dX3_areTogether_68 rfl ?_
  refine go_if_eq (pc := 71) (tgt := 83) C dX3_areTogether_71 (by decide) h (fun h => ?_) (fun h => ?_)
  · refine go_iconst (pc := 83) (v := (0 : Int32)) C dX3_areTogether_83 (by decide) ?_
    refine go_iadd (pc := 84) C dX3_areTogether_84 ?_
    refine go_istore_n (pc := 85) C hN dX3_areTogether_85 rfl (by decide) rfl ?_
    refine go_iinc (pc := 86) (v := (v4 + (1 : Int32))) C hN dX3_areTogether_86 (q := 5) rfl rfl (by decide) rfl ?_
    refine go_goto (pc := 89) (tgt := 15) C dX3_areTogether_89 (by decide) ?_
    refine go_sub [3, 4, 5, 1, 0] rfl ?_
    exact hK15 ((v3 + (0 : Int32)), (v4 + (1 : Int32))) h
  · refine go_iload (pc := 74) C dX3_areTogether_74 0 rfl ?_
    refine go_if_ne (pc := 76) (tgt := 83) C dX3_areTogether_76 (by decide) h (fun h => ?_) (fun h => ?_)
    · refine go_iconst (pc := 83) (v := (0 : Int32)) C dX3_areTogether_83 (by decide) ?_
      refine go_iadd (pc := 84) C dX3_areTogether_84 ?_
      refine go_istore_n (pc := 85) C hN dX3_areTogether_85 rfl (by decide) rfl ?_
      refine go_iinc (pc := 86) (v := (v4 + (1 : Int32))) C hN dX3_areTogether_86 (q := 5) rfl rfl (by decide) rfl ?_
      refine go_goto (pc := 89) (tgt := 15) C dX3_areTogether_89 (by decide) ?_
      refine go_sub [3, 4, 5, 1, 0] rfl ?_
      exact hK15 ((v3 + (0 : Int32)), (v4 + (1 : Int32))) h
    · refine go_iconst (pc := 79) (v := (1 : Int32)) C dX3_areTogether_79 (by decide) ?_
      refine go_goto (pc := 80) (tgt := 84) C dX3_areTogether_80 (by decide) ?_
      refine go_iadd (pc := 84) C dX3_areTogether_84 ?_
      refine go_istore_n (pc := 85) C hN dX3_areTogether_85 rfl (by decide) rfl ?_
      refine go_iinc (pc := 86) (v := (v4 + (1 : Int32))) C hN dX3_areTogether_86 (q := 5) rfl rfl (by decide) rfl ?_
      refine go_goto (pc := 89) (tgt := 15) C dX3_areTogether_89 (by decide) ?_
      refine go_sub [3, 4, 5, 1, 0] rfl ?_
      exact hK15 ((v3 + (1 : Int32)), (v4 + (1 : Int32))) h
theorem w3_areTogether_15 {Γ : Gam} {a : Nat → Nat} {s0 : Bl} {v1 : Int32} {v2 : Int32} {r9 : Int32} {K2 : Int32 → Option Int32} (hN : Γ.nL = 6) (C : Cx Γ cX3_areTogether RX3 (1, 0, 0) 21) (hE : Rets Γ cX3_areTogether (some .boolean) 0 0 (fun v w => v = some (.int r9) ∧ w = (bW Γ.d 3 FK3 a s0)))
    (hK2 : ∀ s, K2 s = some r9 → (fun s : Int32 => Go Γ 0 0 (bW Γ.d 3 FK3 a s0) 2 [(0, .ref (a 0)), (1, .int v1), (2, .int s)] []) s) : ∀ (n : Nat) (s : Int32 × Int32), loop (g3_areTogether_15 s0 v1 v2 K2) n s = some r9 → (fun s : Int32 × Int32 => Go Γ 0 0 (bW Γ.d 3 FK3 a s0) 15 [(0, .ref (a 0)), (1, .int v1), (2, .int v2), (3, .int s.1), (4, .int s.2)] []) s := by
  refine loop_walk (P := fun s : Int32 × Int32 => Go Γ 0 0 (bW Γ.d 3 FK3 a s0) 15 [(0, .ref (a 0)), (1, .int v1), (2, .int v2), (3, .int s.1), (4, .int s.2)] []) ?_
  intro K15 hK15 s h
  obtain ⟨v3, v4⟩ := s
  dsimp only [g3_areTogether_15] at h
  show Go Γ 0 0 (bW Γ.d 3 FK3 a s0) 15 [(0, .ref (a 0)), (1, .int v1), (2, .int v2), (3, .int v3), (4, .int v4)] []
  refine go_iload (pc := 15) C dX3_areTogether_15 4 rfl ?_
  refine go_iload_n (pc := 17) C dX3_areTogether_17 rfl 1 rfl ?_
  refine go_icmp_ge (pc := 18) (tgt := 92) C dX3_areTogether_18 (by decide) h (fun h => ?_) (fun h => ?_)
  · refine go_iload_n (pc := 92) C dX3_areTogether_92 rfl 3 rfl ?_
    refine go_iconst (pc := 93) (v := (1 : Int32)) C dX3_areTogether_93 (by decide) ?_
    refine go_icmp_le (pc := 94) (tgt := 99) C dX3_areTogether_94 (by decide) h (fun h => ?_) (fun h => ?_)
    · refine go_iinc (pc := 99) (v := (v2 + (1 : Int32))) C hN dX3_areTogether_99 (q := 2) rfl rfl (by decide) rfl ?_
      refine go_goto (pc := 102) (tgt := 2) C dX3_areTogether_102 (by decide) ?_
      refine go_sub [1, 2, 0] rfl ?_
      exact hK2 (v2 + (1 : Int32)) h
    · refine go_iconst (pc := 97) (v := (0 : Int32)) C dX3_areTogether_97 (by decide) ?_
      exact (hE 0 0 _ _ _ (Nat.zero_le _) (Nat.zero_le _)).2.1 _ rfl (Or.inl rfl) dX3_areTogether_98 ⟨congrArg (fun z => some (Value.int z)) (some1 h), rfl⟩
  · refine go_iload (pc := 21) C dX3_areTogether_21 4 rfl ?_
    refine go_if_le (pc := 23) (tgt := 51) C dX3_areTogether_23 (by decide) h (fun h => ?_) (fun h => ?_)
    · refine go_iconst (pc := 51) (v := (0 : Int32)) C dX3_areTogether_51 (by decide) ?_
      exact w3_areTogether_52 hN C hE hK2 hK15 h
    · refine go_aload_n (pc := 26) C dX3_areTogether_26 rfl 0 rfl ?_
      refine x3gr_60 (pc := 27) C dX3_areTogether_27 ?_
      refine go_iload_n (pc := 30) C dX3_areTogether_30 rfl 2 rfl ?_
      refine go_iald (pc := 31) C x3aA_60 h dX3_areTogether_31 (fun h => ?_)
      refine go_aload_n (pc := 32) C dX3_areTogether_32 rfl 0 rfl ?_
      refine x3gr_58 (pc := 33) C dX3_areTogether_33 ?_
      refine go_iload (pc := 36) C dX3_areTogether_36 4 rfl ?_
      refine go_iconst (pc := 38) (v := (1 : Int32)) C dX3_areTogether_38 (by decide) ?_
      refine go_isub (pc := 39) C dX3_areTogether_39 ?_
      refine go_iald (pc := 40) C x3aA_58 h dX3_areTogether_40 (fun h => ?_)
      obtain ⟨r2, e2, h⟩ := bnd_some h
      refine go_callSi (pc := 41) C [.int (s0.2.1 60 (v2).toNatClampNeg), .int (s0.2.1 58 ((v4 - (1 : Int32))).toNatClampNeg)] (m3_has e2) q1682 q1683 q144 q1684 x3pd_has (by decide) (by decide) rfl (Nat.le_of_ble_eq_true rfl) ⟨Nat.zero_le _, Nat.zero_le _⟩ dX3_areTogether_41 rfl ?_
      refine go_if_eq (pc := 44) (tgt := 51) C dX3_areTogether_44 (by decide) h (fun h => ?_) (fun h => ?_)
      · refine go_iconst (pc := 51) (v := (0 : Int32)) C dX3_areTogether_51 (by decide) ?_
        exact w3_areTogether_52 hN C hE hK2 hK15 h
      · refine go_iconst (pc := 47) (v := (1 : Int32)) C dX3_areTogether_47 (by decide) ?_
        refine go_goto (pc := 48) (tgt := 52) C dX3_areTogether_48 (by decide) ?_
        exact w3_areTogether_52 hN C hE hK2 hK15 h
theorem w3_areTogether_2 {Γ : Gam} {a : Nat → Nat} {s0 : Bl} {v1 : Int32} {r9 : Int32} (hN : Γ.nL = 6) (C : Cx Γ cX3_areTogether RX3 (1, 0, 0) 21) (hE : Rets Γ cX3_areTogether (some .boolean) 0 0 (fun v w => v = some (.int r9) ∧ w = (bW Γ.d 3 FK3 a s0))) : ∀ (n : Nat) (s : Int32), loop (g3_areTogether_2 s0 v1) n s = some r9 → (fun s : Int32 => Go Γ 0 0 (bW Γ.d 3 FK3 a s0) 2 [(0, .ref (a 0)), (1, .int v1), (2, .int s)] []) s := by
  refine loop_walk (P := fun s : Int32 => Go Γ 0 0 (bW Γ.d 3 FK3 a s0) 2 [(0, .ref (a 0)), (1, .int v1), (2, .int s)] []) ?_
  intro K2 hK2 s h
  obtain ⟨v2, rfl⟩ : ∃ z, z = s := ⟨_, rfl⟩
  dsimp only [g3_areTogether_2] at h
  show Go Γ 0 0 (bW Γ.d 3 FK3 a s0) 2 [(0, .ref (a 0)), (1, .int v1), (2, .int v2)] []
  refine go_iload_n (pc := 2) C dX3_areTogether_2 rfl 2 rfl ?_
  refine go_aload_n (pc := 3) C dX3_areTogether_3 rfl 0 rfl ?_
  refine x3gi_61 (pc := 4) C dX3_areTogether_4 ?_
  refine go_icmp_ge (pc := 7) (tgt := 105) C dX3_areTogether_7 (by decide) h (fun h => ?_) (fun h => ?_)
  · refine go_iconst (pc := 105) (v := (1 : Int32)) C dX3_areTogether_105 (by decide) ?_
    exact (hE 0 0 _ _ _ (Nat.zero_le _) (Nat.zero_le _)).2.1 _ rfl (Or.inr rfl) dX3_areTogether_106 ⟨congrArg (fun z => some (Value.int z)) (some1 h), rfl⟩
  · refine go_iconst (pc := 10) (v := (0 : Int32)) C dX3_areTogether_10 (by decide) ?_
    refine go_istore_n (pc := 11) C hN dX3_areTogether_11 rfl (by decide) rfl ?_
    refine go_iconst (pc := 12) (v := (0 : Int32)) C dX3_areTogether_12 (by decide) ?_
    refine go_istore (pc := 13) C hN dX3_areTogether_13 (by decide) rfl ?_
    refine go_sub [2, 3, 4, 1, 0] rfl ?_
    exact w3_areTogether_15 hN C hE hK2 FU ((0 : Int32), (0 : Int32)) h
theorem m3_areTogether {l : Launch} {d : gD} {a : Nat → Nat} {s0 : Bl} {v1 : Int32} {r9 : Int32} (h : f3_areTogether s0 v1 = some r9) : Mt l d yX3_areTogether cX3_areTogether 6 (some .boolean) (1, 0, 0) 21 (bW d 3 FK3 a s0) [.ref (a 0), .int v1] (fun v w => v = some (.int r9) ∧ w = (bW d 3 FK3 a s0)) := by
  refine Mt.of x3pn (Nat.le_of_ble_eq_true rfl) ?_
  intro Γ hl hd hN C hE
  subst hl; subst hd
  show Go Γ 0 0 (bW Γ.d 3 FK3 a s0) 0 [(0, .ref (a 0)), (1, .int v1)] []
  dsimp only [f3_areTogether] at h
  refine go_iconst (pc := 0) (v := (0 : Int32)) C dX3_areTogether_0 (by decide) ?_
  refine go_istore_n (pc := 1) C hN dX3_areTogether_1 rfl (by decide) rfl ?_
  refine go_sub [1, 2, 0] rfl ?_
  exact w3_areTogether_2 hN C hE FU (0 : Int32) h
theorem w3_takesRow_10 {Γ : Gam} {a : Nat → Nat} {v1 : Int32} {s9 : Bl} (hN : Γ.nL = 3) (C : Cx Γ cX3_takesRow RX3 (2, 0, 0) 46) (hE : Rets Γ cX3_takesRow none 0 0 (fun v w => v = none ∧ w = (bW Γ.d 3 FK3 a s9))) : ∀ (n : Nat) (s : Bl × Int32), loop (g3_takesRow_10 v1) n s = some s9 → (fun s : Bl × Int32 => Go Γ 0 0 (bW Γ.d 3 FK3 a s.1) 10 [(0, .ref (a 0)), (1, .int v1), (2, .int s.2)] []) s := by
  refine loop_walk (P := fun s : Bl × Int32 => Go Γ 0 0 (bW Γ.d 3 FK3 a s.1) 10 [(0, .ref (a 0)), (1, .int v1), (2, .int s.2)] []) ?_
  intro K10 hK10 s h
  obtain ⟨s0, v2⟩ := s
  dsimp only [g3_takesRow_10] at h
  show Go Γ 0 0 (bW Γ.d 3 FK3 a s0) 10 [(0, .ref (a 0)), (1, .int v1), (2, .int v2)] []
  refine go_iload_n (pc := 10) C dX3_takesRow_10 rfl 2 rfl ?_
  refine go_iload_n (pc := 11) C dX3_takesRow_11 rfl 1 rfl ?_
  refine go_icmp_ge (pc := 12) (tgt := 40) C dX3_takesRow_12 (by decide) h (fun h => ?_) (fun h => ?_)
  · refine go_aload_n (pc := 40) C dX3_takesRow_40 rfl 0 rfl ?_
    refine go_dup (pc := 41) C dX3_takesRow_41 rfl ?_
    refine x3gi_62 (pc := 42) C dX3_takesRow_42 ?_
    refine go_iconst (pc := 45) (v := (1 : Int32)) C dX3_takesRow_45 (by decide) ?_
    refine go_iadd (pc := 46) C dX3_takesRow_46 ?_
    refine x3pi_62 (pc := 47) C dX3_takesRow_47 ?_
    exact (hE 0 0 _ _ _ (Nat.zero_le _) (Nat.zero_le _)).2.2.2.1 rfl dX3_takesRow_50 ⟨rfl, congrArg (fun z => bW Γ.d 3 FK3 a z) (some1 h)⟩
  · refine go_aload_n (pc := 15) C dX3_takesRow_15 rfl 0 rfl ?_
    refine x3gi_62 (pc := 16) C dX3_takesRow_16 ?_
    refine go_if_ne (pc := 19) (tgt := 40) C dX3_takesRow_19 (by decide) h (fun h => ?_) (fun h => ?_)
    · refine go_aload_n (pc := 40) C dX3_takesRow_40 rfl 0 rfl ?_
      refine go_dup (pc := 41) C dX3_takesRow_41 rfl ?_
      refine x3gi_62 (pc := 42) C dX3_takesRow_42 ?_
      refine go_iconst (pc := 45) (v := (1 : Int32)) C dX3_takesRow_45 (by decide) ?_
      refine go_iadd (pc := 46) C dX3_takesRow_46 ?_
      refine x3pi_62 (pc := 47) C dX3_takesRow_47 ?_
      exact (hE 0 0 _ _ _ (Nat.zero_le _) (Nat.zero_le _)).2.2.2.1 rfl dX3_takesRow_50 ⟨rfl, congrArg (fun z => bW Γ.d 3 FK3 a z) (some1 h)⟩
    · refine go_aload_n (pc := 22) C dX3_takesRow_22 rfl 0 rfl ?_
      refine x3gr_59 (pc := 23) C dX3_takesRow_23 ?_
      refine go_iload_n (pc := 26) C dX3_takesRow_26 rfl 2 rfl ?_
      refine go_aload_n (pc := 27) C dX3_takesRow_27 rfl 0 rfl ?_
      refine x3gr_58 (pc := 28) C dX3_takesRow_28 ?_
      refine go_iload_n (pc := 31) C dX3_takesRow_31 rfl 2 rfl ?_
      refine go_iald (pc := 32) C x3aA_58 h dX3_takesRow_32 (fun h => ?_)
      refine go_iast (pc := 33) C x3pA_59 h dX3_takesRow_33 (fun h => ?_)
      refine go_iinc (pc := 34) (v := (v2 + (1 : Int32))) C hN dX3_takesRow_34 (q := 2) rfl rfl (by decide) rfl ?_
      refine go_goto (pc := 37) (tgt := 10) C dX3_takesRow_37 (by decide) ?_
      refine go_sub [1, 2, 0] rfl ?_
      exact hK10 ((bA s0 59 (v2).toNatClampNeg (s0.2.1 58 (v2).toNatClampNeg)), (v2 + (1 : Int32))) h
theorem m3_takesRow {l : Launch} {d : gD} {a : Nat → Nat} {s0 : Bl} {v1 : Int32} {s9 : Bl} (h : f3_takesRow s0 v1 = some s9) : Mt l d yX3_takesRow cX3_takesRow 3 none (2, 0, 0) 46 (bW d 3 FK3 a s0) [.ref (a 0), .int v1] (fun v w => v = none ∧ w = (bW d 3 FK3 a s9)) := by
  refine Mt.of x3pn (Nat.le_of_ble_eq_true rfl) ?_
  intro Γ hl hd hN C hE
  subst hl; subst hd
  show Go Γ 0 0 (bW Γ.d 3 FK3 a s0) 0 [(0, .ref (a 0)), (1, .int v1)] []
  dsimp only [f3_takesRow] at h
  refine go_aload_n (pc := 0) C dX3_takesRow_0 rfl 0 rfl ?_
  refine go_iload_n (pc := 1) C dX3_takesRow_1 rfl 1 rfl ?_
  obtain ⟨r1, e1, h⟩ := bnd_some h
  refine go_callVi (pc := 2) C [.int v1] (m3_areTogether e1) q1917 q1919 qs127 q144 q1920 x3pd_areTogether (by decide) (by decide) bW_O x3c rfl (Nat.le_of_ble_eq_true rfl) ⟨Nat.zero_le _, Nat.zero_le _⟩ dX3_takesRow_2 rfl ?_
  refine go_if_eq (pc := 5) (tgt := 50) C dX3_takesRow_5 (by decide) h (fun h => ?_) (fun h => ?_)
  · exact (hE 0 0 _ _ _ (Nat.zero_le _) (Nat.zero_le _)).2.2.2.1 rfl dX3_takesRow_50 ⟨rfl, congrArg (fun z => bW Γ.d 3 FK3 a z) (some1 h)⟩
  · refine go_iconst (pc := 8) (v := (0 : Int32)) C dX3_takesRow_8 (by decide) ?_
    refine go_istore_n (pc := 9) C hN dX3_takesRow_9 rfl (by decide) rfl ?_
    refine go_sub [1, 2, 0] rfl ?_
    exact w3_takesRow_10 hN C hE FU (s0, (0 : Int32)) h

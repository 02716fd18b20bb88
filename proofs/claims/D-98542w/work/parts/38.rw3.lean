/-! walks of the raft, printed by gen/raft.py -/
set_option maxRecDepth 100000
set_option maxHeartbeats 4000000
theorem m0_isRule {l : Launch} {d : gD} {A : XA} {L : List Nat} {E : va_W} {s0 : (Nat → Bl)} {v1 : Int32} {r9 : Int32} (hL : xOK L) (h : f0_isRule s0 v1 = some r9) : Mt l d yX0_isRule cX0_isRule 2 (some .boolean) (0, 0, 0) 0 (XW d A L E s0) [.ref (A.1 0 0), .int v1] (fun v w => v = some (.int r9) ∧ w = (XW d A L E s0)) := by
  refine Mt.of x0pn (Nat.le_of_ble_eq_true rfl) ?_
  intro Γ hl hd hN C hE
  subst hl; subst hd
  show Go Γ 0 0 (XW Γ.d A L E s0) 0 [(0, .ref (A.1 0 0)), (1, .int v1)] []
  dsimp only [f0_isRule] at h
  refine go_iload_n (pc := 0) C dX0_isRule_0 rfl 1 rfl ?_
  refine go_if_lt (pc := 1) (tgt := 16) C dX0_isRule_1 (by decide) h (fun h => ?_) (fun h => ?_)
  · refine go_iconst (pc := 16) (v := (0 : Int32)) C dX0_isRule_16 (by decide) ?_
    exact (hE 0 0 _ _ _ (Nat.zero_le _) (Nat.zero_le _)).2.1 _ rfl (Or.inl rfl) dX0_isRule_17 ⟨congrArg (fun z => some (Value.int z)) (some1 h), rfl⟩
  · refine go_iload_n (pc := 4) C dX0_isRule_4 rfl 1 rfl ?_
    refine go_aload_n (pc := 5) C dX0_isRule_5 rfl 0 rfl ?_
    refine X0g_0_13 (pc := 6) C hL dX0_isRule_6 ?_
    refine go_icmp_ge (pc := 9) (tgt := 16) C dX0_isRule_9 (by decide) h (fun h => ?_) (fun h => ?_)
    · refine go_iconst (pc := 16) (v := (0 : Int32)) C dX0_isRule_16 (by decide) ?_
      exact (hE 0 0 _ _ _ (Nat.zero_le _) (Nat.zero_le _)).2.1 _ rfl (Or.inl rfl) dX0_isRule_17 ⟨congrArg (fun z => some (Value.int z)) (some1 h), rfl⟩
    · refine go_iconst (pc := 12) (v := (1 : Int32)) C dX0_isRule_12 (by decide) ?_
      refine go_goto (pc := 13) (tgt := 17) C dX0_isRule_13 (by decide) ?_
      exact (hE 0 0 _ _ _ (Nat.zero_le _) (Nat.zero_le _)).2.1 _ rfl (Or.inr rfl) dX0_isRule_17 ⟨congrArg (fun z => some (Value.int z)) (some1 h), rfl⟩
theorem m0_faulted {l : Launch} {d : gD} {A : XA} {L : List Nat} {E : va_W} {s0 : (Nat → Bl)} {r9 : Int32} (hL : xOK L) (h : f0_faulted s0 = some r9) : Mt l d yX0_faulted cX0_faulted 1 (some .int) (0, 0, 0) 0 (XW d A L E s0) [.ref (A.1 0 0)] (fun v w => v = some (.int r9) ∧ w = (XW d A L E s0)) := by
  refine Mt.of x0pn (Nat.le_of_ble_eq_true rfl) ?_
  intro Γ hl hd hN C hE
  subst hl; subst hd
  show Go Γ 0 0 (XW Γ.d A L E s0) 0 [(0, .ref (A.1 0 0))] []
  dsimp only [f0_faulted] at h
  refine go_bipush (pc := 0) (v := (-2 : Int32)) C dX0_faulted_0 (by decide) ?_
  refine go_iconst (pc := 2) (v := (1 : Int32)) C dX0_faulted_2 (by decide) ?_
  refine go_bipush (pc := 3) (v := (8 : Int32)) C dX0_faulted_3 (by decide) ?_
  refine go_aload_n (pc := 5) C dX0_faulted_5 rfl 0 rfl ?_
  refine X0g_0_6 (pc := 6) C hL dX0_faulted_6 ?_
  refine X0g_13_7 (pc := 9) C hL dX0_faulted_9 ?_
  refine go_imul (pc := 12) C dX0_faulted_12 ?_
  refine go_iadd (pc := 13) C dX0_faulted_13 ?_
  refine go_aload_n (pc := 14) C dX0_faulted_14 rfl 0 rfl ?_
  refine X0g_0_6 (pc := 15) C hL dX0_faulted_15 ?_
  refine X0g_13_6 (pc := 18) C hL dX0_faulted_18 ?_
  refine go_iadd (pc := 21) C dX0_faulted_21 ?_
  refine go_isub (pc := 22) C dX0_faulted_22 ?_
  exact (hE 0 0 _ _ _ (Nat.zero_le _) (Nat.zero_le _)).1 _ rfl dX0_faulted_23 ⟨congrArg (fun z => some (Value.int z)) (some1 h), rfl⟩
theorem m0_ropesAtBoth {l : Launch} {d : gD} {A : XA} {L : List Nat} {E : va_W} {s0 : (Nat → Bl)} {v1 : Int32} {v2 : Int32} {r9 : Int32} (hL : xOK L) (h : f0_ropesAtBoth s0 v1 v2 = some r9) : Mt l d yX0_ropesAtBoth cX0_ropesAtBoth 3 (some .int) (2, 0, 0) 44 (XW d A L E s0) [.ref (A.1 0 0), .int v1, .int v2] (fun v w => v = some (.int r9) ∧ w = (XW d A L E s0)) := by
  refine Mt.of x0pn (Nat.le_of_ble_eq_true rfl) ?_
  intro Γ hl hd hN C hE
  subst hl; subst hd
  show Go Γ 0 0 (XW Γ.d A L E s0) 0 [(0, .ref (A.1 0 0)), (1, .int v1), (2, .int v2)] []
  dsimp only [f0_ropesAtBoth] at h
  refine go_aload_n (pc := 0) C dX0_ropesAtBoth_0 rfl 0 rfl ?_
  obtain ⟨hz9, h⟩ := chk_some h
  refine X0g_0_0 (pc := 1) C hL (of_decide_eq_true hz9) dX0_ropesAtBoth_1 ?_
  refine go_iconst (pc := 4) (v := (1 : Int32)) C dX0_ropesAtBoth_4 (by decide) ?_
  refine go_iload_n (pc := 5) C dX0_ropesAtBoth_5 rfl 1 rfl ?_
  refine go_ishl (pc := 6) C dX0_ropesAtBoth_6 ?_
  refine go_iconst (pc := 7) (v := (1 : Int32)) C dX0_ropesAtBoth_7 (by decide) ?_
  refine go_iload_n (pc := 8) C dX0_ropesAtBoth_8 rfl 2 rfl ?_
  refine go_ishl (pc := 9) C dX0_ropesAtBoth_9 ?_
  refine go_ior (pc := 10) C dX0_ropesAtBoth_10 ?_
  obtain ⟨r1, e1, h⟩ := bnd_some h
  refine go_callVi (pc := 11) C [.int (((1 : Int32) <<< (v1 &&& 31)) ||| ((1 : Int32) <<< (v2 &&& 31)))] (Mt.x0 (hL.2 1 (by decide)) hL.1 (m1_ropesAt e1)) q1029 q1002 q1003 q139 q1004 x1pd_ropesAt (by decide) (by decide) (xO (hL.2 1 (by decide)) hL.1) xc1 rfl (Nat.le_of_ble_eq_true rfl) ⟨Nat.zero_le _, Nat.zero_le _⟩ dX0_ropesAtBoth_11 rfl ?_
  obtain ⟨r2, e2, h⟩ := bnd_some h
  refine go_callSi (pc := 14) C [.int r1] (mJ8_bitCount e2) q1030 q901 q162 q902 j8pd_bitCount (by decide) (by decide) rfl (Nat.le_of_ble_eq_true rfl) ⟨Nat.zero_le _, Nat.zero_le _⟩ dX0_ropesAtBoth_14 rfl ?_
  exact (hE 0 0 _ _ _ (Nat.zero_le _) (Nat.zero_le _)).1 _ rfl dX0_ropesAtBoth_17 ⟨congrArg (fun z => some (Value.int z)) (some1 h), rfl⟩
theorem w0_wordsOf_152 {Γ : Gam} {A : XA} {L : List Nat} {E : va_W} {s0 : (Nat → Bl)} {v1 : Int32} {v2 : Int32} {z0 : Int64} {s9 : (Nat → Bl)} (hN : Γ.nL = 3) (C : Cx Γ cX0_wordsOf RX0 (3, 0, 0) 67) (hE : Rets Γ cX0_wordsOf (some (.array .long)) 0 0 (fun v w => v = some (.ref (A.1 0 15)) ∧ w = (XW Γ.d A L E s9))) (hL : xOK L) (h : g0_wordsOf_152 s0 v1 v2 z0 = some s9) : Go Γ 0 0 (XW Γ.d A L E s0) 152 [(0, .ref (A.1 0 0)), (1, .int v1), (2, .int v2)] [.long z0, .int (6 : Int32), .ref (A.1 0 (14 + 1))] := by
  dsimp only [g0_wordsOf_152] at h
  refine go_lastK (pc := 152) (j := 6) C (xpa_0_14 hL) (by decide) (by decide) dX0_wordsOf_152 ?_
  refine go_aload_n (pc := 153) C dX0_wordsOf_153 rfl 0 rfl ?_
  refine X0g_0_14 (pc := 154) C hL dX0_wordsOf_154 ?_
  refine go_bipush (pc := 157) (v := (7 : Int32)) C dX0_wordsOf_157 (by decide) ?_
  refine go_aload_n (pc := 159) C dX0_wordsOf_159 rfl 0 rfl ?_
  refine go_iload_n (pc := 160) C dX0_wordsOf_160 rfl 1 rfl ?_
  refine go_iload_n (pc := 161) C dX0_wordsOf_161 rfl 2 rfl ?_
  obtain ⟨r5, e5, h⟩ := bnd_some h
  refine go_callVi (pc := 162) C [.int v1, .int v2] (m0_ropesAtBoth hL e5) q1052 q1054 qs40 q138 q1055 x0pd_ropesAtBoth (by decide) (by decide) (xO (hL.2 0 (by decide)) hL.1) xc0 rfl (Nat.le_of_ble_eq_true rfl) ⟨Nat.zero_le _, Nat.zero_le _⟩ dX0_wordsOf_162 rfl ?_
  refine go_i2l (pc := 165) C dX0_wordsOf_165 ?_
  refine go_lastK (pc := 166) (j := 7) C (xpa_0_14 hL) (by decide) (by decide) dX0_wordsOf_166 ?_
  refine go_aload_n (pc := 167) C dX0_wordsOf_167 rfl 0 rfl ?_
  refine X0g_0_14 (pc := 168) C hL dX0_wordsOf_168 ?_
  refine go_bipush (pc := 171) (v := (8 : Int32)) C dX0_wordsOf_171 (by decide) ?_
  refine go_aload_n (pc := 173) C dX0_wordsOf_173 rfl 0 rfl ?_
  obtain ⟨hz9, h⟩ := chk_some h
  refine X0g_0_0 (pc := 174) C hL (of_decide_eq_true hz9) dX0_wordsOf_174 ?_
  refine X0g_1_4 (pc := 177) C hL dX0_wordsOf_177 ?_
  refine go_i2l (pc := 180) C dX0_wordsOf_180 ?_
  refine go_lastK (pc := 181) (j := 8) C (xpa_0_14 hL) (by decide) (by decide) dX0_wordsOf_181 ?_
  refine go_nm (pc := 182) (fun z9 => (XW Γ.d A L E z9)) (fun s6 es6 => ?_)
  have h := ltv_eq es6 h
  refine go_aload_n (pc := 182) C dX0_wordsOf_182 rfl 0 rfl ?_
  refine X0g_0_14 (pc := 183) C hL dX0_wordsOf_183 ?_
  refine go_bipush (pc := 186) (v := (9 : Int32)) C dX0_wordsOf_186 (by decide) ?_
  refine go_aload_n (pc := 188) C dX0_wordsOf_188 rfl 0 rfl ?_
  obtain ⟨hz9, h⟩ := chk_some h
  refine X0g_0_0 (pc := 189) C hL (of_decide_eq_true hz9) dX0_wordsOf_189 ?_
  refine X0g_1_6 (pc := 192) C hL dX0_wordsOf_192 ?_
  refine go_i2l (pc := 195) C dX0_wordsOf_195 ?_
  refine go_lastK (pc := 196) (j := 9) C (xpa_0_14 hL) (by decide) (by decide) dX0_wordsOf_196 ?_
  refine go_aload_n (pc := 197) C dX0_wordsOf_197 rfl 0 rfl ?_
  refine X0g_0_14 (pc := 198) C hL dX0_wordsOf_198 ?_
  refine go_bipush (pc := 201) (v := (10 : Int32)) C dX0_wordsOf_201 (by decide) ?_
  refine go_aload_n (pc := 203) C dX0_wordsOf_203 rfl 0 rfl ?_
  obtain ⟨hz9, h⟩ := chk_some h
  refine X0g_0_0 (pc := 204) C hL (of_decide_eq_true hz9) dX0_wordsOf_204 ?_
  refine X0g_1_9 (pc := 207) C hL dX0_wordsOf_207 ?_
  refine go_aload_n (pc := 210) C dX0_wordsOf_210 rfl 0 rfl ?_
  obtain ⟨hz9, h⟩ := chk_some h
  refine X0g_0_0 (pc := 211) C hL (of_decide_eq_true hz9) dX0_wordsOf_211 ?_
  refine X0g_1_12 (pc := 214) C hL dX0_wordsOf_214 ?_
  refine go_iload_n (pc := 217) C dX0_wordsOf_217 rfl 1 rfl ?_
  refine go_iald (pc := 218) C (xa_1_12 hL) h dX0_wordsOf_218 (fun h => ?_)
  refine go_iald (pc := 219) C (xa_1_9 hL) h dX0_wordsOf_219 (fun h => ?_)
  refine go_aload_n (pc := 220) C dX0_wordsOf_220 rfl 0 rfl ?_
  obtain ⟨hz9, h⟩ := chk_some h
  refine X0g_0_0 (pc := 221) C hL (of_decide_eq_true hz9) dX0_wordsOf_221 ?_
  refine X0g_1_9 (pc := 224) C hL dX0_wordsOf_224 ?_
  refine go_aload_n (pc := 227) C dX0_wordsOf_227 rfl 0 rfl ?_
  obtain ⟨hz9, h⟩ := chk_some h
  refine X0g_0_0 (pc := 228) C hL (of_decide_eq_true hz9) dX0_wordsOf_228 ?_
  refine X0g_1_12 (pc := 231) C hL dX0_wordsOf_231 ?_
  refine go_iload_n (pc := 234) C dX0_wordsOf_234 rfl 2 rfl ?_
  refine go_iald (pc := 235) C (xa_1_12 hL) h dX0_wordsOf_235 (fun h => ?_)
  refine go_iald (pc := 236) C (xa_1_9 hL) h dX0_wordsOf_236 (fun h => ?_)
  refine go_mmin (pc := 237) C q1056 (by decide) (Nat.le_of_ble_eq_true rfl) ⟨Nat.zero_le _, Nat.zero_le _⟩ dX0_wordsOf_237 ?_
  refine go_i2l (pc := 240) C dX0_wordsOf_240 ?_
  refine go_lastK (pc := 241) (j := 10) C (xpa_0_14 hL) (by decide) (by decide) dX0_wordsOf_241 ?_
  refine go_nm (pc := 242) (fun z9 => (XW Γ.d A L E z9)) (fun s7 es7 => ?_)
  have h := ltv_eq es7 h
  refine go_aload_n (pc := 242) C dX0_wordsOf_242 rfl 0 rfl ?_
  refine X0g_0_14 (pc := 243) C hL dX0_wordsOf_243 ?_
  refine go_bipush (pc := 246) (v := (11 : Int32)) C dX0_wordsOf_246 (by decide) ?_
  refine go_aload_n (pc := 248) C dX0_wordsOf_248 rfl 0 rfl ?_
  obtain ⟨hz9, h⟩ := chk_some h
  refine X0g_0_0 (pc := 249) C hL (of_decide_eq_true hz9) dX0_wordsOf_249 ?_
  obtain ⟨r8, e8, h⟩ := bnd_some h
  refine go_callVi (pc := 252) C [] (Mt.x0 (hL.2 1 (by decide)) hL.1 (m1_afloat e8)) q1057 q1058 q1059 q139 q1060 x1pd_afloat (by decide) (by decide) (xO (hL.2 1 (by decide)) hL.1) xc1 rfl (Nat.le_of_ble_eq_true rfl) ⟨Nat.zero_le _, Nat.zero_le _⟩ dX0_wordsOf_252 rfl ?_
  obtain ⟨r9, e9, h⟩ := bnd_some h
  refine go_callSi (pc := 255) C [.int r8] (mJ8_bitCount e9) q1030 q901 q162 q902 j8pd_bitCount (by decide) (by decide) rfl (Nat.le_of_ble_eq_true rfl) ⟨Nat.zero_le _, Nat.zero_le _⟩ dX0_wordsOf_255 rfl ?_
  refine go_i2l (pc := 258) C dX0_wordsOf_258 ?_
  refine go_lastK (pc := 259) (j := 11) C (xpa_0_14 hL) (by decide) (by decide) dX0_wordsOf_259 ?_
  refine go_aload_n (pc := 260) C dX0_wordsOf_260 rfl 0 rfl ?_
  refine X0g_0_14 (pc := 261) C hL dX0_wordsOf_261 ?_
  exact (hE 0 0 _ _ _ (Nat.zero_le _) (Nat.zero_le _)).2.2.2.2.2.1 _ _ rfl dX0_wordsOf_264 ⟨rfl, congrArg (fun z => (XW Γ.d A L E z)) (some1 h)⟩
theorem w0_wordsOf_125 {Γ : Gam} {A : XA} {L : List Nat} {E : va_W} {s0 : (Nat → Bl)} {v1 : Int32} {v2 : Int32} {z0 : Int64} {s9 : (Nat → Bl)} (hN : Γ.nL = 3) (C : Cx Γ cX0_wordsOf RX0 (3, 0, 0) 67) (hE : Rets Γ cX0_wordsOf (some (.array .long)) 0 0 (fun v w => v = some (.ref (A.1 0 15)) ∧ w = (XW Γ.d A L E s9))) (hL : xOK L) (h : g0_wordsOf_125 s0 v1 v2 z0 = some s9) : Go Γ 0 0 (XW Γ.d A L E s0) 125 [(0, .ref (A.1 0 0)), (1, .int v1), (2, .int v2)] [.long z0, .int (5 : Int32), .ref (A.1 0 (14 + 1))] := by
  dsimp only [g0_wordsOf_125] at h
  refine go_lastK (pc := 125) (j := 5) C (xpa_0_14 hL) (by decide) (by decide) dX0_wordsOf_125 ?_
  refine go_aload_n (pc := 126) C dX0_wordsOf_126 rfl 0 rfl ?_
  refine X0g_0_14 (pc := 127) C hL dX0_wordsOf_127 ?_
  refine go_bipush (pc := 130) (v := (6 : Int32)) C dX0_wordsOf_130 (by decide) ?_
  refine go_aload_n (pc := 132) C dX0_wordsOf_132 rfl 0 rfl ?_
  obtain ⟨hz9, h⟩ := chk_some h
  refine X0g_0_0 (pc := 133) C hL (of_decide_eq_true hz9) dX0_wordsOf_133 ?_
  refine go_iload_n (pc := 136) C dX0_wordsOf_136 rfl 1 rfl ?_
  obtain ⟨r3, e3, h⟩ := bnd_some h
  refine go_callVi (pc := 137) C [.int v1] (Mt.x0 (hL.2 1 (by decide)) hL.1 (m1_pieceOf e3)) q922 q923 q924 q139 q925 x1pd_pieceOf (by decide) (by decide) (xO (hL.2 1 (by decide)) hL.1) xc1 rfl (Nat.le_of_ble_eq_true rfl) ⟨Nat.zero_le _, Nat.zero_le _⟩ dX0_wordsOf_137 rfl ?_
  refine go_iload_n (pc := 140) C dX0_wordsOf_140 rfl 2 rfl ?_
  obtain ⟨r4, e4, h⟩ := bnd_some h
  refine go_callSi (pc := 141) C [.int r3, .int v2] (m0_has e4) q1051 q890 q138 q891 x0pd_has (by decide) (by decide) rfl (Nat.le_of_ble_eq_true rfl) ⟨Nat.zero_le _, Nat.zero_le _⟩ dX0_wordsOf_141 rfl ?_
  refine go_if_eq (pc := 144) (tgt := 151) C dX0_wordsOf_144 (by decide) h (fun h => ?_) (fun h => ?_)
  · refine go_lconst (pc := 151) (v := (1 : Int64)) C dX0_wordsOf_151 (by decide) ?_
    exact w0_wordsOf_152 hN C hE hL h
  · refine go_lconst (pc := 147) (v := (0 : Int64)) C dX0_wordsOf_147 (by decide) ?_
    refine go_goto (pc := 148) (tgt := 152) C dX0_wordsOf_148 (by decide) ?_
    exact w0_wordsOf_152 hN C hE hL h
theorem m0_wordsOf {l : Launch} {d : gD} {A : XA} {L : List Nat} {E : va_W} {s0 : (Nat → Bl)} {v1 : Int32} {v2 : Int32} {s9 : (Nat → Bl)} (hL : xOK L) (h : f0_wordsOf s0 v1 v2 = some s9) : Mt l d yX0_wordsOf cX0_wordsOf 3 (some (.array .long)) (3, 0, 0) 67 (XW d A L E s0) [.ref (A.1 0 0), .int v1, .int v2] (fun v w => v = some (.ref (A.1 0 15)) ∧ w = (XW d A L E s9)) := by
  refine Mt.of x0pn (Nat.le_of_ble_eq_true rfl) ?_
  intro Γ hl hd hN C hE
  subst hl; subst hd
  show Go Γ 0 0 (XW Γ.d A L E s0) 0 [(0, .ref (A.1 0 0)), (1, .int v1), (2, .int v2)] []
  dsimp only [f0_wordsOf] at h
  refine go_aload_n (pc := 0) C dX0_wordsOf_0 rfl 0 rfl ?_
  refine X0g_0_14 (pc := 1) C hL dX0_wordsOf_1 ?_
  refine go_iconst (pc := 4) (v := (0 : Int32)) C dX0_wordsOf_4 (by decide) ?_
  refine go_iload_n (pc := 5) C dX0_wordsOf_5 rfl 1 rfl ?_
  refine go_i2l (pc := 6) C dX0_wordsOf_6 ?_
  refine go_lastK (pc := 7) (j := 0) C (xpa_0_14 hL) (by decide) (by decide) dX0_wordsOf_7 ?_
  refine go_aload_n (pc := 8) C dX0_wordsOf_8 rfl 0 rfl ?_
  refine X0g_0_14 (pc := 9) C hL dX0_wordsOf_9 ?_
  refine go_iconst (pc := 12) (v := (1 : Int32)) C dX0_wordsOf_12 (by decide) ?_
  refine go_iload_n (pc := 13) C dX0_wordsOf_13 rfl 2 rfl ?_
  refine go_i2l (pc := 14) C dX0_wordsOf_14 ?_
  refine go_lastK (pc := 15) (j := 1) C (xpa_0_14 hL) (by decide) (by decide) dX0_wordsOf_15 ?_
  refine go_aload_n (pc := 16) C dX0_wordsOf_16 rfl 0 rfl ?_
  refine X0g_0_14 (pc := 17) C hL dX0_wordsOf_17 ?_
  refine go_iconst (pc := 20) (v := (2 : Int32)) C dX0_wordsOf_20 (by decide) ?_
  refine go_aload_n (pc := 21) C dX0_wordsOf_21 rfl 0 rfl ?_
  obtain ⟨hz9, h⟩ := chk_some h
  refine X0g_0_0 (pc := 22) C hL (of_decide_eq_true hz9) dX0_wordsOf_22 ?_
  refine X0g_1_14 (pc := 25) C hL dX0_wordsOf_25 ?_
  refine go_iload_n (pc := 28) C dX0_wordsOf_28 rfl 1 rfl ?_
  refine go_iald (pc := 29) C (xa_1_14 hL) h dX0_wordsOf_29 (fun h => ?_)
  refine go_aload_n (pc := 30) C dX0_wordsOf_30 rfl 0 rfl ?_
  obtain ⟨hz9, h⟩ := chk_some h
  refine X0g_0_0 (pc := 31) C hL (of_decide_eq_true hz9) dX0_wordsOf_31 ?_
  refine X0g_1_14 (pc := 34) C hL dX0_wordsOf_34 ?_
  refine go_iload_n (pc := 37) C dX0_wordsOf_37 rfl 2 rfl ?_
  refine go_iald (pc := 38) C (xa_1_14 hL) h dX0_wordsOf_38 (fun h => ?_)
  refine go_iadd (pc := 39) C dX0_wordsOf_39 ?_
  refine go_i2l (pc := 40) C dX0_wordsOf_40 ?_
  refine go_lastK (pc := 41) (j := 2) C (xpa_0_14 hL) (by decide) (by decide) dX0_wordsOf_41 ?_
  refine go_nm (pc := 42) (fun z9 => (XW Γ.d A L E z9)) (fun s1 es1 => ?_)
  have h := ltv_eq es1 h
  refine go_aload_n (pc := 42) C dX0_wordsOf_42 rfl 0 rfl ?_
  refine X0g_0_14 (pc := 43) C hL dX0_wordsOf_43 ?_
  refine go_iconst (pc := 46) (v := (3 : Int32)) C dX0_wordsOf_46 (by decide) ?_
  refine go_aload_n (pc := 47) C dX0_wordsOf_47 rfl 0 rfl ?_
  obtain ⟨hz9, h⟩ := chk_some h
  refine X0g_0_0 (pc := 48) C hL (of_decide_eq_true hz9) dX0_wordsOf_48 ?_
  refine X0g_1_13 (pc := 51) C hL dX0_wordsOf_51 ?_
  refine go_iload_n (pc := 54) C dX0_wordsOf_54 rfl 1 rfl ?_
  refine go_iald (pc := 55) C (xa_1_13 hL) h dX0_wordsOf_55 (fun h => ?_)
  refine go_aload_n (pc := 56) C dX0_wordsOf_56 rfl 0 rfl ?_
  obtain ⟨hz9, h⟩ := chk_some h
  refine X0g_0_0 (pc := 57) C hL (of_decide_eq_true hz9) dX0_wordsOf_57 ?_
  refine X0g_1_13 (pc := 60) C hL dX0_wordsOf_60 ?_
  refine go_iload_n (pc := 63) C dX0_wordsOf_63 rfl 2 rfl ?_
  refine go_iald (pc := 64) C (xa_1_13 hL) h dX0_wordsOf_64 (fun h => ?_)
  refine go_iadd (pc := 65) C dX0_wordsOf_65 ?_
  refine go_i2l (pc := 66) C dX0_wordsOf_66 ?_
  refine go_lastK (pc := 67) (j := 3) C (xpa_0_14 hL) (by decide) (by decide) dX0_wordsOf_67 ?_
  refine go_aload_n (pc := 68) C dX0_wordsOf_68 rfl 0 rfl ?_
  refine X0g_0_14 (pc := 69) C hL dX0_wordsOf_69 ?_
  refine go_iconst (pc := 72) (v := (4 : Int32)) C dX0_wordsOf_72 (by decide) ?_
  refine go_aload_n (pc := 73) C dX0_wordsOf_73 rfl 0 rfl ?_
  obtain ⟨hz9, h⟩ := chk_some h
  refine X0g_0_0 (pc := 74) C hL (of_decide_eq_true hz9) dX0_wordsOf_74 ?_
  refine X0g_1_15 (pc := 77) C hL dX0_wordsOf_77 ?_
  refine go_iload_n (pc := 80) C dX0_wordsOf_80 rfl 1 rfl ?_
  refine go_iald (pc := 81) C (xa_1_15 hL) h dX0_wordsOf_81 (fun h => ?_)
  refine go_aload_n (pc := 82) C dX0_wordsOf_82 rfl 0 rfl ?_
  obtain ⟨hz9, h⟩ := chk_some h
  refine X0g_0_0 (pc := 83) C hL (of_decide_eq_true hz9) dX0_wordsOf_83 ?_
  refine X0g_1_15 (pc := 86) C hL dX0_wordsOf_86 ?_
  refine go_iload_n (pc := 89) C dX0_wordsOf_89 rfl 2 rfl ?_
  refine go_iald (pc := 90) C (xa_1_15 hL) h dX0_wordsOf_90 (fun h => ?_)
  refine go_iadd (pc := 91) C dX0_wordsOf_91 ?_
  refine go_i2l (pc := 92) C dX0_wordsOf_92 ?_
  refine go_lastK (pc := 93) (j := 4) C (xpa_0_14 hL) (by decide) (by decide) dX0_wordsOf_93 ?_
  refine go_nm (pc := 94) (fun z9 => (XW Γ.d A L E z9)) (fun s2 es2 => ?_)
  have h := ltv_eq es2 h
  refine go_aload_n (pc := 94) C dX0_wordsOf_94 rfl 0 rfl ?_
  refine X0g_0_14 (pc := 95) C hL dX0_wordsOf_95 ?_
  refine go_iconst (pc := 98) (v := (5 : Int32)) C dX0_wordsOf_98 (by decide) ?_
  refine go_aload_n (pc := 99) C dX0_wordsOf_99 rfl 0 rfl ?_
  obtain ⟨hz9, h⟩ := chk_some h
  refine X0g_0_0 (pc := 100) C hL (of_decide_eq_true hz9) dX0_wordsOf_100 ?_
  refine X0g_1_12 (pc := 103) C hL dX0_wordsOf_103 ?_
  refine go_iload_n (pc := 106) C dX0_wordsOf_106 rfl 1 rfl ?_
  refine go_iald (pc := 107) C (xa_1_12 hL) h dX0_wordsOf_107 (fun h => ?_)
  refine go_aload_n (pc := 108) C dX0_wordsOf_108 rfl 0 rfl ?_
  obtain ⟨hz9, h⟩ := chk_some h
  refine X0g_0_0 (pc := 109) C hL (of_decide_eq_true hz9) dX0_wordsOf_109 ?_
  refine X0g_1_12 (pc := 112) C hL dX0_wordsOf_112 ?_
  refine go_iload_n (pc := 115) C dX0_wordsOf_115 rfl 2 rfl ?_
  refine go_iald (pc := 116) C (xa_1_12 hL) h dX0_wordsOf_116 (fun h => ?_)
  refine go_icmp_ne (pc := 117) (tgt := 124) C dX0_wordsOf_117 (by decide) h (fun h => ?_) (fun h => ?_)
  · refine go_lconst (pc := 124) (v := (0 : Int64)) C dX0_wordsOf_124 (by decide) ?_
    exact w0_wordsOf_125 hN C hE hL h
  · refine go_lconst (pc := 120) (v := (1 : Int64)) C dX0_wordsOf_120 (by decide) ?_
    refine go_goto (pc := 121) (tgt := 125) C dX0_wordsOf_121 (by decide) ?_
    exact w0_wordsOf_125 hN C hE hL h

/-! STRING CONSTANTS: ldc; length() and charAt() of the JDK, walked -/
set_option maxRecDepth 100000
section GO
variable {Γ : Gam} {cc : ByteArray} {own : String} {fr : Nat × Nat × Nat} {lo k n pc : Nat} {ws ws' : va_W} {lv : List (Nat × Value)} {st : List Value}
theorem go_ldcS (i : Nat) (C : Cx Γ cc own fr lo) {ix : Nat} (hd : decode cc pc = .ok (.ldc ix, 2)) (hm : (own, ix, i) ∈ sLk) (kk : Go Γ k n ws (pc + 2) lv (.ref (Γ.d.2.2.1 i) :: st)) : Go Γ k n ws pc lv st := by
  obtain ⟨p, l, e, R, s, m, args, below, meth, c, nL, d, A, Q⟩ := Γ
  obtain ⟨hx, hb, hml, hown, hts, hlk, hK, hA, hZ, ⟨hfr, hce, hsl⟩, hlo⟩ := C
  intro H locs ls hP hD hS hl
  exact va_ldcS hx hb hown (hZ.2.1 _ hm) hd (kk H locs ls hP hD hS hl)
theorem va_ldcwS {p : Program} {l : Launch} {e : Env} {R : Room} {s : State} {m : MethodId} {args : Array Value} {below : List Frame} {meth : Method} {c : Code} {H : Heap} {locs : List Loc} {cells slots : Nat} {Q : State → Prop} {cc : ByteArray} {pc : Nat} {ls : Array Slot} {rest : List Value} (hexec : p.tables.exec = Jvm.exec) (hb : c.code = cc) {own tx : String} {index q : Nat} (hown : s.vm.findClass own = some m.cls) (hZ : vk_R own index tx q s) (hdg : decode cc pc = .ok (.ldc_w index, 3))
    (k : W p l e R s m args below meth c H locs cells slots Q (F0 m (pc + 3) ls (.ref q :: rest))) : W p l e R s m args below meth c H locs cells slots Q (F0 m pc ls rest) := by
  intro T hT X
  obtain ⟨t, a1, b1⟩ := k T hT X
  refine ⟨t, ?_, b1⟩
  obtain ⟨h1, h2⟩ := hZ
  obtain ⟨k9, cf, i, a', hk, hcf, hcp, -, hr, hev'⟩ := Cond.stringRef_spec (args := #[]) hown h1
  cases h2.symm.trans hev'
  obtain ⟨k', hk', he⟩ := X.warmed.alike.2.2 _ _ hk
  have hr' : k'.resolved[index]? = some (some (.string q)) := by
    rcases X.warmed.entry hk hk' index with h | ⟨h, -⟩
    · rw [h]; exact hr
    · rw [hr] at h; cases h
  have hdg' : decode c.code (F0 m pc ls rest).pc = .ok (.ldc_w index, 3) := by rw [hb]; exact hdg
  jvm_step X.here [hexec, hdg', ldc_w.wp_string (e := e) (s := T) (f := F0 m pc ls rest) X.here.top hk' (by rw [he]; exact hcf) hcp hr']
  exact a1
theorem go_ldcwS (i : Nat) (C : Cx Γ cc own fr lo) {ix : Nat} (hd : decode cc pc = .ok (.ldc_w ix, 3)) (hm : (own, ix, i) ∈ sLk) (kk : Go Γ k n ws (pc + 3) lv (.ref (Γ.d.2.2.1 i) :: st)) : Go Γ k n ws pc lv st := by
  obtain ⟨p, l, e, R, s, m, args, below, meth, c, nL, d, A, Q⟩ := Γ
  obtain ⟨hx, hb, hml, hown, hts, hlk, hK, hA, hZ, ⟨hfr, hce, hsl⟩, hlo⟩ := C
  intro H locs ls hP hD hS hl
  exact va_ldcwS hx hb hown (hZ.2.1 _ hm) hd (kk H locs ls hP hD hS hl)
theorem go_strcoder (C : Cx Γ cc own fr lo) {ix i : Nat} (hi : i < 23) (hw : Cond.fieldLink own ix "java/lang/String" "coder" "B" ∈ lw_all) (hd : decode cc pc = .ok (.getfield ix, 3)) (kk : Go Γ k n ws (pc + 3) lv (.int 0 :: st)) : Go Γ k n ws pc lv (.ref (Γ.d.2.2.1 i) :: st) := by
  obtain ⟨p, l, e, R, s, m, args, below, meth, c, nL, d, A, Q⟩ := Γ
  obtain ⟨hx, hb, hml, hown, hts, hlk, hK, hA, hZ, ⟨hfr, hce, hsl⟩, hlo⟩ := C
  intro H locs ls hP hD hS hl
  exact vk_getf hx hb (hZ.1.1 i hi).2.1 hS hown (hts _ hw) (fun _ h => h) hd (kk H locs ls hP hD hS hl)
theorem go_strvalue (C : Cx Γ cc own fr lo) {ix i : Nat} (hi : i < 23) (hw : Cond.fieldLink own ix "java/lang/String" "value" "[B" ∈ lw_all) (hd : decode cc pc = .ok (.getfield ix, 3)) (kk : Go Γ k n ws (pc + 3) lv (.ref (Γ.d.2.2.2 i) :: st)) : Go Γ k n ws pc lv (.ref (Γ.d.2.2.1 i) :: st) := by
  obtain ⟨p, l, e, R, s, m, args, below, meth, c, nL, d, A, Q⟩ := Γ
  obtain ⟨hx, hb, hml, hown, hts, hlk, hK, hA, hZ, ⟨hfr, hce, hsl⟩, hlo⟩ := C
  intro H locs ls hP hD hS hl
  exact vk_getf hx hb (hZ.1.1 i hi).2.2.1 hS hown (hts _ hw) (fun _ h => h) hd (kk H locs ls hP hD hS hl)
theorem go_strlenA (C : Cx Γ cc own fr lo) {i : Nat} (hi : i < 23) (hd : decode cc pc = .ok (.arraylength, 1)) (kk : Go Γ k n ws (pc + 1) lv (.int (Int32.ofNat (sBy i).length) :: st)) : Go Γ k n ws pc lv (.ref (Γ.d.2.2.2 i) :: st) := by
  obtain ⟨p, l, e, R, s, m, args, below, meth, c, nL, d, A, Q⟩ := Γ
  obtain ⟨hx, hb, hml, hown, hts, hlk, hK, hA, hZ, ⟨hfr, hce, hsl⟩, hlo⟩ := C
  intro H locs ls hP hD hS hl
  exact va_tlen hx hb (hZ.1.1 i hi).2.2.2 hS rfl hd (kk H locs ls hP hD hS hl)
theorem go_strbald (C : Cx Γ cc own fr lo) {i : Nat} (hi : i < 23) {j : Int32} (hj : inB j (sBy i).length = true) (hd : decode cc pc = .ok (.baload, 1)) (kk : Go Γ k n ws (pc + 1) lv (.int ((sBy i).getD j.toNatClampNeg 0) :: st)) : Go Γ k n ws pc lv (.int j :: .ref (Γ.d.2.2.2 i) :: st) := by
  obtain ⟨p, l, e, R, s, m, args, below, meth, c, nL, d, A, Q⟩ := Γ
  obtain ⟨hx, hb, hml, hown, hts, hlk, hK, hA, hZ, ⟨hfr, hce, hsl⟩, hlo⟩ := C
  intro H locs ls hP hD hS hl
  exact va_tb hx hb (hZ.1.1 i hi).2.2.2 hS (inB_in hj) rfl hd (kk H locs ls hP hD hS hl)
theorem go_compact (C : Cx Γ cc own fr lo) {ix : Nat} (hw : Cond.fieldLink own ix "java/lang/String" "COMPACT_STRINGS" "Z" ∈ lw_all) (hd : decode cc pc = .ok (.getstatic ix, 3)) (kk : Go Γ k n ws (pc + 3) lv (.int 1 :: st)) : Go Γ k n ws pc lv st := by
  obtain ⟨p, l, e, R, s, m, args, below, meth, c, nL, d, A, Q⟩ := Γ
  obtain ⟨hx, hb, hml, hown, hts, hlk, hK, hA, hZ, ⟨hfr, hce, hsl⟩, hlo⟩ := C
  intro H locs ls hP hD hS hl
  exact va_gets hx hb hZ.1.2.1 hS hown (hts _ hw) (fun _ h => h) hd (kk H locs ls hP hD hS hl)
theorem go_sioobe (C : Cx Γ cc own fr lo) {ix : Nat} (hw : Cond.fieldLink own ix "jdk/internal/util/Preconditions" "SIOOBE_FORMATTER" "Ljava/util/function/BiFunction;" ∈ lw_all) (hd : decode cc pc = .ok (.getstatic ix, 3)) (kk : ∀ v : Value, (v = .null ∨ ∃ a, v = .ref a) → Go Γ k n ws (pc + 3) lv (v :: st)) : Go Γ k n ws pc lv st := by
  obtain ⟨p, l, e, R, s, m, args, below, meth, c, nL, d, A, Q⟩ := Γ
  obtain ⟨hx, hb, hml, hown, hts, hlk, hK, hA, hZ, ⟨hfr, hce, hsl⟩, hlo⟩ := C
  intro H locs ls hP hD hS hl
  rcases hZ.1.2.2.1 with h | ⟨t, h⟩
  · exact va_gets hx hb h hS hown (hts _ hw) (fun _ h => h) hd (kk _ (Or.inl rfl) H locs ls hP hD hS hl)
  · exact va_gets hx hb h hS hown (hts _ hw) (fun _ h => h) hd (kk _ (Or.inr ⟨_, rfl⟩) H locs ls hP hD hS hl)
/-- a call through a String constant -/
theorem go_callVSi (C : Cx Γ cc own fr lo) {y : MethodName} {c2 : ByteArray} {nL2 lo2 fr2 ix i nA : Nat} {ret2 : Option FieldType} (hi : i < 23) (As : List Value) {r : Int32}
    (hM : Mt Γ.l Γ.d y c2 nL2 ret2 (fr2, 0, 0) lo2 ws (.ref (Γ.d.2.2.1 i) :: As) (fun v w => v = some (.int r) ∧ w = ws')) (h1 : Cond.methodLink own ix y ∈ lw_all) (h2 : Cond.instanceMethod y ∈ lw_all) (h3 : Cond.selects "java/lang/String" y y ∈ lw_all) (h5 : Cond.code y c2 nL2 ret2 ∈ lw_all)
    (hd0 : y.cls = "java/lang/String" ∧ y.cls ≠ "java/lang/invoke/MethodHandle" ∧ y.cls ≠ "java/lang/invoke/VarHandle" ∧ (parseMethodDescriptor y.desc).map (fun d => d.parameters.length) = some nA) (hfr : fr2 + 1 ≤ fr.1) (hlo : 8 + (nL2 + 11) + lo2 ≤ lo) (hn : As.length = nA) (hcat : (st.map fun v => v.category).sum ≤ 8) (hr : k ≤ fr.2.1 ∧ n ≤ fr.2.2) (hd : decode cc pc = .ok (.invokevirtual ix, 3)) {st0 : List Value} (hst : As.reverse ++ .ref (Γ.d.2.2.1 i) :: st = st0)
    (kk : Go Γ k n ws' (pc + 3) lv (.int r :: st)) : Go Γ k n ws pc lv st0 := by
  refine go_callVr C hM h1 h2 h3 q147 h5 hd0 ⟨hfr, hlo⟩ ?_ hn hcat ⟨hr.1, hr.2⟩ hd hst (fun v w hp => by obtain ⟨rfl, rfl⟩ := hp; exact kk)
  obtain ⟨p, l, e, R, s, m, args, below, meth, c, nL, d, A, Q⟩ := Γ
  obtain ⟨hx, hb, hml, hown, hts, hlk, hK, hA, hZ, ⟨hfr, hce, hsl⟩, hlo⟩ := C
  intro H locs hP hS
  obtain ⟨cell, g1, g2, g3, -⟩ := (hZ.1.1 i hi).1.kept hS.2.1
  exact ⟨cell, g1, g2, g3⟩
end GO
theorem pn_J3 : plainName RJ3 = true := by decide +kernel
theorem pn_J4 : plainName RJ4 = true := by decide +kernel
theorem pn_J5 : plainName RJ5 = true := by decide +kernel
theorem pd_J3_length : yJ3_length.cls = "java/lang/String" ∧ yJ3_length.cls ≠ "java/lang/invoke/MethodHandle" ∧ yJ3_length.cls ≠ "java/lang/invoke/VarHandle" ∧ (parseMethodDescriptor yJ3_length.desc).map (fun d => d.parameters.length) = some 0 := by decide +kernel
theorem pd_J3_coder : yJ3_coder.cls = "java/lang/String" ∧ yJ3_coder.cls ≠ "java/lang/invoke/MethodHandle" ∧ yJ3_coder.cls ≠ "java/lang/invoke/VarHandle" ∧ (parseMethodDescriptor yJ3_coder.desc).map (fun d => d.parameters.length) = some 0 := by decide +kernel
theorem pd_J3_isLatin1 : yJ3_isLatin1.cls = "java/lang/String" ∧ yJ3_isLatin1.cls ≠ "java/lang/invoke/MethodHandle" ∧ yJ3_isLatin1.cls ≠ "java/lang/invoke/VarHandle" ∧ (parseMethodDescriptor yJ3_isLatin1.desc).map (fun d => d.parameters.length) = some 0 := by decide +kernel
theorem pd_J3_charAt : yJ3_charAt.cls = "java/lang/String" ∧ yJ3_charAt.cls ≠ "java/lang/invoke/MethodHandle" ∧ yJ3_charAt.cls ≠ "java/lang/invoke/VarHandle" ∧ (parseMethodDescriptor yJ3_charAt.desc).map (fun d => d.parameters.length) = some 1 := by decide +kernel
theorem pd_J3_checkIndex : yJ3_checkIndex.cls ≠ "java/lang/invoke/MethodHandle" ∧ yJ3_checkIndex.cls ≠ "java/lang/invoke/VarHandle" ∧ (parseMethodDescriptor yJ3_checkIndex.desc).map (fun d => d.parameters.length) = some 2 := by decide +kernel
theorem pd_J4_charAt : yJ4_charAt.cls ≠ "java/lang/invoke/MethodHandle" ∧ yJ4_charAt.cls ≠ "java/lang/invoke/VarHandle" ∧ (parseMethodDescriptor yJ4_charAt.desc).map (fun d => d.parameters.length) = some 2 := by decide +kernel
theorem pd_J5_checkIndex : yJ5_checkIndex.cls ≠ "java/lang/invoke/MethodHandle" ∧ yJ5_checkIndex.cls ≠ "java/lang/invoke/VarHandle" ∧ (parseMethodDescriptor yJ5_checkIndex.desc).map (fun d => d.parameters.length) = some 3 := by decide +kernel
theorem m_J3_coder {l : Launch} {d : gD} {ws : va_W} {i : Nat} (hi : i < 23) : Mt l d yJ3_coder cJ3_coder 1 (some .byte) (0, 0, 0) 0 ws [.ref (d.2.2.1 i)] (fun v w => v = some (.int 0) ∧ w = ws) := by
  refine Mt.of pn_J3 (Nat.le_of_ble_eq_true rfl) ?_
  intro Γ hl hd hN C hE
  subst hl; subst hd
  show Go Γ 0 0 ws 0 [(0, .ref (Γ.d.2.2.1 i))] []
  refine go_compact (pc := 0) C q586 dJ3_coder_0 ?_
  refine go_if_eqF (pc := 3) (tgt := 13) C dJ3_coder_3 (by decide) (by decide) ?_
  refine go_aload_n (pc := 6) C dJ3_coder_6 rfl 0 rfl ?_
  refine go_strcoder (pc := 7) C hi q2021 dJ3_coder_7 ?_
  refine go_goto (pc := 10) (tgt := 14) C dJ3_coder_10 (by decide) ?_
  exact (hE 0 0 _ _ _ (Nat.zero_le _) (Nat.zero_le _)).2.2.2.2.2.2 _ _ rfl rfl dJ3_coder_14 ⟨rfl, rfl⟩
theorem m_J3_isLatin1 {l : Launch} {d : gD} {ws : va_W} {i : Nat} (hi : i < 23) : Mt l d yJ3_isLatin1 cJ3_isLatin1 1 (some .boolean) (0, 0, 0) 0 ws [.ref (d.2.2.1 i)] (fun v w => v = some (.int 1) ∧ w = ws) := by
  refine Mt.of pn_J3 (Nat.le_of_ble_eq_true rfl) ?_
  intro Γ hl hd hN C hE
  subst hl; subst hd
  show Go Γ 0 0 ws 0 [(0, .ref (Γ.d.2.2.1 i))] []
  refine go_compact (pc := 0) C q586 dJ3_isLatin1_0 ?_
  refine go_if_eqF (pc := 3) (tgt := 17) C dJ3_isLatin1_3 (by decide) (by decide) ?_
  refine go_aload_n (pc := 6) C dJ3_isLatin1_6 rfl 0 rfl ?_
  refine go_strcoder (pc := 7) C hi q2021 dJ3_isLatin1_7 ?_
  refine go_if_neF (pc := 10) (tgt := 17) C dJ3_isLatin1_10 (by decide) (by decide) ?_
  refine go_iconst (v := (1 : Int32)) (pc := 13) C dJ3_isLatin1_13 (by decide) ?_
  refine go_goto (pc := 14) (tgt := 18) C dJ3_isLatin1_14 (by decide) ?_
  exact (hE 0 0 _ _ _ (Nat.zero_le _) (Nat.zero_le _)).2.1 _ rfl (Or.inr rfl) dJ3_isLatin1_18 ⟨rfl, rfl⟩
theorem str_shr (n : Nat) : Int32.ofNat n >>> ((0 : Int32) &&& 31) = Int32.ofNat n := by
  have : (0 : Int32) &&& 31 = 0 := by decide
  rw [this, Int32.shiftRight_zero]
theorem m_J3_length {l : Launch} {d : gD} {ws : va_W} {i : Nat} (hi : i < 23) : Mt l d yJ3_length cJ3_length 1 (some .int) (1, 0, 0) 20 ws [.ref (d.2.2.1 i)] (fun v w => v = some (.int (Int32.ofNat (sBy i).length)) ∧ w = ws) := by
  refine Mt.of pn_J3 (Nat.le_of_ble_eq_true rfl) ?_
  intro Γ hl hd hN C hE
  subst hl; subst hd
  show Go Γ 0 0 ws 0 [(0, .ref (Γ.d.2.2.1 i))] []
  refine go_aload_n (pc := 0) C dJ3_length_0 rfl 0 rfl ?_
  refine go_strvalue (pc := 1) C hi q2020 dJ3_length_1 ?_
  refine go_strlenA (pc := 4) C hi dJ3_length_4 ?_
  refine go_aload_n (pc := 5) C dJ3_length_5 rfl 0 rfl ?_
  refine go_callVSi (pc := 6) C hi [] (m_J3_coder hi) q582 q583 q584 q585 pd_J3_coder (by decide) (by decide) rfl (Nat.le_of_ble_eq_true rfl) ⟨Nat.zero_le _, Nat.zero_le _⟩ dJ3_length_6 rfl ?_
  refine go_ishr (pc := 9) C dJ3_length_9 ?_
  rw [str_shr]
  exact (hE 0 0 _ _ _ (Nat.zero_le _) (Nat.zero_le _)).1 _ rfl dJ3_length_10 ⟨rfl, rfl⟩
theorem m_J5_checkIndex {l : Launch} {d : gD} {ws : va_W} {i n : Int32} {v0 : Value} (hv : v0 = .null ∨ ∃ a, v0 = .ref a) (h1 : 0 ≤ i) (h2 : i < n) : Mt l d yJ5_checkIndex cJ5_checkIndex 3 (some .int) (0, 0, 0) 0 ws [.int i, .int n, v0] (fun v w => v = some (.int i) ∧ w = ws) := by
  refine Mt.of pn_J5 (by rcases hv with rfl | ⟨a, rfl⟩ <;> exact Nat.le_of_ble_eq_true rfl) ?_
  intro Γ hl hd hN C hE
  subst hl; subst hd
  show Go Γ 0 0 ws 0 [(0, .int i), (1, .int n), (2, v0)] []
  refine go_iload_n (pc := 0) C dJ5_checkIndex_0 rfl 0 rfl ?_
  refine go_if_ltF (pc := 1) (tgt := 9) C dJ5_checkIndex_1 (by decide) (Int32.not_lt.mpr h1) ?_
  refine go_iload_n (pc := 4) C dJ5_checkIndex_4 rfl 0 rfl ?_
  refine go_iload_n (pc := 5) C dJ5_checkIndex_5 rfl 1 rfl ?_
  refine go_icmp_lt (A := some ()) (B := none) (r := ()) (pc := 6) (tgt := 16) C dJ5_checkIndex_6 (by decide) (by rw [if_pos h2]) (fun _ => ?_) (fun h => by cases h)
  refine go_iload_n (pc := 16) C dJ5_checkIndex_16 rfl 0 rfl ?_
  exact (hE 0 0 _ _ _ (Nat.zero_le _) (Nat.zero_le _)).1 _ rfl dJ5_checkIndex_17 ⟨rfl, rfl⟩
theorem m_J3_checkIndex {l : Launch} {d : gD} {ws : va_W} {i n : Int32} (h1 : 0 ≤ i) (h2 : i < n) : Mt l d yJ3_checkIndex cJ3_checkIndex 2 none (1, 0, 0) 22 ws [.int i, .int n] (fun v w => v = none ∧ w = ws) := by
  refine Mt.of pn_J3 (Nat.le_of_ble_eq_true rfl) ?_
  intro Γ hl hd hN C hE
  subst hl; subst hd
  show Go Γ 0 0 ws 0 [(0, .int i), (1, .int n)] []
  refine go_iload_n (pc := 0) C dJ3_checkIndex_0 rfl 0 rfl ?_
  refine go_iload_n (pc := 1) C dJ3_checkIndex_1 rfl 1 rfl ?_
  refine go_sioobe (pc := 2) C q602 dJ3_checkIndex_2 (fun v0 hv => ?_)
  refine go_callSi (pc := 5) C [.int i, .int n, v0] (m_J5_checkIndex hv h1 h2) q604 q605 q149 q606 pd_J5_checkIndex (by decide) (by decide) rfl (Nat.le_of_ble_eq_true rfl) ⟨Nat.zero_le _, Nat.zero_le _⟩ dJ3_checkIndex_5 rfl ?_
  refine go_pop (pc := 8) C dJ3_checkIndex_8 rfl ?_
  exact (hE 0 0 _ _ _ (Nat.zero_le _) (Nat.zero_le _)).2.2.2.1 rfl dJ3_checkIndex_9 ⟨rfl, rfl⟩
/-- every byte of a text is a small letter -/
theorem sBy_ch : ∀ i, i < 23 → ∀ b ∈ sBy i, narrow .char (.int b) = .int b ∧ (((b &&& 255).toUInt32 % 65536).toInt32) = b := by decide +kernel
theorem sBy_len : ∀ i, i < 23 → (sBy i).length < 8 := by decide +kernel
theorem m_J4_charAt {l : Launch} {d : gD} {ws : va_W} {i : Nat} (hi : i < 23) {j : Int32} (hj : inB j (sBy i).length = true) : Mt l d yJ4_charAt cJ4_charAt 2 (some .char) (2, 0, 0) 43 ws [.ref (d.2.2.2 i), .int j] (fun v w => v = some (.int ((sBy i).getD j.toNatClampNeg 0)) ∧ w = ws) := by
  refine Mt.of pn_J4 (Nat.le_of_ble_eq_true rfl) ?_
  intro Γ hl hd hN C hE
  subst hl; subst hd
  have hj2 := hj
  simp only [inB, Bool.and_eq_true, decide_eq_true_eq] at hj2
  have hlt : j < Int32.ofNat (sBy i).length := by
    have h3 := sBy_len i hi
    rw [Int32.lt_iff_toInt_lt]
    have h4 : (Int32.ofNat (sBy i).length).toInt = ((sBy i).length : Int) := nI_toInt (n := (sBy i).length) (by omega)
    rw [h4]
    have h5 : (0 : Int) ≤ j.toInt := by have := Int32.le_iff_toInt_le.mp hj2.1; simpa using this
    have h6 : j.toNatClampNeg = j.toInt.toNat := rfl
    omega
  have hb9 : (sBy i).getD j.toNatClampNeg 0 ∈ sBy i := by
    rw [List.getD_eq_getElem?_getD, List.getElem?_eq_getElem hj2.2]
    exact List.getElem_mem _
  obtain ⟨hn9, hc9⟩ := sBy_ch i hi _ hb9
  show Go Γ 0 0 ws 0 [(0, .ref (Γ.d.2.2.2 i)), (1, .int j)] []
  refine go_iload_n (pc := 0) C dJ4_charAt_0 rfl 1 rfl ?_
  refine go_aload_n (pc := 1) C dJ4_charAt_1 rfl 0 rfl ?_
  refine go_strlenA (pc := 2) C hi dJ4_charAt_2 ?_
  refine go_callSv (pc := 3) C [.int j, .int (Int32.ofNat (sBy i).length)] (m_J3_checkIndex hj2.1 hlt) q599 q600 q147 q601 pd_J3_checkIndex (by decide) (by decide) rfl (Nat.le_of_ble_eq_true rfl) ⟨Nat.zero_le _, Nat.zero_le _⟩ dJ4_charAt_3 rfl ?_
  refine go_aload_n (pc := 6) C dJ4_charAt_6 rfl 0 rfl ?_
  refine go_iload_n (pc := 7) C dJ4_charAt_7 rfl 1 rfl ?_
  refine go_strbald (pc := 8) C hi hj dJ4_charAt_8 ?_
  refine go_sipush (v := (255 : Int32)) (pc := 9) C dJ4_charAt_9 (by decide) ?_
  refine go_iand (pc := 12) C dJ4_charAt_12 ?_
  refine go_i2c (pc := 13) C dJ4_charAt_13 ?_
  rw [hc9]
  exact (hE 0 0 _ _ _ (Nat.zero_le _) (Nat.zero_le _)).2.2.2.2.2.2 _ _ rfl hn9 dJ4_charAt_14 ⟨rfl, rfl⟩
theorem m_J3_charAt {l : Launch} {d : gD} {ws : va_W} {i : Nat} (hi : i < 23) {j : Int32} (hj : inB j (sBy i).length = true) : Mt l d yJ3_charAt cJ3_charAt 2 (some .char) (3, 0, 0) 64 ws [.ref (d.2.2.1 i), .int j] (fun v w => v = some (.int ((sBy i).getD j.toNatClampNeg 0)) ∧ w = ws) := by
  refine Mt.of pn_J3 (Nat.le_of_ble_eq_true rfl) ?_
  intro Γ hl hd hN C hE
  subst hl; subst hd
  have hj2 := hj
  simp only [inB, Bool.and_eq_true, decide_eq_true_eq] at hj2
  have hb9 : (sBy i).getD j.toNatClampNeg 0 ∈ sBy i := by
    rw [List.getD_eq_getElem?_getD, List.getElem?_eq_getElem hj2.2]
    exact List.getElem_mem _
  obtain ⟨hn9, hc9⟩ := sBy_ch i hi _ hb9
  show Go Γ 0 0 ws 0 [(0, .ref (Γ.d.2.2.1 i)), (1, .int j)] []
  refine go_aload_n (pc := 0) C dJ3_charAt_0 rfl 0 rfl ?_
  refine go_callVSi (pc := 1) C hi [] (m_J3_isLatin1 hi) q592 q593 q594 q595 pd_J3_isLatin1 (by decide) (by decide) rfl (Nat.le_of_ble_eq_true rfl) ⟨Nat.zero_le _, Nat.zero_le _⟩ dJ3_charAt_1 rfl ?_
  refine go_if_eqF (pc := 4) (tgt := 16) C dJ3_charAt_4 (by decide) (by decide) ?_
  refine go_aload_n (pc := 7) C dJ3_charAt_7 rfl 0 rfl ?_
  refine go_strvalue (pc := 8) C hi q2020 dJ3_charAt_8 ?_
  refine go_iload_n (pc := 11) C dJ3_charAt_11 rfl 1 rfl ?_
  refine go_callSi (pc := 12) C [.ref (Γ.d.2.2.2 i), .int j] (m_J4_charAt hi hj) q596 q597 q148 q598 pd_J4_charAt (by decide) (by decide) rfl (Nat.le_of_ble_eq_true rfl) ⟨Nat.zero_le _, Nat.zero_le _⟩ dJ3_charAt_12 rfl ?_
  exact (hE 0 0 _ _ _ (Nat.zero_le _) (Nat.zero_le _)).2.2.2.2.2.2 _ _ rfl hn9 dJ3_charAt_15 ⟨rfl, rfl⟩

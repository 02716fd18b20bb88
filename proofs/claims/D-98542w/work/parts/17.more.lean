/-! MORE ROWS: System.arraycopy of ints; static methods of a nest mate; lookupswitch -/
set_option maxRecDepth 100000
/-- the places of an arraycopy lie within the two arrays -/
def cpB (sp dp n : Int32) (n0 n1 : Nat) : Bool := decide (0 ≤ sp) && (decide (0 ≤ dp) && (decide (0 ≤ n) && (decide (sp.toNatClampNeg + n.toNatClampNeg ≤ n0) && decide (dp.toNatClampNeg + n.toNatClampNeg ≤ n1))))
theorem cpB_spec {sp dp n : Int32} {n0 n1 : Nat} (h : cpB sp dp n n0 n1 = true) : 0 ≤ sp ∧ 0 ≤ dp ∧ 0 ≤ n ∧ sp.toNatClampNeg + n.toNatClampNeg ≤ n0 ∧ dp.toNatClampNeg + n.toNatClampNeg ≤ n1 := by
  simpa only [cpB, Bool.and_eq_true, decide_eq_true_eq] using h
theorem nfw_copy : nativeFrameWords "java/lang/System" "arraycopy" 5 = 7 := by decide +kernel
section GO
variable {Γ : Gam} {cc : ByteArray} {own : String} {fr : Nat × Nat × Nat} {lo k n pc : Nat} {ws ws' : va_W} {lv : List (Nat × Value)} {st : List Value}
theorem go_copy (C : Cx Γ cc own fr lo) {b0 b1 n0 n1 sp' dp' m' ix : Nat} {f g : Nat → Int32} {sp dp m : Int32} (h0 : hasA ws b0 (Γ.d.2.1 0, n0, .inl f)) (h1 : putA ws b1 (Γ.d.2.1 0, n1, .inl g) (Γ.d.2.1 0, n1, .inl (va_cpy f g sp' dp' m')) ws') (hc : cpB sp dp m n0 n1 = true) (e1 : sp.toNatClampNeg = sp') (e2 : dp.toNatClampNeg = dp') (e3 : m.toNatClampNeg = m') (hw : Cond.methodLink own ix arraycopyName ∈ lw_all) (hf1 : 1 ≤ fr.1) (hl1 : (st.map fun v => v.category).sum + 18 ≤ lo) (hd : decode cc pc = .ok (.invokestatic ix, 3)) (kk : Go Γ k n ws' (pc + 3) lv st) : Go Γ k n ws pc lv (.int m :: .int dp :: .ref b1 :: .int sp :: .ref b0 :: st) := by
  obtain ⟨p, l, e, R, s, mt, args, below, meth, c, nL, d, A, Q⟩ := Γ
  obtain ⟨hx, hb, hml, hown, hts, hlk, hK, hA, hZ, ⟨hfr, hce, hsl⟩, hlo⟩ := C
  intro H locs ls hP hD hS hl
  subst e1; subst e2; subst e3
  obtain ⟨q0, hq0⟩ := h0
  obtain ⟨q1, hq1, hs⟩ := h1
  obtain ⟨c1, c2, c3, c4, c5⟩ := cpB_spec hc
  exact va_copyi hx hb (hml.trans hl.1.symm) hown (hts _ hw) (hts _ q557) (hts _ q556) (hts _ q146) hK hP hD hS q0 q1 0 0 hq0 hq1 rfl rfl rfl (Int32.not_lt.mpr c1) (Int32.not_lt.mpr c2) (Int32.not_lt.mpr c3) c4 c5 (fun _ _ => rfl) (Nat.le_trans hf1 hfr) (by rw [nfw_copy]; exact Nat.le_trans hl1 hlo) hd (fun H1 locs1 hP1 hD1 hS1 => kk H1 locs1 ls (hs ▸ hP1) (hs ▸ hD1) hS1 hl)
theorem go_callSN (C : Cx Γ cc own fr lo) {y : MethodName} {c2 : ByteArray} {nL2 lo2 fr2 ce sl ix nA : Nat} {ret2 : Option FieldType} {As : List Value} {post : Option Value → va_W → Prop} {host : String}
    (hM : Mt Γ.l Γ.d y c2 nL2 ret2 (fr2, ce, sl) lo2 ws As post) (h1 : Cond.methodLinkNest own ix y host ∈ lw_tbl) (h2 : Cond.static y ∈ lw_all) (h4 : Cond.initialized y.cls ∈ lw_all) (h5 : Cond.code y c2 nL2 ret2 ∈ lw_all)
    (hd0 : y.cls ≠ "java/lang/invoke/MethodHandle" ∧ y.cls ≠ "java/lang/invoke/VarHandle" ∧ (parseMethodDescriptor y.desc).map (fun d => d.parameters.length) = some nA) (hfr : fr2 + 1 ≤ fr.1 ∧ 8 + (nL2 + 11) + lo2 ≤ lo) (hn : As.length = nA) (hcat : (st.map fun v => v.category).sum ≤ 8) (hroom : k + ce ≤ fr.2.1 ∧ n + sl ≤ fr.2.2) (hd : decode cc pc = .ok (.invokestatic ix, 3)) {st0 : List Value} (hst : As.reverse ++ st = st0)
    (kk : ∀ (v : Option Value) (ws' : va_W), post v ws' → Go Γ (k + ce) (n + sl) ws' (pc + 3) lv (v.toList ++ st)) : Go Γ k n ws pc lv st0 := by
  subst hst
  refine go_of_run (c2 := c2) (y := y) (as := As) (post := post) C ?_ kk
  obtain ⟨p, l, e, R, s, m, args, below, meth, c, nL, d, A, Q⟩ := Γ
  obtain ⟨hx, hb, hml, hown, hts, hlk, hK, hA, hZ, ⟨hfr0, hce, hsl⟩, hlo⟩ := C
  intro H locs ls hP hD hS hl
  have hF : ∀ q, va_A ws H.size q → A q := by
    intro q h
    rcases h with ⟨j, e9, h⟩ | h
    · exact hD.2 j (q, e9) h
    · exact hA q (Nat.le_trans hS.1 h)
  exact va_runSN (As := As) (rest := st) ⟨hx, hb, hml, hown, hts⟩ (hM H.size) ⟨va_cnB nA hts (lw_meth h5) rfl rfl rfl (hZ.2.2 _ (lw_n h1 rfl)) (hts _ h4) hd0 ⟨Nat.le_trans hfr.1 hfr0, Nat.le_trans hfr.2 hlo⟩, hts _ h2, trivial⟩ ⟨Pc_blind, fun U hU hW => ⟨rfl, by rw [hU], by rw [hU]; exact hP, va_K.moved hW.alike hK, hD.weaken (fun _ _ _ _ => trivial), hZ.at hS hF hU hW⟩⟩ rfl hn hl.1 rfl (lv_room hcat) hd ⟨Nat.le_trans hroom.1 hce, Nat.le_trans hroom.2 hsl⟩
theorem go_callSNi (C : Cx Γ cc own fr lo) {y : MethodName} {c2 : ByteArray} {nL2 lo2 fr2 ix nA : Nat} {ret2 : Option FieldType} (As : List Value) {r : Int32} {host : String}
    (hM : Mt Γ.l Γ.d y c2 nL2 ret2 (fr2, 0, 0) lo2 ws As (fun v w => v = some (.int r) ∧ w = ws')) (h1 : Cond.methodLinkNest own ix y host ∈ lw_tbl) (h2 : Cond.static y ∈ lw_all) (h4 : Cond.initialized y.cls ∈ lw_all) (h5 : Cond.code y c2 nL2 ret2 ∈ lw_all)
    (hd0 : y.cls ≠ "java/lang/invoke/MethodHandle" ∧ y.cls ≠ "java/lang/invoke/VarHandle" ∧ (parseMethodDescriptor y.desc).map (fun d => d.parameters.length) = some nA) (hfr : fr2 + 1 ≤ fr.1) (hlo : 8 + (nL2 + 11) + lo2 ≤ lo) (hn : As.length = nA) (hcat : (st.map fun v => v.category).sum ≤ 8) (hr : k ≤ fr.2.1 ∧ n ≤ fr.2.2) (hd : decode cc pc = .ok (.invokestatic ix, 3)) {st0 : List Value} (hst : As.reverse ++ st = st0)
    (kk : Go Γ k n ws' (pc + 3) lv (.int r :: st)) : Go Γ k n ws pc lv st0 :=
  go_callSN C hM h1 h2 h4 h5 hd0 ⟨hfr, hlo⟩ hn hcat ⟨hr.1, hr.2⟩ hd hst (fun v w hp => by obtain ⟨rfl, rfl⟩ := hp; exact kk)
/-- a lookupswitch: by the offset that it finds -/
theorem go_lookK (C : Cx Γ cc own fr lo) {dflt off : Int} {ps : Array (Int × Int)} {len tgt : Nat} {x z : Int32} (hx9 : x = z) (hd : decode cc pc = .ok (.lookupswitch dflt ps, len)) (hp : (ps.toList.zip (ps.toList.drop 1)).all (fun (a, next) => a.1 < next.1) = true) (ho : Op.lookupswitch.offset ps.toList dflt z.toInt = off) (ht : (pc : Int) + off = (tgt : Int)) (kk : Go Γ k n ws tgt lv st) : Go Γ k n ws pc lv (.int x :: st) := by
  subst hx9
  obtain ⟨p, l, e, R, s, m, args, below, meth, c, nL, d, A, Q⟩ := Γ
  obtain ⟨hx, hb, hml, hown, hts, hlk, hK, hA, hZ, ⟨hfr, hce, hsl⟩, hlo⟩ := C
  intro H locs ls hP hD hS hl
  exact lv_lookup hx hb hd hp ho ht (kk H locs ls hP hD hS hl)
end GO
section GO2
variable {Γ : Gam} {cc : ByteArray} {own : String} {fr : Nat × Nat × Nat} {lo k n pc : Nat} {ws ws' : va_W} {lv : List (Nat × Value)} {st : List Value}
theorem go_mmin (C : Cx Γ cc own fr lo) {ix : Nat} {x y : Int32} (hw : Cond.methodLink own ix Lib.Math.min.name ∈ lw_all) (hf1 : 1 ≤ fr.1) (hl1 : (st.map fun v => v.category).sum + 13 ≤ lo) (hr : k ≤ fr.2.1 ∧ n ≤ fr.2.2) (hd : decode cc pc = .ok (.invokestatic ix, 3)) (kk : Go Γ k n ws (pc + 3) lv (.int (if y < x then y else x) :: st)) : Go Γ k n ws pc lv (.int y :: .int x :: st) := by
  obtain ⟨p, l, e, R, s, mt, args, below, meth, c, nL, d, A, Q⟩ := Γ
  obtain ⟨hx, hb, hml, hown, hts, hlk, hK, hA, hZ, ⟨hfr, hce, hsl⟩, hlo⟩ := C
  intro H locs ls hP hD hS hl
  exact va_mmin hx hb (hml.trans hl.1.symm) hown (hts _ hw) (hts _ q666) (hts _ q151) (hts _ q667) (Nat.le_trans hf1 hfr) (Nat.le_trans hl1 hlo) (Nat.le_trans hr.1 hce) (Nat.le_trans hr.2 hsl) hd (kk H locs ls hP hD hS hl)
theorem go_mmax (C : Cx Γ cc own fr lo) {ix : Nat} {x y : Int32} (hw : Cond.methodLink own ix Lib.Math.max.name ∈ lw_all) (hf1 : 1 ≤ fr.1) (hl1 : (st.map fun v => v.category).sum + 13 ≤ lo) (hr : k ≤ fr.2.1 ∧ n ≤ fr.2.2) (hd : decode cc pc = .ok (.invokestatic ix, 3)) (kk : Go Γ k n ws (pc + 3) lv (.int (if x < y then y else x) :: st)) : Go Γ k n ws pc lv (.int y :: .int x :: st) := by
  obtain ⟨p, l, e, R, s, mt, args, below, meth, c, nL, d, A, Q⟩ := Γ
  obtain ⟨hx, hb, hml, hown, hts, hlk, hK, hA, hZ, ⟨hfr, hce, hsl⟩, hlo⟩ := C
  intro H locs ls hP hD hS hl
  exact va_mmax hx hb (hml.trans hl.1.symm) hown (hts _ hw) (hts _ q669) (hts _ q151) (hts _ q670) (Nat.le_trans hf1 hfr) (Nat.le_trans hl1 hlo) (Nat.le_trans hr.1 hce) (Nat.le_trans hr.2 hsl) hd (kk H locs ls hP hD hS hl)
theorem go_mabs (C : Cx Γ cc own fr lo) {ix : Nat} {x : Int32} (hw : Cond.methodLink own ix Lib.Math.abs.name ∈ lw_all) (hf1 : 1 ≤ fr.1) (hl1 : (st.map fun v => v.category).sum + 13 ≤ lo) (hr : k ≤ fr.2.1 ∧ n ≤ fr.2.2) (hd : decode cc pc = .ok (.invokestatic ix, 3)) (kk : Go Γ k n ws (pc + 3) lv (.int (if 0 ≤ x then x else 0 - x) :: st)) : Go Γ k n ws pc lv (.int x :: st) := by
  obtain ⟨p, l, e, R, s, mt, args, below, meth, c, nL, d, A, Q⟩ := Γ
  obtain ⟨hx, hb, hml, hown, hts, hlk, hK, hA, hZ, ⟨hfr, hce, hsl⟩, hlo⟩ := C
  intro H locs ls hP hD hS hl
  exact va_mabs hx hb (hml.trans hl.1.symm) hown (hts _ hw) (hts _ q1170) (hts _ q151) (hts _ q1171) (Nat.le_trans hf1 hfr) (Nat.le_trans hl1 hlo) (Nat.le_trans hr.1 hce) (Nat.le_trans hr.2 hsl) hd (kk H locs ls hP hD hS hl)
end GO2

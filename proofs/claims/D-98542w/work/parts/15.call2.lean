/-! CALLS whose answer and world are known; arrays at known places; answers of the printed functions -/
set_option maxRecDepth 100000
section GO
variable {Γ : Gam} {cc : ByteArray} {own : String} {fr : Nat × Nat × Nat} {lo k n pc : Nat} {ws ws' : va_W} {lv : List (Nat × Value)} {st : List Value}
theorem go_callVi (C : Cx Γ cc own fr lo) {y : MethodName} {c2 : ByteArray} {nL2 lo2 fr2 ix b ci N nA : Nat} {ret2 : Option FieldType} (As : List Value) {fs : List Value} {r : Int32} {C2 : String} {T : u_T}
    (hM : Mt Γ.l Γ.d y c2 nL2 ret2 (fr2, 0, 0) lo2 ws (.ref b :: As) (fun v w => v = some (.int r) ∧ w = ws')) (h1 : Cond.methodLink own ix y ∈ lw_all) (h2 : Cond.instanceMethod y ∈ lw_all) (h3 : Cond.selects C2 y y ∈ lw_all) (h4 : Cond.initialized C2 ∈ lw_all) (h5 : Cond.code y c2 nL2 ret2 ∈ lw_all)
    (hd0 : y.cls = C2 ∧ y.cls ≠ "java/lang/invoke/MethodHandle" ∧ y.cls ≠ "java/lang/invoke/VarHandle" ∧ (parseMethodDescriptor y.desc).map (fun d => d.parameters.length) = some nA) (hfr : fr2 + 1 ≤ fr.1) (hlo : 8 + (nL2 + 11) + lo2 ≤ lo) (ho : hasO ws b ci fs) (hc : CL[ci]? = some (C2, T, N)) (hn : As.length = nA) (hcat : (st.map fun v => v.category).sum ≤ 8) (hr : k ≤ fr.2.1 ∧ n ≤ fr.2.2) (hd : decode cc pc = .ok (.invokevirtual ix, 3)) {st0 : List Value} (hst : As.reverse ++ .ref b :: st = st0)
    (kk : Go Γ k n ws' (pc + 3) lv (.int r :: st)) : Go Γ k n ws pc lv st0 :=
  go_callV C hM h1 h2 h3 h4 h5 hd0 ⟨hfr, hlo⟩ ho hc hn hcat ⟨hr.1, hr.2⟩ hd hst (fun v w hp => by obtain ⟨rfl, rfl⟩ := hp; exact kk)
theorem go_callSi (C : Cx Γ cc own fr lo) {y : MethodName} {c2 : ByteArray} {nL2 lo2 fr2 ix nA : Nat} {ret2 : Option FieldType} (As : List Value) {r : Int32} 
    (hM : Mt Γ.l Γ.d y c2 nL2 ret2 (fr2, 0, 0) lo2 ws As (fun v w => v = some (.int r) ∧ w = ws')) (h1 : Cond.methodLink own ix y ∈ lw_all) (h2 : Cond.static y ∈ lw_all) (h4 : Cond.initialized y.cls ∈ lw_all) (h5 : Cond.code y c2 nL2 ret2 ∈ lw_all)
    (hd0 : y.cls ≠ "java/lang/invoke/MethodHandle" ∧ y.cls ≠ "java/lang/invoke/VarHandle" ∧ (parseMethodDescriptor y.desc).map (fun d => d.parameters.length) = some nA) (hfr : fr2 + 1 ≤ fr.1) (hlo : 8 + (nL2 + 11) + lo2 ≤ lo) (hn : As.length = nA) (hcat : (st.map fun v => v.category).sum ≤ 8) (hr : k ≤ fr.2.1 ∧ n ≤ fr.2.2) (hd : decode cc pc = .ok (.invokestatic ix, 3)) {st0 : List Value} (hst : As.reverse ++ st = st0)
    (kk : Go Γ k n ws' (pc + 3) lv (.int r :: st)) : Go Γ k n ws pc lv st0 :=
  go_callS C hM h1 h2 h4 h5 hd0 ⟨hfr, hlo⟩ hn hcat ⟨hr.1, hr.2⟩ hd hst (fun v w hp => by obtain ⟨rfl, rfl⟩ := hp; exact kk)
theorem go_callVl (C : Cx Γ cc own fr lo) {y : MethodName} {c2 : ByteArray} {nL2 lo2 fr2 ix b ci N nA : Nat} {ret2 : Option FieldType} (As : List Value) {fs : List Value} {r : Int64} {C2 : String} {T : u_T}
    (hM : Mt Γ.l Γ.d y c2 nL2 ret2 (fr2, 0, 0) lo2 ws (.ref b :: As) (fun v w => v = some (.long r) ∧ w = ws')) (h1 : Cond.methodLink own ix y ∈ lw_all) (h2 : Cond.instanceMethod y ∈ lw_all) (h3 : Cond.selects C2 y y ∈ lw_all) (h4 : Cond.initialized C2 ∈ lw_all) (h5 : Cond.code y c2 nL2 ret2 ∈ lw_all)
    (hd0 : y.cls = C2 ∧ y.cls ≠ "java/lang/invoke/MethodHandle" ∧ y.cls ≠ "java/lang/invoke/VarHandle" ∧ (parseMethodDescriptor y.desc).map (fun d => d.parameters.length) = some nA) (hfr : fr2 + 1 ≤ fr.1) (hlo : 8 + (nL2 + 11) + lo2 ≤ lo) (ho : hasO ws b ci fs) (hc : CL[ci]? = some (C2, T, N)) (hn : As.length = nA) (hcat : (st.map fun v => v.category).sum ≤ 8) (hr : k ≤ fr.2.1 ∧ n ≤ fr.2.2) (hd : decode cc pc = .ok (.invokevirtual ix, 3)) {st0 : List Value} (hst : As.reverse ++ .ref b :: st = st0)
    (kk : Go Γ k n ws' (pc + 3) lv (.long r :: st)) : Go Γ k n ws pc lv st0 :=
  go_callV C hM h1 h2 h3 h4 h5 hd0 ⟨hfr, hlo⟩ ho hc hn hcat ⟨hr.1, hr.2⟩ hd hst (fun v w hp => by obtain ⟨rfl, rfl⟩ := hp; exact kk)
theorem go_callSl (C : Cx Γ cc own fr lo) {y : MethodName} {c2 : ByteArray} {nL2 lo2 fr2 ix nA : Nat} {ret2 : Option FieldType} (As : List Value) {r : Int64} 
    (hM : Mt Γ.l Γ.d y c2 nL2 ret2 (fr2, 0, 0) lo2 ws As (fun v w => v = some (.long r) ∧ w = ws')) (h1 : Cond.methodLink own ix y ∈ lw_all) (h2 : Cond.static y ∈ lw_all) (h4 : Cond.initialized y.cls ∈ lw_all) (h5 : Cond.code y c2 nL2 ret2 ∈ lw_all)
    (hd0 : y.cls ≠ "java/lang/invoke/MethodHandle" ∧ y.cls ≠ "java/lang/invoke/VarHandle" ∧ (parseMethodDescriptor y.desc).map (fun d => d.parameters.length) = some nA) (hfr : fr2 + 1 ≤ fr.1) (hlo : 8 + (nL2 + 11) + lo2 ≤ lo) (hn : As.length = nA) (hcat : (st.map fun v => v.category).sum ≤ 8) (hr : k ≤ fr.2.1 ∧ n ≤ fr.2.2) (hd : decode cc pc = .ok (.invokestatic ix, 3)) {st0 : List Value} (hst : As.reverse ++ st = st0)
    (kk : Go Γ k n ws' (pc + 3) lv (.long r :: st)) : Go Γ k n ws pc lv st0 :=
  go_callS C hM h1 h2 h4 h5 hd0 ⟨hfr, hlo⟩ hn hcat ⟨hr.1, hr.2⟩ hd hst (fun v w hp => by obtain ⟨rfl, rfl⟩ := hp; exact kk)
theorem go_callVv (C : Cx Γ cc own fr lo) {y : MethodName} {c2 : ByteArray} {nL2 lo2 fr2 ix b ci N nA : Nat} {ret2 : Option FieldType} (As : List Value) {fs : List Value} {C2 : String} {T : u_T}
    (hM : Mt Γ.l Γ.d y c2 nL2 ret2 (fr2, 0, 0) lo2 ws (.ref b :: As) (fun v w => v = none ∧ w = ws')) (h1 : Cond.methodLink own ix y ∈ lw_all) (h2 : Cond.instanceMethod y ∈ lw_all) (h3 : Cond.selects C2 y y ∈ lw_all) (h4 : Cond.initialized C2 ∈ lw_all) (h5 : Cond.code y c2 nL2 ret2 ∈ lw_all)
    (hd0 : y.cls = C2 ∧ y.cls ≠ "java/lang/invoke/MethodHandle" ∧ y.cls ≠ "java/lang/invoke/VarHandle" ∧ (parseMethodDescriptor y.desc).map (fun d => d.parameters.length) = some nA) (hfr : fr2 + 1 ≤ fr.1) (hlo : 8 + (nL2 + 11) + lo2 ≤ lo) (ho : hasO ws b ci fs) (hc : CL[ci]? = some (C2, T, N)) (hn : As.length = nA) (hcat : (st.map fun v => v.category).sum ≤ 8) (hr : k ≤ fr.2.1 ∧ n ≤ fr.2.2) (hd : decode cc pc = .ok (.invokevirtual ix, 3)) {st0 : List Value} (hst : As.reverse ++ .ref b :: st = st0)
    (kk : Go Γ k n ws' (pc + 3) lv (st)) : Go Γ k n ws pc lv st0 :=
  go_callV C hM h1 h2 h3 h4 h5 hd0 ⟨hfr, hlo⟩ ho hc hn hcat ⟨hr.1, hr.2⟩ hd hst (fun v w hp => by obtain ⟨rfl, rfl⟩ := hp; exact kk)
theorem go_callSv (C : Cx Γ cc own fr lo) {y : MethodName} {c2 : ByteArray} {nL2 lo2 fr2 ix nA : Nat} {ret2 : Option FieldType} (As : List Value) 
    (hM : Mt Γ.l Γ.d y c2 nL2 ret2 (fr2, 0, 0) lo2 ws As (fun v w => v = none ∧ w = ws')) (h1 : Cond.methodLink own ix y ∈ lw_all) (h2 : Cond.static y ∈ lw_all) (h4 : Cond.initialized y.cls ∈ lw_all) (h5 : Cond.code y c2 nL2 ret2 ∈ lw_all)
    (hd0 : y.cls ≠ "java/lang/invoke/MethodHandle" ∧ y.cls ≠ "java/lang/invoke/VarHandle" ∧ (parseMethodDescriptor y.desc).map (fun d => d.parameters.length) = some nA) (hfr : fr2 + 1 ≤ fr.1) (hlo : 8 + (nL2 + 11) + lo2 ≤ lo) (hn : As.length = nA) (hcat : (st.map fun v => v.category).sum ≤ 8) (hr : k ≤ fr.2.1 ∧ n ≤ fr.2.2) (hd : decode cc pc = .ok (.invokestatic ix, 3)) {st0 : List Value} (hst : As.reverse ++ st = st0)
    (kk : Go Γ k n ws' (pc + 3) lv (st)) : Go Γ k n ws pc lv st0 :=
  go_callS C hM h1 h2 h4 h5 hd0 ⟨hfr, hlo⟩ hn hcat ⟨hr.1, hr.2⟩ hd hst (fun v w hp => by obtain ⟨rfl, rfl⟩ := hp; exact kk)
theorem go_callVa (C : Cx Γ cc own fr lo) {y : MethodName} {c2 : ByteArray} {nL2 lo2 fr2 ix b ci N nA : Nat} {ret2 : Option FieldType} (As : List Value) {fs : List Value} {r : Nat} {C2 : String} {T : u_T}
    (hM : Mt Γ.l Γ.d y c2 nL2 ret2 (fr2, 0, 0) lo2 ws (.ref b :: As) (fun v w => v = some (.ref r) ∧ w = ws')) (h1 : Cond.methodLink own ix y ∈ lw_all) (h2 : Cond.instanceMethod y ∈ lw_all) (h3 : Cond.selects C2 y y ∈ lw_all) (h4 : Cond.initialized C2 ∈ lw_all) (h5 : Cond.code y c2 nL2 ret2 ∈ lw_all)
    (hd0 : y.cls = C2 ∧ y.cls ≠ "java/lang/invoke/MethodHandle" ∧ y.cls ≠ "java/lang/invoke/VarHandle" ∧ (parseMethodDescriptor y.desc).map (fun d => d.parameters.length) = some nA) (hfr : fr2 + 1 ≤ fr.1) (hlo : 8 + (nL2 + 11) + lo2 ≤ lo) (ho : hasO ws b ci fs) (hc : CL[ci]? = some (C2, T, N)) (hn : As.length = nA) (hcat : (st.map fun v => v.category).sum ≤ 8) (hr : k ≤ fr.2.1 ∧ n ≤ fr.2.2) (hd : decode cc pc = .ok (.invokevirtual ix, 3)) {st0 : List Value} (hst : As.reverse ++ .ref b :: st = st0)
    (kk : Go Γ k n ws' (pc + 3) lv (.ref r :: st)) : Go Γ k n ws pc lv st0 :=
  go_callV C hM h1 h2 h3 h4 h5 hd0 ⟨hfr, hlo⟩ ho hc hn hcat ⟨hr.1, hr.2⟩ hd hst (fun v w hp => by obtain ⟨rfl, rfl⟩ := hp; exact kk)
theorem go_callSa (C : Cx Γ cc own fr lo) {y : MethodName} {c2 : ByteArray} {nL2 lo2 fr2 ix nA : Nat} {ret2 : Option FieldType} (As : List Value) {r : Nat} 
    (hM : Mt Γ.l Γ.d y c2 nL2 ret2 (fr2, 0, 0) lo2 ws As (fun v w => v = some (.ref r) ∧ w = ws')) (h1 : Cond.methodLink own ix y ∈ lw_all) (h2 : Cond.static y ∈ lw_all) (h4 : Cond.initialized y.cls ∈ lw_all) (h5 : Cond.code y c2 nL2 ret2 ∈ lw_all)
    (hd0 : y.cls ≠ "java/lang/invoke/MethodHandle" ∧ y.cls ≠ "java/lang/invoke/VarHandle" ∧ (parseMethodDescriptor y.desc).map (fun d => d.parameters.length) = some nA) (hfr : fr2 + 1 ≤ fr.1) (hlo : 8 + (nL2 + 11) + lo2 ≤ lo) (hn : As.length = nA) (hcat : (st.map fun v => v.category).sum ≤ 8) (hr : k ≤ fr.2.1 ∧ n ≤ fr.2.2) (hd : decode cc pc = .ok (.invokestatic ix, 3)) {st0 : List Value} (hst : As.reverse ++ st = st0)
    (kk : Go Γ k n ws' (pc + 3) lv (.ref r :: st)) : Go Γ k n ws pc lv st0 :=
  go_callS C hM h1 h2 h4 h5 hd0 ⟨hfr, hlo⟩ hn hcat ⟨hr.1, hr.2⟩ hd hst (fun v w hp => by obtain ⟨rfl, rfl⟩ := hp; exact kk)
theorem go_ialdK (C : Cx Γ cc own fr lo) {b N j : Nat} {f : Nat → Int32} (ha : hasA ws b (Γ.d.2.1 0, N, .inl f)) {i : Int32} (hin : inB i N = true) (hj : i.toNatClampNeg = j) (hd : decode cc pc = .ok (.iaload, 1)) (kk : Go Γ k n ws (pc + 1) lv (.int (f j) :: st)) : Go Γ k n ws pc lv (.int i :: .ref b :: st) := by
  subst hj
  exact go_iald (X := some ()) (r := ()) C ha (by rw [hin]; rfl) hd (fun _ => kk)
theorem go_laldK (C : Cx Γ cc own fr lo) {b N j : Nat} {f : Nat → Int64} (ha : hasA ws b (Γ.d.2.1 3, N, .inr (.inl f))) {i : Int32} (hin : inB i N = true) (hj : i.toNatClampNeg = j) (hd : decode cc pc = .ok (.laload, 1)) (kk : Go Γ k n ws (pc + 1) lv (.long (f j) :: st)) : Go Γ k n ws pc lv (.int i :: .ref b :: st) := by
  subst hj
  exact go_lald (X := some ()) (r := ()) C ha (by rw [hin]; rfl) hd (fun _ => kk)
theorem go_iastK (C : Cx Γ cc own fr lo) {b N j : Nat} {f : Nat → Int32} {i x : Int32} (ha : putA ws b (Γ.d.2.1 0, N, .inl f) (Γ.d.2.1 0, N, .inl (upd f j x)) ws') (hin : inB i N = true) (hj : i.toNatClampNeg = j) (hd : decode cc pc = .ok (.iastore, 1)) (kk : Go Γ k n ws' (pc + 1) lv st) : Go Γ k n ws pc lv (.int x :: .int i :: .ref b :: st) := by
  subst hj
  exact go_iast (X := some ()) (r := ()) C ha (by rw [hin]; rfl) hd (fun _ => kk)
theorem go_lastK (C : Cx Γ cc own fr lo) {b N j : Nat} {f : Nat → Int64} {i : Int32} {x : Int64} (ha : putA ws b (Γ.d.2.1 3, N, .inr (.inl f)) (Γ.d.2.1 3, N, .inr (.inl (vp_updL f j x))) ws') (hin : inB i N = true) (hj : i.toNatClampNeg = j) (hd : decode cc pc = .ok (.lastore, 1)) (kk : Go Γ k n ws' (pc + 1) lv st) : Go Γ k n ws pc lv (.long x :: .int i :: .ref b :: st) := by
  subst hj
  exact go_last (X := some ()) (r := ()) C ha (by rw [hin]; rfl) hd (fun _ => kk)
/-- a tableswitch: the case x = z -/
theorem go_tableK (C : Cx Γ cc own fr lo) {dflt lw hi off : Int} {offs : Array Int} {len tgt : Nat} {x z : Int32} (hx9 : x = z) (hd : decode cc pc = .ok (.tableswitch dflt lw hi offs, len)) (h1 : ¬ z.toInt < lw) (h2 : ¬ hi < z.toInt) (ho : offs[(z.toInt - lw).toNat]? = some off) (ht : (pc : Int) + off = (tgt : Int)) (kk : Go Γ k n ws tgt lv st) : Go Γ k n ws pc lv (.int x :: st) := by
  subst hx9
  obtain ⟨p, l, e, R, s, m, args, below, meth, c, nL, d, A, Q⟩ := Γ
  obtain ⟨hx, hb, hml, hown, hts, hlk, hK, hA, hZ, ⟨hfr, hce, hsl⟩, hlo⟩ := C
  intro H locs ls hP hD hS hl
  exact lv_tableIn hx hb hd h1 h2 ho ht (kk H locs ls hP hD hS hl)
/-- a tableswitch: none of the cases zs -/
theorem go_tableD (C : Cx Γ cc own fr lo) {dflt lw hi : Int} {offs : Array Int} {len tgt : Nat} {x : Int32} (zs : List Int32) (hz : ∀ z ∈ zs, ¬ x = z) (hd : decode cc pc = .ok (.tableswitch dflt lw hi offs, len)) (hsz : (hi - lw + 1).toNat = offs.size) (ho : (List.range offs.size).all (fun i => offs[i]? == some dflt || (decide (Int32.ofInt (lw + i) ∈ zs) && true)) = true) (hlo : -2147483648 ≤ lw) (hhi : hi < 2147483648) (ht : (pc : Int) + dflt = (tgt : Int)) (kk : Go Γ k n ws tgt lv st) : Go Γ k n ws pc lv (.int x :: st) := by
  obtain ⟨p, l, e, R, s, m, args, below, meth, c, nL, d, A, Q⟩ := Γ
  obtain ⟨hx, hb, hml, hown, hts, hlk, hK, hA, hZ, ⟨hfr, hce, hsl⟩, hlo9⟩ := C
  intro H locs ls hP hD hS hl
  by_cases h1 : x.toInt < lw
  · exact lv_tableOut hx hb hd (Or.inl h1) ht (kk H locs ls hP hD hS hl)
  by_cases h2 : hi < x.toInt
  · exact lv_tableOut hx hb hd (Or.inr h2) ht (kk H locs ls hP hD hS hl)
  have hi9 : (x.toInt - lw).toNat < offs.size := by rw [← hsz]; omega
  have h3 := List.all_eq_true.mp ho _ (List.mem_range.mpr hi9)
  rw [Bool.or_eq_true] at h3
  rcases h3 with h3 | h3
  · exact lv_tableIn hx hb hd h1 h2 (by simpa using h3) ht (kk H locs ls hP hD hS hl)
  · exfalso
    simp only [Bool.and_true, decide_eq_true_eq] at h3
    refine hz _ h3 ?_
    have e : lw + ((x.toInt - lw).toNat : Int) = x.toInt := by omega
    rw [e, Int32.ofInt_toInt]
end GO
/-- 0 or 1 -/
def isB (r : Int32) : Bool := decide (r = 0 ∨ r = 1)
theorem isB_or {r : Int32} (h : isB r = true) : r = 0 ∨ r = 1 := of_decide_eq_true h
theorem isB_n {r : Int32} (h : isB r = true) : narrow .boolean (.int r) = .int r := by
  rcases isB_or h with rfl | rfl <;> rfl
theorem some1 {α : Type} {a b : α} (h : some a = some b) : a = b := Option.some.inj h
theorem some2 {α β : Type} {a b : α} {c d : β} (h : some (a, c) = some (b, d)) : a = b ∧ c = d := by
  cases h; exact ⟨rfl, rfl⟩
theorem isB_f {r : Int32} (h : isB r = true) : fits .boolean (.int r) = true := by
  rcases isB_or h with rfl | rfl <;> rfl
/-- a value by a name -/
def ltv {α β : Type} (x : α) (f : α → Option β) : Option β := f x
theorem ltv_eq {α β : Type} {x y : α} {f : α → Option β} {r : β} (e : y = x) (h : ltv x f = some r) : f y = some r := by
  subst e; exact h
theorem go_topi {Γ : Gam} {k n pc : Nat} {ws : va_W} {lv : List (Nat × Value)} {st : List Value} {x : Int32} (kk : ∀ y : Int32, y = x → Go Γ k n ws pc lv (.int y :: st)) : Go Γ k n ws pc lv (.int x :: st) := kk x rfl
theorem go_topl {Γ : Gam} {k n pc : Nat} {ws : va_W} {lv : List (Nat × Value)} {st : List Value} {x : Int64} (kk : ∀ y : Int64, y = x → Go Γ k n ws pc lv (.long y :: st)) : Go Γ k n ws pc lv (.long x :: st) := kk x rfl
theorem go_nm {α : Type} {Γ : Gam} {k n pc : Nat} (W : α → va_W) {lv : List (Nat × Value)} {st : List Value} {x : α} (kk : ∀ y : α, y = x → Go Γ k n (W y) pc lv st) : Go Γ k n (W x) pc lv st := kk x rfl

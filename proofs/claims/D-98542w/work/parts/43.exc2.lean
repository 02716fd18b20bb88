/-! METHODS THAT RETURN OR THROW THE FAULT: contracts, calls, ends -/
set_option maxRecDepth 100000
def FLT : String := "PartyRaft$Fault"
def MtX (l : Launch) (d : gD) (y : MethodName) (c : ByteArray) (nL : Nat) (ret : Option FieldType) (fr : Nat × Nat × Nat) (lo : Nat) (ws : va_W) (as : List Value) (post : Option Value → va_W → Prop) (postX : va_W → Prop) : Prop :=
  ∀ sz : Nat, vx_Met l y (ws_ y c nL ret) ({ frames := fr.1, cells := fr.2.1, slots := fr.2.2, locals := lo } : Room) (va_Pc as (fun U => U.heap.size = sz ∧ va_P d.1 CL ws U.heap ∧ va_K d.1 CL (gTy d) U ∧ va_D (fun _ => True) ws ∧ ZZ d (va_A ws sz) U))
    (fun _ st oc t => ∃ (v : Option Value) (ws' : va_W), oc = .returned v ∧ post v ws' ∧ va_P d.1 CL ws' t.heap ∧ va_D (va_A ws sz) ws' ∧ va_F (va_A ws sz) st t)
    (fun E st t => E = FLT ∧ ∃ ws' : va_W, postX ws' ∧ va_P d.1 CL ws' t.heap ∧ va_D (va_A ws sz) ws' ∧ va_F (va_A ws sz) st t) fr.2.1 fr.2.2 (va_A ws sz)
/-- the fault is on its way out of the frame -/
def GoX : Gam → Nat → Nat → va_W → Nat → List (Nat × Value) → List Value → Prop
  | (p, l, e, R, s, m, args, below, meth, c, nL, d, A, Q), k, n, ws, pc, lv, st =>
    ∀ (H : Heap) (locs : List Loc) (ls : Array Slot) (q : Addr) (ce : Cell), va_P d.1 CL ws H → va_D A ws → va_S A s.heap H locs → lv_has ls nL lv → H[q]? = some ce → ce.vm = .none → s.vm.findClass FLT = some ce.cls → vx_W p l e R s m args below meth c H locs k n Q (F0 m pc ls st) q
theorem MtX.of {l : Launch} {d : gD} {y : MethodName} {cc : ByteArray} {nL : Nat} {ret : Option FieldType} {fr : Nat × Nat × Nat} {lo : Nat} {ws : va_W} {as : List Value} {post : Option Value → va_W → Prop} {postX : va_W → Prop} (hy : plainName y.cls = true) (has : (lg_sl as).length ≤ nL)
    (body : ∀ Γ : Gam, Γ.l = l → Γ.d = d → Γ.nL = nL → Cx Γ cc y.cls fr lo → Rets Γ cc ret fr.2.1 fr.2.2 post → (∀ (k n : Nat) (ws' : va_W) (pc : Nat) (lv : List (Nat × Value)) (st : List Value), k ≤ fr.2.1 → n ≤ fr.2.2 → postX ws' → GoX Γ k n ws' pc lv st) → Go Γ 0 0 ws 0 (lv_args 0 as) []) : MtX l d y cc nL ret fr lo ws as post postX := by
  intro sz
  refine vx_ofW (cc := cc) (maxL := nL) (ret := ret) hy rfl ?_
  intro p e s m args below meth c s₁ B hml hex hv
  obtain ⟨rfl, hsz, hP, hK, hD0, hZ⟩ := hv
  have hts := atoms_spec (ws := ws_ y cc nL ret) B.pre
  have hts : ∀ w ∈ lw_all, w.before _ s = true := fun w h => hts w (List.mem_cons_of_mem _ h)
  have hown : s.vm.findClass y.cls = some m.cls := findClass_of_methodNamed B.named
  have hlk := B.notSynchronized
  have hD := hD0.self (sz := s.heap.size)
  subst hsz
  have hl := lv_entry as (n := nL) has
  rw [lg_entry_eq]
  refine body (p, l, e, _, s, m, as.toArray, below, meth, c, nL, d, va_A ws s.heap.size, _) rfl rfl rfl ⟨B.exec, B.bytes, hml, hown, hts, hlk, hK, fun q h => Or.inr h, hZ, ⟨Nat.le_refl _, Nat.le_refl _, Nat.le_refl _⟩, Nat.le_refl _⟩ ?_ ?_ s.heap [] _ hP hD va_S.rf hl
  · intro k n ws' pc lv hk hn
    refine ⟨fun r hr hd hp => ?_, fun r hr hz hd hp => ?_, fun r hr hd hp => ?_, fun hr hd hp => ?_, fun a C hr hd hp => ?_, fun a t hr hd hp => ?_, fun r ty hr hz hd hp => ?_⟩
    · intro H locs ls hP hD hS hl
      refine W.widen hk hn (vx_ret ?_)
      subst hr
      exact W.iret B.exec B.bytes B.returns (fun t ht hW => ⟨_, ws', rfl, hp, by rw [ht]; exact hP, hD, hS.F ht⟩) hS.2.2 hd
    · intro H locs ls hP hD hS hl
      refine W.widen hk hn (vx_ret ?_)
      subst hr
      exact W.zret (ty := .boolean) B.exec B.bytes B.returns (by rcases hz with rfl | rfl <;> rfl) (fun t ht hW => ⟨_, ws', rfl, hp, by rw [ht]; exact hP, hD, hS.F ht⟩) hS.2.2 hd
    · intro H locs ls hP hD hS hl
      refine W.widen hk hn (vx_ret ?_)
      subst hr
      exact W.lret B.exec B.bytes B.returns (fun t ht hW => ⟨_, ws', rfl, hp, by rw [ht]; exact hP, hD, hS.F ht⟩) hS.2.2 hd
    · intro H locs ls hP hD hS hl
      refine W.widen hk hn (vx_ret ?_)
      subst hr
      exact W.vret B.exec B.bytes B.returns (fun t ht hW => ⟨_, ws', rfl, hp, by rw [ht]; exact hP, hD, hS.F ht⟩) hS.2.2 hd
    · intro H locs ls hP hD hS hl
      refine W.widen hk hn (vx_ret ?_)
      subst hr
      exact W.aret B.exec B.bytes B.returns (Or.inl ⟨_, rfl⟩) (Or.inr ⟨_, rfl⟩) (fun t ht hW => ⟨_, ws', rfl, hp, by rw [ht]; exact hP, hD, hS.F ht⟩) hS.2.2 hd
    · intro H locs ls hP hD hS hl
      refine W.widen hk hn (vx_ret ?_)
      subst hr
      exact W.aret B.exec B.bytes B.returns (Or.inr ⟨_, rfl⟩) (Or.inr ⟨_, rfl⟩) (fun t ht hW => ⟨_, ws', rfl, hp, by rw [ht]; exact hP, hD, hS.F ht⟩) hS.2.2 hd
    · intro H locs ls hP hD hS hl
      refine W.widen hk hn (vx_ret ?_)
      subst hr
      exact W.zret (ty := ty) B.exec B.bytes B.returns hz (fun t ht hW => ⟨_, ws', rfl, hp, by rw [ht]; exact hP, hD, hS.F ht⟩) hS.2.2 hd
  · intro k n ws' pc lv st hk hn hp H locs ls q ce hP hD hS hl hq hv hcl
    exact vx_out (E := FLT) (fun x hx => (hex x hx).elim) hlk hq hv hcl (fun t ht hW => ⟨rfl, ws', hp, by rw [ht]; exact hP, hD, hS.F ht⟩) hS.2.2 hk hn
section GO
variable {Γ : Gam} {cc : ByteArray} {own : String} {fr : Nat × Nat × Nat} {lo k n pc : Nat} {ws ws' : va_W} {lv : List (Nat × Value)} {st : List Value}
theorem go_of_runX {as : List Value} {post : Option Value → va_W → Prop} {postX : va_W → Prop} {ce sl : Nat} {st0 : List Value} (C : Cx Γ cc own fr lo)
    (hr : ∀ (H : Heap) (locs : List Loc) (ls : Array Slot), va_P Γ.d.1 CL ws H → va_D Γ.2.2.2.2.2.2.2.2.2.2.2.2.1 ws → va_S Γ.2.2.2.2.2.2.2.2.2.2.2.2.1 Γ.2.2.2.2.1.heap H locs → lv_has ls Γ.nL lv →
      vx_Run Γ.1 Γ.l Γ.2.2.1 Γ.2.2.2.1 Γ.2.2.2.2.1 Γ.2.2.2.2.2.1 Γ.2.2.2.2.2.2.1 Γ.2.2.2.2.2.2.2.1 Γ.2.2.2.2.2.2.2.2.1 Γ.2.2.2.2.2.2.2.2.2.1 H locs k n ce sl (F0 Γ.2.2.2.2.2.1 pc ls st0) st (fun st oc t => ∃ (v : Option Value) (ws' : va_W), oc = .returned v ∧ post v ws' ∧ va_P Γ.d.1 CL ws' t.heap ∧ va_D (va_A ws H.size) ws' ∧ va_F (va_A ws H.size) st t)
        (fun E st t => E = FLT ∧ ∃ ws' : va_W, postX ws' ∧ va_P Γ.d.1 CL ws' t.heap ∧ va_D (va_A ws H.size) ws' ∧ va_F (va_A ws H.size) st t) (va_A ws H.size))
    (kk : ∀ (v : Option Value) (ws' : va_W), post v ws' → Go Γ (k + ce) (n + sl) ws' (pc + 3) lv (v.toList ++ st)) (kx : ∀ ws' : va_W, postX ws' → GoX Γ (k + ce) (n + sl) ws' pc lv st) : Go Γ k n ws pc lv st0 := by
  obtain ⟨p, l, e, R, s, m, args, below, meth, c, nL, d, A, Q⟩ := Γ
  obtain ⟨hx, hb, hml, hown, hts, hlk, hK, hA, hZ, ⟨hfr, hce, hsl⟩, hlo⟩ := C
  intro H locs ls hP hD hS hl
  have hF : ∀ q, va_A ws H.size q → A q := by
    intro q h
    rcases h with ⟨j, e9, h⟩ | h
    · exact hD.2 j (q, e9) h
    · exact hA q (Nat.le_trans hS.1 h)
  intro T hT X
  rcases hr H locs ls hP hD hS hl T hT X with ⟨v, st₀, t, T', L, h0, X', hL, e1, e2, ⟨v', ws', hv, hp, hP1, hD1, hz, hk⟩, stp⟩ | ⟨q, st₀, t, T', L, E, ce9, h0, X', hL, e1, e2, ⟨hE, ws', hp, hP1, hD1, hz, hk⟩, hq, hqv, hqc, stp⟩
  · cases hv
    rw [h0] at hz hk
    obtain ⟨t2, a1, b1⟩ := kk v ws' hp T'.heap (locs ++ L) ls (by rw [e1]; exact hP1) (hD1.weaken (fun _ q _ h => hF q.1 h))
      ⟨Nat.le_trans hS.1 (by rw [e1]; exact hz), fun q h1 h2 => by rw [e1, hk q (Nat.lt_of_lt_of_le h1 hS.1) (fun z => h2 (hF q z))]; exact hS.2.1 q h1 h2, fun q hq => by
        rcases List.mem_append.mp hq with h | h
        · exact hS.2.2 q h
        · exact hF _ (hL q h)⟩ hl T' rfl X'
    exact ⟨t2, stp t2 a1, b1⟩
  · rw [h0] at hz hk
    obtain ⟨t2, a1, b1⟩ := kx ws' hp T'.heap (locs ++ L) ls q ce9 (by rw [e1]; exact hP1) (hD1.weaken (fun _ q _ h => hF q.1 h))
      ⟨Nat.le_trans hS.1 (by rw [e1]; exact hz), fun q h1 h2 => by rw [e1, hk q (Nat.lt_of_lt_of_le h1 hS.1) (fun z => h2 (hF q z))]; exact hS.2.1 q h1 h2, fun q hq => by
        rcases List.mem_append.mp hq with h | h
        · exact hS.2.2 q h
        · exact hF _ (hL q h)⟩ hl (by rw [e1]; exact hq) hqv (by rw [← hE]; exact hqc) T' rfl X'
    exact ⟨t2, stp.trans a1, b1⟩
theorem go_callVX (C : Cx Γ cc own fr lo) {y : MethodName} {c2 : ByteArray} {nL2 lo2 fr2 ce sl ix b ci N nA : Nat} {ret2 : Option FieldType} (As : List Value) {fs : List Value} {post : Option Value → va_W → Prop} {postX : va_W → Prop} {C2 : String} {T : u_T}
    (hM : MtX Γ.l Γ.d y c2 nL2 ret2 (fr2, ce, sl) lo2 ws (.ref b :: As) post postX) (h1 : Cond.methodLink own ix y ∈ lw_all) (h2 : Cond.instanceMethod y ∈ lw_all) (h3 : Cond.selects C2 y y ∈ lw_all) (h4 : Cond.initialized C2 ∈ lw_all) (h5 : Cond.code y c2 nL2 ret2 ∈ lw_all)
    (hd0 : y.cls = C2 ∧ y.cls ≠ "java/lang/invoke/MethodHandle" ∧ y.cls ≠ "java/lang/invoke/VarHandle" ∧ (parseMethodDescriptor y.desc).map (fun d => d.parameters.length) = some nA) (hfr : fr2 + 1 ≤ fr.1) (hlo : 8 + (nL2 + 11) + lo2 ≤ lo) (ho : hasO ws b ci fs) (hc : CL[ci]? = some (C2, T, N)) (hn : As.length = nA) (hcat : (st.map fun v => v.category).sum ≤ 8) (hroom : k + ce ≤ fr.2.1 ∧ n + sl ≤ fr.2.2) (hd : decode cc pc = .ok (.invokevirtual ix, 3)) {st0 : List Value} (hst : As.reverse ++ .ref b :: st = st0)
    (kk : ∀ (v : Option Value) (ws' : va_W), post v ws' → Go Γ (k + ce) (n + sl) ws' (pc + 3) lv (v.toList ++ st)) (kx : ∀ ws' : va_W, postX ws' → GoX Γ (k + ce) (n + sl) ws' pc lv st) : Go Γ k n ws pc lv st0 := by
  subst hst
  refine go_of_runX (as := .ref b :: As) (post := post) (postX := postX) C ?_ kk kx
  obtain ⟨p, l, e, R, s, m, args, below, meth, c, nL, d, A, Q⟩ := Γ
  obtain ⟨hx, hb, hml, hown, hts, hlk, hK, hA, hZ, ⟨hfr0, hce, hsl⟩, hlo0⟩ := C
  intro H locs ls hP hD hS hl
  obtain ⟨q, hq⟩ := ho
  have hF : ∀ q, va_A ws H.size q → A q := by
    intro q h
    rcases h with ⟨j, e9, h⟩ | h
    · exact hD.2 j (q, e9) h
    · exact hA q (Nat.le_trans hS.1 h)
  exact vx_runV (As := As) (rest := st) ⟨hx, hb, hml, hown, hts⟩ (hM H.size) (cwV nA hts (lw_V h1 h2 h3 h4 h5) rfl rfl rfl hd0 ⟨Nat.le_trans hfr hfr0, Nat.le_trans hlo hlo0⟩) ⟨Pc_blind, va_recv hK hP hc hq, fun U hU hW => ⟨rfl, by rw [hU], by rw [hU]; exact hP, va_K.moved hW.alike hK, hD.weaken (fun _ _ _ _ => trivial), hZ.at hS hF hU hW⟩⟩ rfl hn hl.1 rfl (lv_room hcat) hd ⟨Nat.le_trans hroom.1 hce, Nat.le_trans hroom.2 hsl⟩
theorem go_athrow (C : Cx Γ cc own fr lo) {b ci N : Nat} {fs : List Value} {T : u_T} (ho : hasO ws b ci fs) (hc : CL[ci]? = some (FLT, T, N)) (hd : decode cc pc = .ok (.athrow, 1)) (kk : GoX Γ k n ws pc lv st) : Go Γ k n ws pc lv (.ref b :: st) := by
  obtain ⟨p, l, e, R, s, m, args, below, meth, c, nL, d, A, Q⟩ := Γ
  obtain ⟨hx, hb, hml, hown, hts, hlk, hK, hA, hZ, ⟨hfr0, hce, hsl⟩, hlo0⟩ := C
  intro H locs ls hP hD hS hl
  obtain ⟨q, hq⟩ := ho
  obtain ⟨r, h1, cell, q1, q2, q3, q4⟩ := hP q _ hq
  have hr : r = (FLT, T, N) := Option.some.inj (h1.symm.trans hc)
  subst hr
  obtain ⟨hS9, hfc, kC, hkC, hkind⟩ := hK.1 ci _ hc
  exact vx_athrow hx hb hd (kk H locs ls b cell hP hD hS hl q1 q3 (by rw [q2]; exact hfc))
end GO
/-- an answer, or the fault: the first goes on -/
def bndX {ξ α β : Type} (x : Option (ξ ⊕ α)) (f : α → Option (ξ ⊕ β)) : Option (ξ ⊕ β) := match x with
  | some (.inr a) => f a
  | some (.inl z) => some (.inl z)
  | none => none
theorem bndX_some {ξ α β : Type} {x : Option (ξ ⊕ α)} {f : α → Option (ξ ⊕ β)} {r : ξ ⊕ β} (h : bndX x f = some r) : ∃ r1, x = some r1 ∧ (∀ a, r1 = .inr a → f a = some r) ∧ ∀ z, r1 = .inl z → r = .inl z := by
  match x, h with
  | some (.inr a), h => exact ⟨_, rfl, fun a' e => by cases e; exact h, fun z e => by cases e⟩
  | some (.inl z), h => exact ⟨_, rfl, fun a' e => (by cases e), fun z' e => by cases e; cases h; rfl⟩
def bndX2 {ξ α σ β : Type} (x : Option (ξ ⊕ (α × σ))) (f : α → σ → Option (ξ ⊕ β)) : Option (ξ ⊕ β) := bndX x (fun p => f p.1 p.2)
theorem bndX2_some {ξ α σ β : Type} {x : Option (ξ ⊕ (α × σ))} {f : α → σ → Option (ξ ⊕ β)} {r : ξ ⊕ β} (h : bndX2 x f = some r) : ∃ r1, x = some r1 ∧ (∀ a s, r1 = .inr (a, s) → f a s = some r) ∧ ∀ z, r1 = .inl z → r = .inl z := by
  obtain ⟨r1, h1, h2, h3⟩ := bndX_some h
  exact ⟨r1, h1, fun a s e => h2 _ e, h3⟩
section GO
variable {Γ : Gam} {cc : ByteArray} {own : String} {fr : Nat × Nat × Nat} {lo k n pc : Nat} {ws ws' : va_W} {lv : List (Nat × Value)} {st : List Value}
theorem go_callVXi (C : Cx Γ cc own fr lo) {y : MethodName} {c2 : ByteArray} {nL2 lo2 fr2 ix b ci N nA : Nat} {ret2 : Option FieldType} (As : List Value) {fs : List Value} {P : Int32 → (Nat → Bl) → Prop} {PX : (Nat → Bl) → Prop} {W : (Nat → Bl) → va_W} {C2 : String} {T : u_T}
    (hM : MtX Γ.l Γ.d y c2 nL2 ret2 (fr2, 0, 0) lo2 ws (.ref b :: As) (fun v w => ∃ (a : Int32) (s9 : Nat → Bl), P a s9 ∧ v = some (.int a) ∧ w = W s9) (fun w => ∃ s9 : Nat → Bl, PX s9 ∧ w = W s9)) (h1 : Cond.methodLink own ix y ∈ lw_all) (h2 : Cond.instanceMethod y ∈ lw_all) (h3 : Cond.selects C2 y y ∈ lw_all) (h4 : Cond.initialized C2 ∈ lw_all) (h5 : Cond.code y c2 nL2 ret2 ∈ lw_all)
    (hd0 : y.cls = C2 ∧ y.cls ≠ "java/lang/invoke/MethodHandle" ∧ y.cls ≠ "java/lang/invoke/VarHandle" ∧ (parseMethodDescriptor y.desc).map (fun d => d.parameters.length) = some nA) (hfr : fr2 + 1 ≤ fr.1) (hlo : 8 + (nL2 + 11) + lo2 ≤ lo) (ho : hasO ws b ci fs) (hc : CL[ci]? = some (C2, T, N)) (hn : As.length = nA) (hcat : (st.map fun v => v.category).sum ≤ 8) (hr : k ≤ fr.2.1 ∧ n ≤ fr.2.2) (hd : decode cc pc = .ok (.invokevirtual ix, 3)) {st0 : List Value} (hst : As.reverse ++ .ref b :: st = st0)
    (kk : ∀ (a : Int32) (s9 : Nat → Bl), P a s9 → Go Γ k n (W s9) (pc + 3) lv (.int a :: st)) (kx : ∀ s9 : Nat → Bl, PX s9 → GoX Γ k n (W s9) pc lv st) : Go Γ k n ws pc lv st0 :=
  go_callVX C As hM h1 h2 h3 h4 h5 hd0 hfr hlo ho hc hn hcat ⟨hr.1, hr.2⟩ hd hst (fun v w hp => by obtain ⟨a, s9, g1, rfl, rfl⟩ := hp; exact kk a s9 g1) (fun w hp => by obtain ⟨s9, g1, rfl⟩ := hp; exact kx s9 g1)
theorem go_callVXv (C : Cx Γ cc own fr lo) {y : MethodName} {c2 : ByteArray} {nL2 lo2 fr2 ix b ci N nA : Nat} {ret2 : Option FieldType} (As : List Value) {fs : List Value} {P : (Nat → Bl) → Prop} {PX : (Nat → Bl) → Prop} {W : (Nat → Bl) → va_W} {C2 : String} {T : u_T}
    (hM : MtX Γ.l Γ.d y c2 nL2 ret2 (fr2, 0, 0) lo2 ws (.ref b :: As) (fun v w => ∃ (s9 : Nat → Bl), P s9 ∧ v = none ∧ w = W s9) (fun w => ∃ s9 : Nat → Bl, PX s9 ∧ w = W s9)) (h1 : Cond.methodLink own ix y ∈ lw_all) (h2 : Cond.instanceMethod y ∈ lw_all) (h3 : Cond.selects C2 y y ∈ lw_all) (h4 : Cond.initialized C2 ∈ lw_all) (h5 : Cond.code y c2 nL2 ret2 ∈ lw_all)
    (hd0 : y.cls = C2 ∧ y.cls ≠ "java/lang/invoke/MethodHandle" ∧ y.cls ≠ "java/lang/invoke/VarHandle" ∧ (parseMethodDescriptor y.desc).map (fun d => d.parameters.length) = some nA) (hfr : fr2 + 1 ≤ fr.1) (hlo : 8 + (nL2 + 11) + lo2 ≤ lo) (ho : hasO ws b ci fs) (hc : CL[ci]? = some (C2, T, N)) (hn : As.length = nA) (hcat : (st.map fun v => v.category).sum ≤ 8) (hr : k ≤ fr.2.1 ∧ n ≤ fr.2.2) (hd : decode cc pc = .ok (.invokevirtual ix, 3)) {st0 : List Value} (hst : As.reverse ++ .ref b :: st = st0)
    (kk : ∀ (s9 : Nat → Bl), P s9 → Go Γ k n (W s9) (pc + 3) lv (st)) (kx : ∀ s9 : Nat → Bl, PX s9 → GoX Γ k n (W s9) pc lv st) : Go Γ k n ws pc lv st0 :=
  go_callVX C As hM h1 h2 h3 h4 h5 hd0 hfr hlo ho hc hn hcat ⟨hr.1, hr.2⟩ hd hst (fun v w hp => by obtain ⟨s9, g1, rfl, rfl⟩ := hp; exact kk s9 g1) (fun w hp => by obtain ⟨s9, g1, rfl⟩ := hp; exact kx s9 g1)
theorem go_callVXa (C : Cx Γ cc own fr lo) {y : MethodName} {c2 : ByteArray} {nL2 lo2 fr2 ix b ci N nA : Nat} {ret2 : Option FieldType} (As : List Value) {fs : List Value} {rr : Nat} {P : (Nat → Bl) → Prop} {PX : (Nat → Bl) → Prop} {W : (Nat → Bl) → va_W} {C2 : String} {T : u_T}
    (hM : MtX Γ.l Γ.d y c2 nL2 ret2 (fr2, 0, 0) lo2 ws (.ref b :: As) (fun v w => ∃ (s9 : Nat → Bl), P s9 ∧ v = some (.ref rr) ∧ w = W s9) (fun w => ∃ s9 : Nat → Bl, PX s9 ∧ w = W s9)) (h1 : Cond.methodLink own ix y ∈ lw_all) (h2 : Cond.instanceMethod y ∈ lw_all) (h3 : Cond.selects C2 y y ∈ lw_all) (h4 : Cond.initialized C2 ∈ lw_all) (h5 : Cond.code y c2 nL2 ret2 ∈ lw_all)
    (hd0 : y.cls = C2 ∧ y.cls ≠ "java/lang/invoke/MethodHandle" ∧ y.cls ≠ "java/lang/invoke/VarHandle" ∧ (parseMethodDescriptor y.desc).map (fun d => d.parameters.length) = some nA) (hfr : fr2 + 1 ≤ fr.1) (hlo : 8 + (nL2 + 11) + lo2 ≤ lo) (ho : hasO ws b ci fs) (hc : CL[ci]? = some (C2, T, N)) (hn : As.length = nA) (hcat : (st.map fun v => v.category).sum ≤ 8) (hr : k ≤ fr.2.1 ∧ n ≤ fr.2.2) (hd : decode cc pc = .ok (.invokevirtual ix, 3)) {st0 : List Value} (hst : As.reverse ++ .ref b :: st = st0)
    (kk : ∀ (s9 : Nat → Bl), P s9 → Go Γ k n (W s9) (pc + 3) lv (.ref rr :: st)) (kx : ∀ s9 : Nat → Bl, PX s9 → GoX Γ k n (W s9) pc lv st) : Go Γ k n ws pc lv st0 :=
  go_callVX C As hM h1 h2 h3 h4 h5 hd0 hfr hlo ho hc hn hcat ⟨hr.1, hr.2⟩ hd hst (fun v w hp => by obtain ⟨s9, g1, rfl, rfl⟩ := hp; exact kk s9 g1) (fun w hp => by obtain ⟨s9, g1, rfl⟩ := hp; exact kx s9 g1)
end GO

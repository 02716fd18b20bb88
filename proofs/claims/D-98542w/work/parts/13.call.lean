/-! CONTRACTS (Mt) and CALLS of the Go logic; the frame rule at a contract -/
set_option maxRecDepth 100000
/-- the method y, called in the world ws with the arguments as, returns v in a world ws' with 'post v ws''; fr: frames, cells, slots; lo: words of locals -/
def Mt (l : Launch) (d : gD) (y : MethodName) (c : ByteArray) (nL : Nat) (ret : Option FieldType) (fr : Nat × Nat × Nat) (lo : Nat) (ws : va_W) (as : List Value) (post : Option Value → va_W → Prop) : Prop :=
  ∀ sz : Nat, Met l y (ws_ y c nL ret) ({ frames := fr.1, cells := fr.2.1, slots := fr.2.2, locals := lo } : Room) (va_Pc as (fun U => U.heap.size = sz ∧ va_P d.1 CL ws U.heap ∧ va_K d.1 CL (gTy d) U ∧ va_D (fun _ => True) ws ∧ ZZ d (va_A ws sz) U))
    (fun _ st oc t => ∃ (v : Option Value) (ws' : va_W), oc = .returned v ∧ post v ws' ∧ va_P d.1 CL ws' t.heap ∧ va_D (va_A ws sz) ws' ∧ va_F (va_A ws sz) st t) fr.2.1 fr.2.2 (va_A ws sz)
/-- how a method ends -/
def Rets (Γ : Gam) (cc : ByteArray) (ret : Option FieldType) (ce sl : Nat) (post : Option Value → va_W → Prop) : Prop :=
  ∀ (k n : Nat) (ws' : va_W) (pc : Nat) (lv : List (Nat × Value)), k ≤ ce → n ≤ sl →
    (∀ r : Int32, ret = some .int → decode cc pc = .ok (.ireturn, 1) → post (some (.int r)) ws' → Go Γ k n ws' pc lv [.int r]) ∧
    (∀ r : Int32, ret = some .boolean → (r = 0 ∨ r = 1) → decode cc pc = .ok (.ireturn, 1) → post (some (.int r)) ws' → Go Γ k n ws' pc lv [.int r]) ∧
    (∀ r : Int64, ret = some .long → decode cc pc = .ok (.lreturn, 1) → post (some (.long r)) ws' → Go Γ k n ws' pc lv [.long r]) ∧
    (ret = none → decode cc pc = .ok (.return_, 1) → post none ws' → Go Γ k n ws' pc lv []) ∧
    (∀ (a : Nat) (C : String), ret = some (.object C) → decode cc pc = .ok (.areturn, 1) → post (some (.ref a)) ws' → Go Γ k n ws' pc lv [.ref a]) ∧
    (∀ (a : Nat) (t : FieldType), ret = some (.array t) → decode cc pc = .ok (.areturn, 1) → post (some (.ref a)) ws' → Go Γ k n ws' pc lv [.ref a]) ∧
    (∀ (r : Int32) (ty : FieldType), ret = some ty → narrow ty (.int r) = .int r → decode cc pc = .ok (.ireturn, 1) → post (some (.int r)) ws' → Go Γ k n ws' pc lv [.int r])
theorem Mt.of {l : Launch} {d : gD} {y : MethodName} {cc : ByteArray} {nL : Nat} {ret : Option FieldType} {fr : Nat × Nat × Nat} {lo : Nat} {ws : va_W} {as : List Value} {post : Option Value → va_W → Prop} (hy : plainName y.cls = true) (has : (lg_sl as).length ≤ nL)
    (body : ∀ Γ : Gam, Γ.l = l → Γ.d = d → Γ.nL = nL → Cx Γ cc y.cls fr lo → Rets Γ cc ret fr.2.1 fr.2.2 post → Go Γ 0 0 ws 0 (lv_args 0 as) []) : Mt l d y cc nL ret fr lo ws as post := by
  intro sz
  refine Met.ofW (cc := cc) (maxL := nL) (ret := ret) hy rfl ?_
  intro p e s m args below meth c s₁ B hml hv
  obtain ⟨rfl, hsz, hP, hK, hD0, hZ⟩ := hv
  have hts := atoms_spec (ws := ws_ y cc nL ret) B.pre
  have hts : ∀ w ∈ lw_all, w.before _ s = true := fun w h => hts w (List.mem_cons_of_mem _ h)
  have hown : s.vm.findClass y.cls = some m.cls := findClass_of_methodNamed B.named
  have hlk := B.notSynchronized
  have hD := hD0.self (sz := s.heap.size)
  subst hsz
  have hl := lv_entry as (n := nL) has
  rw [lg_entry_eq]
  refine body (p, l, e, _, s, m, as.toArray, below, meth, c, nL, d, va_A ws s.heap.size, _) rfl rfl rfl ⟨B.exec, B.bytes, hml, hown, hts, hlk, hK, fun q h => Or.inr h, hZ, ⟨Nat.le_refl _, Nat.le_refl _, Nat.le_refl _⟩, Nat.le_refl _⟩ ?_ s.heap [] _ hP hD va_S.rf hl
  intro k n ws' pc lv hk hn
  refine ⟨fun r hr hd hp => ?_, fun r hr hz hd hp => ?_, fun r hr hd hp => ?_, fun hr hd hp => ?_, fun a C hr hd hp => ?_, fun a t hr hd hp => ?_, fun r ty hr hz hd hp => ?_⟩
  · intro H locs ls hP hD hS hl
    refine W.widen hk hn ?_
    subst hr
    exact W.iret B.exec B.bytes B.returns (fun t ht hW => ⟨_, ws', rfl, hp, by rw [ht]; exact hP, hD, hS.F ht⟩) hS.2.2 hd
  · intro H locs ls hP hD hS hl
    refine W.widen hk hn ?_
    subst hr
    exact W.zret (ty := .boolean) B.exec B.bytes B.returns (by rcases hz with rfl | rfl <;> rfl) (fun t ht hW => ⟨_, ws', rfl, hp, by rw [ht]; exact hP, hD, hS.F ht⟩) hS.2.2 hd
  · intro H locs ls hP hD hS hl
    refine W.widen hk hn ?_
    subst hr
    exact W.lret B.exec B.bytes B.returns (fun t ht hW => ⟨_, ws', rfl, hp, by rw [ht]; exact hP, hD, hS.F ht⟩) hS.2.2 hd
  · intro H locs ls hP hD hS hl
    refine W.widen hk hn ?_
    subst hr
    exact W.vret B.exec B.bytes B.returns (fun t ht hW => ⟨_, ws', rfl, hp, by rw [ht]; exact hP, hD, hS.F ht⟩) hS.2.2 hd
  · intro H locs ls hP hD hS hl
    refine W.widen hk hn ?_
    subst hr
    exact W.aret B.exec B.bytes B.returns (Or.inl ⟨_, rfl⟩) (Or.inr ⟨_, rfl⟩) (fun t ht hW => ⟨_, ws', rfl, hp, by rw [ht]; exact hP, hD, hS.F ht⟩) hS.2.2 hd
  · intro H locs ls hP hD hS hl
    refine W.widen hk hn ?_
    subst hr
    exact W.aret B.exec B.bytes B.returns (Or.inr ⟨_, rfl⟩) (Or.inr ⟨_, rfl⟩) (fun t ht hW => ⟨_, ws', rfl, hp, by rw [ht]; exact hP, hD, hS.F ht⟩) hS.2.2 hd
  · intro H locs ls hP hD hS hl
    refine W.widen hk hn ?_
    subst hr
    exact W.zret (ty := ty) B.exec B.bytes B.returns hz (fun t ht hW => ⟨_, ws', rfl, hp, by rw [ht]; exact hP, hD, hS.F ht⟩) hS.2.2 hd
theorem ZZ.at {d : gD} {A B : Nat → Prop} {s U : State} {H : Heap} {locs : List Loc} (h : ZZ d A s) (hS : va_S A s.heap H locs) (hB : ∀ q, B q → A q) (hU : U.heap = H) (hW : s.WarmedH U.vm) : ZZ d B U := by
  refine ⟨?_, h.2.1.warm hW, h.2.2.warm hW⟩
  rw [hU]
  exact ⟨ZS.narrow (ZS.moved hW.alike (h.1.1.kept hS.2.1)) hB, ZT.narrow (ZT.moved hW.alike (h.1.2.kept hS.2.1)) hB⟩
theorem ZZ.same {d : gD} {A : Nat → Prop} {u U : State} (h : ZZ d A u) (hv : U.vm = u.vm) (hh : U.heap = u.heap) : ZZ d A U := by
  refine ⟨?_, h.2.1.same hv, h.2.2.same hv.symm⟩
  rw [hh]
  exact ⟨ZS.moved (hv ▸ Vm.Alike.refl u.vm) h.1.1, ZT.moved (hv ▸ Vm.Alike.refl u.vm) h.1.2⟩
theorem ZZ.narrow {d : gD} {A B : Nat → Prop} {U : State} (h : ZZ d A U) (hB : ∀ q, B q → A q) : ZZ d B U := ⟨⟨h.1.1.narrow hB, h.1.2.narrow hB⟩, h.2⟩
theorem Pc_blind {d : gD} {ws : va_W} {sz : Nat} {as : List Value} : FrameBlind (va_Pc as (fun U => U.heap.size = sz ∧ va_P d.1 CL ws U.heap ∧ va_K d.1 CL (gTy d) U ∧ va_D (fun _ => True) ws ∧ ZZ d (va_A ws sz) U)) := by
  intro a U g mk q
  obtain ⟨q0, q1, qP, qK, qD, qZ⟩ := q
  exact ⟨q0, q1, qP, va_K.moved (u := U) (U := U.calling g mk a) (Vm.Alike.refl U.vm) qK, qD, qZ.same rfl rfl⟩
section GO
variable {Γ : Gam} {cc : ByteArray} {own : String} {fr : Nat × Nat × Nat} {lo k n pc : Nat} {ws ws' : va_W} {lv : List (Nat × Value)} {st : List Value}
theorem go_of_run {c2 : ByteArray} {y : MethodName} {as : List Value} {post : Option Value → va_W → Prop} {ce sl : Nat} {st0 : List Value} (C : Cx Γ cc own fr lo)
    (hr : ∀ (H : Heap) (locs : List Loc) (ls : Array Slot), va_P Γ.d.1 CL ws H → va_D Γ.2.2.2.2.2.2.2.2.2.2.2.2.1 ws → va_S Γ.2.2.2.2.2.2.2.2.2.2.2.2.1 Γ.2.2.2.2.1.heap H locs → lv_has ls Γ.nL lv →
      va_Run Γ.1 Γ.l Γ.2.2.1 Γ.2.2.2.1 Γ.2.2.2.2.1 Γ.2.2.2.2.2.1 Γ.2.2.2.2.2.2.1 Γ.2.2.2.2.2.2.2.1 Γ.2.2.2.2.2.2.2.2.1 Γ.2.2.2.2.2.2.2.2.2.1 H locs k n ce sl (F0 Γ.2.2.2.2.2.1 pc ls st0) st (fun st oc t => ∃ (v : Option Value) (ws' : va_W), oc = .returned v ∧ post v ws' ∧ va_P Γ.d.1 CL ws' t.heap ∧ va_D (va_A ws H.size) ws' ∧ va_F (va_A ws H.size) st t) (va_A ws H.size))
    (kk : ∀ (v : Option Value) (ws' : va_W), post v ws' → Go Γ (k + ce) (n + sl) ws' (pc + 3) lv (v.toList ++ st)) : Go Γ k n ws pc lv st0 := by
  obtain ⟨p, l, e, R, s, m, args, below, meth, c, nL, d, A, Q⟩ := Γ
  obtain ⟨hx, hb, hml, hown, hts, hlk, hK, hA, hZ, ⟨hfr, hce, hsl⟩, hlo⟩ := C
  intro H locs ls hP hD hS hl
  have hF : ∀ q, va_A ws H.size q → A q := by
    intro q h
    rcases h with ⟨j, e9, h⟩ | h
    · exact hD.2 j (q, e9) h
    · exact hA q (Nat.le_trans hS.1 h)
  intro T hT X
  obtain ⟨v, st₀, t, T', L, h0, X', hL, e1, e2, ⟨v', ws', hv, hp, hP1, hD1, hz, hk⟩, stp⟩ := hr H locs ls hP hD hS hl T hT X
  cases hv
  rw [h0] at hz hk
  obtain ⟨t2, a1, b1⟩ := kk v ws' hp T'.heap (locs ++ L) ls (by rw [e1]; exact hP1) (hD1.weaken (fun _ q _ h => hF q.1 h))
    ⟨Nat.le_trans hS.1 (by rw [e1]; exact hz), fun q h1 h2 => by rw [e1, hk q (Nat.lt_of_lt_of_le h1 hS.1) (fun z => h2 (hF q z))]; exact hS.2.1 q h1 h2, fun q hq => by
      rcases List.mem_append.mp hq with h | h
      · exact hS.2.2 q h
      · exact hF _ (hL q h)⟩ hl T' rfl X'
  exact ⟨t2, stp t2 a1, b1⟩
theorem go_callV (C : Cx Γ cc own fr lo) {y : MethodName} {c2 : ByteArray} {nL2 lo2 fr2 ce sl ix b ci N nA : Nat} {ret2 : Option FieldType} {As fs : List Value} {post : Option Value → va_W → Prop} {C2 : String} {T : u_T}
    (hM : Mt Γ.l Γ.d y c2 nL2 ret2 (fr2, ce, sl) lo2 ws (.ref b :: As) post) (h1 : Cond.methodLink own ix y ∈ lw_all) (h2 : Cond.instanceMethod y ∈ lw_all) (h3 : Cond.selects C2 y y ∈ lw_all) (h4 : Cond.initialized C2 ∈ lw_all) (h5 : Cond.code y c2 nL2 ret2 ∈ lw_all)
    (hd0 : y.cls = C2 ∧ y.cls ≠ "java/lang/invoke/MethodHandle" ∧ y.cls ≠ "java/lang/invoke/VarHandle" ∧ (parseMethodDescriptor y.desc).map (fun d => d.parameters.length) = some nA) (hfr : fr2 + 1 ≤ fr.1 ∧ 8 + (nL2 + 11) + lo2 ≤ lo) (ho : hasO ws b ci fs) (hc : CL[ci]? = some (C2, T, N)) (hn : As.length = nA) (hcat : (st.map fun v => v.category).sum ≤ 8) (hroom : k + ce ≤ fr.2.1 ∧ n + sl ≤ fr.2.2) (hd : decode cc pc = .ok (.invokevirtual ix, 3)) {st0 : List Value} (hst : As.reverse ++ .ref b :: st = st0)
    (kk : ∀ (v : Option Value) (ws' : va_W), post v ws' → Go Γ (k + ce) (n + sl) ws' (pc + 3) lv (v.toList ++ st)) : Go Γ k n ws pc lv st0 := by
  subst hst
  refine go_of_run (c2 := c2) (y := y) (as := .ref b :: As) (post := post) C ?_ kk
  obtain ⟨p, l, e, R, s, m, args, below, meth, c, nL, d, A, Q⟩ := Γ
  obtain ⟨hx, hb, hml, hown, hts, hlk, hK, hA, hZ, ⟨hfr0, hce, hsl⟩, hlo⟩ := C
  intro H locs ls hP hD hS hl
  obtain ⟨q, hq⟩ := ho
  have hF : ∀ q, va_A ws H.size q → A q := by
    intro q h
    rcases h with ⟨j, e9, h⟩ | h
    · exact hD.2 j (q, e9) h
    · exact hA q (Nat.le_trans hS.1 h)
  exact va_runV (As := As) (rest := st) ⟨hx, hb, hml, hown, hts⟩ (hM H.size) (cwV nA hts (lw_V h1 h2 h3 h4 h5) rfl rfl rfl hd0 ⟨Nat.le_trans hfr.1 hfr0, Nat.le_trans hfr.2 hlo⟩) ⟨Pc_blind, va_recv hK hP hc hq, fun U hU hW => ⟨rfl, by rw [hU], by rw [hU]; exact hP, va_K.moved hW.alike hK, hD.weaken (fun _ _ _ _ => trivial), hZ.at hS hF hU hW⟩⟩ rfl hn hl.1 rfl (lv_room hcat) hd ⟨Nat.le_trans hroom.1 hce, Nat.le_trans hroom.2 hsl⟩
theorem go_callVr (C : Cx Γ cc own fr lo) {y : MethodName} {c2 : ByteArray} {nL2 lo2 fr2 ce sl ix b nA : Nat} {ret2 : Option FieldType} {As : List Value} {post : Option Value → va_W → Prop} {C2 : String}
    (hM : Mt Γ.l Γ.d y c2 nL2 ret2 (fr2, ce, sl) lo2 ws (.ref b :: As) post) (h1 : Cond.methodLink own ix y ∈ lw_all) (h2 : Cond.instanceMethod y ∈ lw_all) (h3 : Cond.selects C2 y y ∈ lw_all) (h4 : Cond.initialized C2 ∈ lw_all) (h5 : Cond.code y c2 nL2 ret2 ∈ lw_all)
    (hd0 : y.cls = C2 ∧ y.cls ≠ "java/lang/invoke/MethodHandle" ∧ y.cls ≠ "java/lang/invoke/VarHandle" ∧ (parseMethodDescriptor y.desc).map (fun d => d.parameters.length) = some nA) (hfr : fr2 + 1 ≤ fr.1 ∧ 8 + (nL2 + 11) + lo2 ≤ lo) (hrc : ∀ (H : Heap) (locs : List Loc), va_P Γ.d.1 CL ws H → va_S Γ.2.2.2.2.2.2.2.2.2.2.2.2.1 Γ.2.2.2.2.1.heap H locs → ∃ cell : Cell, H[b]? = some cell ∧ cell.vm.isStatics = false ∧ Γ.2.2.2.2.1.vm.findClass C2 = some cell.cls) (hn : As.length = nA) (hcat : (st.map fun v => v.category).sum ≤ 8) (hroom : k + ce ≤ fr.2.1 ∧ n + sl ≤ fr.2.2) (hd : decode cc pc = .ok (.invokevirtual ix, 3)) {st0 : List Value} (hst : As.reverse ++ .ref b :: st = st0)
    (kk : ∀ (v : Option Value) (ws' : va_W), post v ws' → Go Γ (k + ce) (n + sl) ws' (pc + 3) lv (v.toList ++ st)) : Go Γ k n ws pc lv st0 := by
  subst hst
  refine go_of_run (c2 := c2) (y := y) (as := .ref b :: As) (post := post) C ?_ kk
  obtain ⟨p, l, e, R, s, m, args, below, meth, c, nL, d, A, Q⟩ := Γ
  obtain ⟨hx, hb, hml, hown, hts, hlk, hK, hA, hZ, ⟨hfr0, hce, hsl⟩, hlo⟩ := C
  intro H locs ls hP hD hS hl
  have hF : ∀ q, va_A ws H.size q → A q := by
    intro q h
    rcases h with ⟨j, e9, h⟩ | h
    · exact hD.2 j (q, e9) h
    · exact hA q (Nat.le_trans hS.1 h)
  exact va_runV (As := As) (rest := st) ⟨hx, hb, hml, hown, hts⟩ (hM H.size) (cwV nA hts (lw_V h1 h2 h3 h4 h5) rfl rfl rfl hd0 ⟨Nat.le_trans hfr.1 hfr0, Nat.le_trans hfr.2 hlo⟩) ⟨Pc_blind, hrc H locs hP hS, fun U hU hW => ⟨rfl, by rw [hU], by rw [hU]; exact hP, va_K.moved hW.alike hK, hD.weaken (fun _ _ _ _ => trivial), hZ.at hS hF hU hW⟩⟩ rfl hn hl.1 rfl (lv_room hcat) hd ⟨Nat.le_trans hroom.1 hce, Nat.le_trans hroom.2 hsl⟩
theorem go_callS (C : Cx Γ cc own fr lo) {y : MethodName} {c2 : ByteArray} {nL2 lo2 fr2 ce sl ix nA : Nat} {ret2 : Option FieldType} {As : List Value} {post : Option Value → va_W → Prop}
    (hM : Mt Γ.l Γ.d y c2 nL2 ret2 (fr2, ce, sl) lo2 ws As post) (h1 : Cond.methodLink own ix y ∈ lw_all) (h2 : Cond.static y ∈ lw_all) (h4 : Cond.initialized y.cls ∈ lw_all) (h5 : Cond.code y c2 nL2 ret2 ∈ lw_all)
    (hd0 : y.cls ≠ "java/lang/invoke/MethodHandle" ∧ y.cls ≠ "java/lang/invoke/VarHandle" ∧ (parseMethodDescriptor y.desc).map (fun d => d.parameters.length) = some nA) (hfr : fr2 + 1 ≤ fr.1 ∧ 8 + (nL2 + 11) + lo2 ≤ lo) (hn : As.length = nA) (hcat : (st.map fun v => v.category).sum ≤ 8) (hroom : k + ce ≤ fr.2.1 ∧ n + sl ≤ fr.2.2) (hd : decode cc pc = .ok (.invokestatic ix, 3)) {st0 : List Value} (hst : As.reverse ++ st = st0)
    (kk : ∀ (v : Option Value) (ws' : va_W), post v ws' → Go Γ (k + ce) (n + sl) ws' (pc + 3) lv (v.toList ++ st)) : Go Γ k n ws pc lv st0 := by
  subst hst
  refine go_of_run (c2 := c2) (y := y) (as := As) (post := post) C ?_ kk
  obtain ⟨p, l, e, R, s, m, args, below, meth, c, nL, d, A, Q⟩ := Γ
  obtain ⟨hx, hb, hml, hown, hts, hlk, hK, hA, hZ, ⟨hfr0, hce, hsl⟩, hlo⟩ := C
  intro H locs ls hP hD hS hl
  have hF : ∀ q, va_A ws H.size q → A q := by
    intro q h
    rcases h with ⟨j, e9, h⟩ | h
    · exact hD.2 j (q, e9) h
    · exact hA q (Nat.le_trans hS.1 h)
  exact va_runS (As := As) (rest := st) ⟨hx, hb, hml, hown, hts⟩ (hM H.size) (va_cwS nA hts (lw_S h1 h2 h4 h5) rfl rfl rfl hd0 ⟨Nat.le_trans hfr.1 hfr0, Nat.le_trans hfr.2 hlo⟩) ⟨Pc_blind, fun U hU hW => ⟨rfl, by rw [hU], by rw [hU]; exact hP, va_K.moved hW.alike hK, hD.weaken (fun _ _ _ _ => trivial), hZ.at hS hF hU hW⟩⟩ rfl hn hl.1 rfl (lv_room hcat) hd ⟨Nat.le_trans hroom.1 hce, Nat.le_trans hroom.2 hsl⟩
end GO
theorem app_at {a b : va_W} {k : Nat} {q : Nat × va_E} (h : (a ++ b)[k]? = some q) : (k < a.length ∧ a[k]? = some q) ∨ (a.length ≤ k ∧ b[k - a.length]? = some q) := by
  by_cases hl : k < a.length
  · rw [List.getElem?_append_left hl] at h
    exact Or.inl ⟨hl, h⟩
  · rw [List.getElem?_append_right (by omega)] at h
    exact Or.inr ⟨by omega, h⟩
theorem app_l {a b : va_W} {k : Nat} {q : Nat × va_E} (h : a[k]? = some q) : (a ++ b)[k]? = some q := by
  rw [List.getElem?_append_left (List.getElem?_eq_some_iff.mp h).1]; exact h
theorem app_r {a b : va_W} {k : Nat} {q : Nat × va_E} (h : b[k]? = some q) : (a ++ b)[a.length + k]? = some q := by
  rw [List.getElem?_append_right (by omega), Nat.add_sub_cancel_left]; exact h
theorem va_P.l {D : va_G} {a b : va_W} {H : Heap} (h : va_P D CL (a ++ b) H) : va_P D CL a H := fun k q hq => h k q (app_l hq)
theorem va_P.r {D : va_G} {a b : va_W} {H : Heap} (h : va_P D CL (a ++ b) H) : va_P D CL b H := fun k q hq => h _ q (app_r hq)
theorem va_D.l {A : Nat → Prop} {a b : va_W} (h : va_D A (a ++ b)) : va_D A a := ⟨fun i j p q hp hq e => h.1 i j p q (app_l hp) (app_l hq) e, fun k q hq => h.2 k q (app_l hq)⟩
theorem va_D.r {A : Nat → Prop} {a b : va_W} (h : va_D A (a ++ b)) : va_D A b := ⟨fun i j p q hp hq e => by have := h.1 _ _ p q (app_r hp) (app_r hq) e; omega, fun k q hq => h.2 _ q (app_r hq)⟩
theorem va_D.apart {A : Nat → Prop} {a b : va_W} (h : va_D A (a ++ b)) (i j : Nat) (p q : Nat × va_E) (hp : a[i]? = some p) (hq : b[j]? = some q) : p.1 ≠ q.1 := fun e => by
  have h1 := h.1 _ _ p q (app_l hp) (app_r hq) e
  have h2 := (List.getElem?_eq_some_iff.mp hp).1
  omega
theorem va_D.comm {A : Nat → Prop} {a b : va_W} (h : va_D A (a ++ b)) : va_D A (b ++ a) := va_D.app h.r h.l (fun i j p q hp hq e => h.apart j i q p hq hp e.symm)
theorem va_P.comm {D : va_G} {a b : va_W} {H : Heap} (h : va_P D CL (a ++ b) H) : va_P D CL (b ++ a) H := va_P.app h.r h.l
/-- THE FRAME RULE at a contract: what stands beside its world stays -/
theorem Mt.frame {l : Launch} {d : gD} {y : MethodName} {cc : ByteArray} {nL : Nat} {ret : Option FieldType} {fr : Nat × Nat × Nat} {lo : Nat} {ws : va_W} {as : List Value} {post : Option Value → va_W → Prop} (X Y : va_W) (h : Mt l d y cc nL ret fr lo ws as post) :
    Mt l d y cc nL ret fr lo (X ++ (ws ++ Y)) as (fun v w => ∃ w0, post v w0 ∧ w = X ++ (w0 ++ Y)) := by
  intro sz p e ha hc hk s m args below hfr happ hpre hT
  obtain ⟨rfl, hsz, hP, hK, hD, hZ⟩ := hpre
  have hsub : ∀ q, va_A ws sz q → va_A (X ++ (ws ++ Y)) sz q := by
    intro q hq
    rcases hq with ⟨k, e9, hq⟩ | hq
    · exact Or.inl ⟨_, e9, app_r (app_l hq)⟩
    · exact Or.inr hq
  obtain ⟨n, o, h1, h2, h3, ⟨v, w0, hv, hp, hP1, hD1, hz, hk1⟩, L, hF, hL⟩ := h sz p e ha hc hk s m _ below hfr happ ⟨rfl, hsz, hP.r.l, hK, hD.r.l, hZ.narrow hsub⟩ hT
  have key : ∀ (i : Nat) (q : Nat × va_E), (X[i]? = some q ∨ Y[i]? = some q) → q.1 < s.heap.size ∧ ¬ va_A ws sz q.1 := by
    intro i q hq
    refine ⟨?_, ?_⟩
    · rcases hq with hq | hq
      · exact (hP _ q (app_l hq)).lt
      · exact (hP _ q (app_r (app_r hq))).lt
    · rintro (⟨j, e9, hj⟩ | hj)
      · rcases hq with hq | hq
        · exact hD.apart i j q (q.1, e9) hq (app_l hj) rfl
        · exact hD.r.apart j i (q.1, e9) q hj hq rfl
      · rcases hq with hq | hq
        · have := (hP _ q (app_l hq)).lt; omega
        · have := (hP _ q (app_r (app_r hq))).lt; omega
  have hPX : va_P d.1 CL X (stepsAlone p.tables e n s).heap := fun i q hq => (hP.l i q hq).kept (hk1 q.1 (key i q (Or.inl hq)).1 (key i q (Or.inl hq)).2)
  have hPY : va_P d.1 CL Y (stepsAlone p.tables e n s).heap := fun i q hq => (hP.r.r i q hq).kept (hk1 q.1 (key i q (Or.inr hq)).1 (key i q (Or.inr hq)).2)
  refine ⟨n, o, h1, h2, h3, ⟨v, X ++ (w0 ++ Y), hv, ⟨w0, hp, rfl⟩, va_P.app hPX (va_P.app hP1 hPY), ?_, hz, fun q g1 g2 => hk1 q g1 (fun z => g2 (hsub q z))⟩, L, hF, fun q hq => hsub _ (hL q hq)⟩
  have hDX : va_D (va_A (X ++ (ws ++ Y)) sz) X := (hD.self (sz := sz)).l
  have hDY : va_D (va_A (X ++ (ws ++ Y)) sz) Y := (hD.self (sz := sz)).r.r
  have hD1' : va_D (va_A (X ++ (ws ++ Y)) sz) w0 := hD1.weaken (fun _ q _ hq => hsub q.1 hq)
  refine va_D.app hDX (va_D.app hD1' hDY ?_) ?_
  · intro i j p9 q hp9 hq e9
    exact (key j q (Or.inr hq)).2 (e9 ▸ hD1.2 i p9 hp9)
  · intro i j p9 q hp9 hq e9
    rcases app_at hq with ⟨-, hq⟩ | ⟨-, hq⟩
    · exact (key i p9 (Or.inl hp9)).2 (e9 ▸ hD1.2 _ q hq)
    · exact hD.apart i _ p9 q hp9 (app_r hq) e9
theorem Mt.post {l : Launch} {d : gD} {y : MethodName} {cc : ByteArray} {nL : Nat} {ret : Option FieldType} {fr : Nat × Nat × Nat} {lo : Nat} {ws : va_W} {as : List Value} {post post2 : Option Value → va_W → Prop} (h : Mt l d y cc nL ret fr lo ws as post) (hp : ∀ v w, post v w → post2 v w) : Mt l d y cc nL ret fr lo ws as post2 := by
  intro sz p e ha hc hk s m args below hfr happ hpre hT
  obtain ⟨n, o, h1, h2, h3, ⟨v, w0, hv, hp9, hr⟩, hF⟩ := h sz p e ha hc hk s m _ below hfr happ hpre hT
  exact ⟨n, o, h1, h2, h3, ⟨v, w0, hv, hp v w0 hp9, hr⟩, hF⟩

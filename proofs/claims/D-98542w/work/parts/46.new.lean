/-! MAKING: new objects and arrays, constructors, final fields -/
set_option maxRecDepth 100000
def Gam.isInit : Gam → Prop
  | (p, l, e, R, s, m, args, below, meth, c, nL, d, A, Q) => meth.name = "<init>"
theorem Mt.ofI {l : Launch} {d : gD} {y : MethodName} {cc : ByteArray} {nL : Nat} {ret : Option FieldType} {fr : Nat × Nat × Nat} {lo : Nat} {ws : va_W} {as : List Value} {post : Option Value → va_W → Prop} (hy : plainName y.cls = true) (has : (lg_sl as).length ≤ nL) (hI : y.name = "<init>")
    (body : ∀ Γ : Gam, Γ.l = l → Γ.d = d → Γ.nL = nL → Γ.isInit → Cx Γ cc y.cls fr lo → Rets Γ cc ret fr.2.1 fr.2.2 post → Go Γ 0 0 ws 0 (lv_args 0 as) []) : Mt l d y cc nL ret fr lo ws as post := by
  intro sz
  refine Met.ofW (cc := cc) (maxL := nL) (ret := ret) hy rfl ?_
  intro p e s m args below meth c s₁ B hml hv
  obtain ⟨rfl, hsz, hP, hK, hD0, hZ⟩ := hv
  have hts := atoms_spec (ws := ws_ y cc nL ret) B.pre
  have hts : ∀ w ∈ lw_all, w.before _ s = true := fun w h => hts w (List.mem_cons_of_mem _ h)
  have hown : s.vm.findClass y.cls = some m.cls := findClass_of_methodNamed B.named
  have hlk := B.notSynchronized
  have hnm : meth.name = "<init>" := hI ▸ (name_of_methodNamed B.named B.method).1
  have hD := hD0.self (sz := s.heap.size)
  subst hsz
  have hl := lv_entry as (n := nL) has
  rw [lg_entry_eq]
  refine body (p, l, e, _, s, m, as.toArray, below, meth, c, nL, d, va_A ws s.heap.size, _) rfl rfl rfl hnm ⟨B.exec, B.bytes, hml, hown, hts, hlk, hK, fun q h => Or.inr h, hZ, ⟨Nat.le_refl _, Nat.le_refl _, Nat.le_refl _⟩, Nat.le_refl _⟩ ?_ s.heap [] _ hP hD va_S.rf hl
  intro k n ws' pc lv hk hn
  refine ⟨fun r hr hd hp => ?_, fun r hr hz hd hp => ?_, fun r hr hd hp => ?_, fun hr hd hp => ?_, fun a C hr hd hp => ?_, fun a t hr hd hp => ?_, fun r ty hr hz hd hp => ?_⟩
  · intro H locs ls hP hD hS hl
    refine W.widen hk hn ?_
    subst hr
    exact W.iret B.exec B.bytes B.returns (fun t ht hW => ⟨_, ws', rfl, hp, by rw [ht]; exact hP, hD, hS.F ht⟩) hS.2.2 hd
  · intro H locs ls hP hD hS hl
    refine W.widen hk hn ?_
    subst hr
    exact W.zret (ty := .boolean) B.exec B.bytes B.returns (by rcases hz with rfl | rfl <;> rfl) (fun t ht hW => ⟨_, ws', rfl, hp, by rw [ht]; exact hP, hD, hS.F ht⟩) hS.2.2 hd
  · intro H locs ls hP hD hS hl
    refine W.widen hk hn ?_
    subst hr
    exact W.lret B.exec B.bytes B.returns (fun t ht hW => ⟨_, ws', rfl, hp, by rw [ht]; exact hP, hD, hS.F ht⟩) hS.2.2 hd
  · intro H locs ls hP hD hS hl
    refine W.widen hk hn ?_
    subst hr
    exact W.vret B.exec B.bytes B.returns (fun t ht hW => ⟨_, ws', rfl, hp, by rw [ht]; exact hP, hD, hS.F ht⟩) hS.2.2 hd
  · intro H locs ls hP hD hS hl
    refine W.widen hk hn ?_
    subst hr
    exact W.aret B.exec B.bytes B.returns (Or.inl ⟨_, rfl⟩) (Or.inr ⟨_, rfl⟩) (fun t ht hW => ⟨_, ws', rfl, hp, by rw [ht]; exact hP, hD, hS.F ht⟩) hS.2.2 hd
  · intro H locs ls hP hD hS hl
    refine W.widen hk hn ?_
    subst hr
    exact W.aret B.exec B.bytes B.returns (Or.inr ⟨_, rfl⟩) (Or.inr ⟨_, rfl⟩) (fun t ht hW => ⟨_, ws', rfl, hp, by rw [ht]; exact hP, hD, hS.F ht⟩) hS.2.2 hd
  · intro H locs ls hP hD hS hl
    refine W.widen hk hn ?_
    subst hr
    exact W.zret (ty := ty) B.exec B.bytes B.returns hz (fun t ht hW => ⟨_, ws', rfl, hp, by rw [ht]; exact hP, hD, hS.F ht⟩) hS.2.2 hd
theorem va_RA_eq {U : State} {a b : ClassId} {ty : FieldType} (ha : va_RA U a ty) (hb : va_RA U b ty) : a = b := by
  cases ty with
  | object C =>
    obtain ⟨_, _, _, _, _, h1⟩ := ha
    obtain ⟨_, _, _, _, _, h2⟩ := hb
    exact Option.some.inj (h1.symm.trans h2)
  | _ =>
    have h1 : U.vm.findClass _ = some a := ha
    have h2 : U.vm.findClass _ = some b := hb
    exact Option.some.inj (h1.symm.trans h2)
section GO
variable {Γ : Gam} {cc : ByteArray} {own : String} {fr : Nat × Nat × Nat} {lo k n pc : Nat} {ws ws' : va_W} {lv : List (Nat × Value)} {st : List Value}
theorem go_new (C : Cx Γ cc own fr lo) {cn : String} {T : u_T} {N ci ix : Nat} {fs : List Value} (hin : ∀ w ∈ u_ws cn T N, w ∈ lw_all) (ty : Nat → FieldType) (hty : ∀ k, k < N → parseFieldDescriptor (T k).2.2.1 = some (ty k)) (hcl : Cond.classLink own ix cn ∈ lw_all) (hinst : Cond.instantiable cn N ∈ lw_all) (hini : Cond.initialized cn ∈ lw_all) (hc : CL[ci]? = some (cn, T, N)) (hfs : ∀ j, j < N → defaultValue (ty j) = vp_V fs j) (hr : k + 1 ≤ fr.2.1 ∧ n + N ≤ fr.2.2) (hd : decode cc pc = .ok (.new ix, 3))
    (kk : ∀ q : Nat, Go Γ (k + 1) (n + N) (ws ++ [(q, .inr (ci, fs))]) (pc + 3) lv (.ref q :: st)) : Go Γ k n ws pc lv st := by
  obtain ⟨p, l, e, R, s, m, args, below, meth, c, nL, d, A, Q⟩ := Γ
  obtain ⟨hx, hb, hml, hown, hts, hlk, hK, hA, hZ, ⟨hfr, hce, hsl⟩, hlo⟩ := C
  intro H locs ls hP hD hS hl
  exact va_new hx hb hts hin ty hty hown (hts _ hcl) (hts _ hinst) (hts _ hini) hK hP hD hS hA hc hfs (Nat.le_trans hr.1 hce) (Nat.le_trans hr.2 hsl) hd fun q H1 hP1 hD1 hS1 => kk q H1 locs ls hP1 hD1 hS1 hl
theorem go_newarr (C : Cx Γ cc own fr lo) {at9 : ArrayType} {ty : FieldType} {t : Nat} (ht : (gTy Γ.d)[t]? = some (Γ.d.2.1 t, ty)) (harr : Cond.arrayClass ty ∈ lw_all) (hty : newarray.typeOf at9 = ty) {i : Int32} {N : Nat} {a0 : vp_A} (ha : ∀ cA : ClassId, vp_cell cA a0 = arrV cA N (fun _ => defaultValue ty)) (hn : ¬ i < 0) (hN : i.toNatClampNeg = N) (hb9 : N * componentBytes ty ≤ 536870912) (hr : k + 1 ≤ fr.2.1 ∧ n + N ≤ fr.2.2) (hd : decode cc pc = .ok (.newarray at9, 2))
    (kk : ∀ q : Nat, Go Γ (k + 1) (n + N) (ws ++ [(q, .inl (Γ.d.2.1 t, a0))]) (pc + 2) lv (.ref q :: st)) : Go Γ k n ws pc lv (.int i :: st) := by
  obtain ⟨p, l, e, R, s, m, args, below, meth, c, nL, d, A, Q⟩ := Γ
  obtain ⟨hx, hb, hml, hown, hts, hlk, hK, hA, hZ, ⟨hfr, hce, hsl⟩, hlo⟩ := C
  intro H locs ls hP hD hS hl
  subst hty
  refine va_newa hx hb (hts _ harr) rfl hK hP hD hS hA ha hn hN hb9 (Nat.le_trans hr.1 hce) (Nat.le_trans hr.2 hsl) hd fun q cA H1 hK1 hP1 hD1 hS1 => ?_
  have e1 : cA = d.2.1 t := va_RA_eq (hK1.2 (gTy d).length (cA, _) (by simp)).2 (hK.2 t _ ht).2
  subst e1
  exact kk q H1 locs ls hP1 hD1 hS1 hl
theorem go_anew (C : Cx Γ cc own fr lo) {cn : String} {ix t : Nat} (ht : (gTy Γ.d)[t]? = some (Γ.d.2.1 t, .object cn)) (hcl : Cond.classLink own ix cn ∈ lw_all) (hov : Cond.arrayOver (.object cn) ∈ lw_tbl) {i : Int32} {N : Nat} (hn : ¬ i < 0) (hN : i.toNatClampNeg = N) (hb9 : N * 4 ≤ 536870912) (hr : k + 1 ≤ fr.2.1 ∧ n + N ≤ fr.2.2) (hd : decode cc pc = .ok (.anewarray ix, 3))
    (kk : ∀ q : Nat, Go Γ (k + 1) (n + N) (ws ++ [(q, .inl (Γ.d.2.1 t, N, .inr (.inr (.inr (.inr (fun _ => none))))))]) (pc + 3) lv (.ref q :: st)) : Go Γ k n ws pc lv (.int i :: st) := by
  obtain ⟨p, l, e, R, s, m, args, below, meth, c, nL, d, A, Q⟩ := Γ
  obtain ⟨hx, hb, hml, hown, hts, hlk, hK, hA, hZ, ⟨hfr, hce, hsl⟩, hlo⟩ := C
  intro H locs ls hP hD hS hl
  refine va_newq hx hb hown (hts _ hcl) (hZ.2.2 _ (lw_n hov rfl)) hK hP hD hS hA hn hN hb9 (Nat.le_trans hr.1 hce) (Nat.le_trans hr.2 hsl) hd fun q cA H1 hK1 hP1 hD1 hS1 => ?_
  have e1 : cA = d.2.1 t := va_RA_eq (hK1.2 (gTy d).length (cA, _) (by simp)).2 (hK.2 t _ ht).2
  subst e1
  exact kk q H1 locs ls hP1 hD1 hS1 hl
theorem go_objInit (C : Cx Γ cc own fr lo) {ix a : Nat} (hl9 : Cond.methodLink own ix Lib.objectInit ∈ lw_all) (hi : Cond.instanceMethod Lib.objectInit ∈ lw_all) (hcd : Cond.code Lib.objectInit ⟨#[0xb1]⟩ 1 none ∈ lw_all) (hf : 1 ≤ fr.1) (hlo9 : (st.map fun v => v.category).sum + 14 ≤ lo) (hd : decode cc pc = .ok (.invokespecial ix, 3)) (kk : Go Γ k n ws (pc + 3) lv st) : Go Γ k n ws pc lv (.ref a :: st) := by
  obtain ⟨p, l, e, R, s, m, args, below, meth, c, nL, d, A, Q⟩ := Γ
  obtain ⟨hx, hb, hml, hown, hts, hlk, hK, hA, hZ, ⟨hfr, hce, hsl⟩, hlo⟩ := C
  intro H locs ls hP hD hS hl
  refine W.objInit hx hb hown (hts _ hl9) (hts _ hi) (hts _ hcd) rfl (by rw [hml]; exact hl.1) rfl hd (Nat.le_trans hf hfr) (by show 2 * 0 + _ + 12 ≤ _; omega) ?_
  exact W.eq (g2 := F0 m (pc + 3) ls st) rfl (kk H locs ls hP hD hS hl)
theorem go_putF (C : Cx Γ cc own fr lo) (hI : Γ.isInit) {b ci N ix : Nat} {T : u_T} {cn : String} {fs : List Value} {v : Value} {ty : FieldType} (j : Nat) (hp : putO ws b ci fs (fs.set j v) ws') (hc : CL[ci]? = some (cn, T, N)) (hin : ∀ w ∈ u_ws cn T N, w ∈ lw_all) (ty0 : Nat → FieldType) (hty : ∀ k, k < N → parseFieldDescriptor (T k).2.2.1 = some (ty0 k)) (hnm : ∀ a, a < N → ∀ b, b < N → a ≠ b → (T a).2.1 ≠ (T b).2.1) (hj : j < N) (hw : Cond.fieldLink own ix (T j).1 (T j).2.1 (T j).2.2.1 ∈ lw_all) (hfin : (T j).2.2.2 = true) (hdecl : (T j).1 = own) (ht0 : ty0 j = ty) (hn : narrow ty v = v) (hfit : fits ty v = true) (hl9 : j < fs.length) (hd : decode cc pc = .ok (.putfield ix, 3)) (kk : Go Γ k n ws' (pc + 3) lv st) : Go Γ k n ws pc lv (v :: .ref b :: st) := by
  obtain ⟨p, l, e, R, s, m, args, below, meth, c, nL, d, A, Q⟩ := Γ
  obtain ⟨hx, hb, hml, hown, hts, hlk, hK, hA, hZ, ⟨hfr, hce, hsl⟩, hlo⟩ := C
  intro H locs ls hP hD hS hl
  obtain ⟨q, hq, hs⟩ := hp
  exact va_putF hx hb hts hin ty0 hty hnm hown hK hP hD hS q hq hc j hj (hts _ hw) (fun _ h9 => h9) hfin hI hdecl (ht0 ▸ hty j hj) hn hfit hl9 hd (fun H1 locs1 hP1 hD1 hS1 => kk H1 locs1 ls (hs ▸ hP1) (hs ▸ hD1) hS1 hl)
theorem go_callI (C : Cx Γ cc own fr lo) {y : MethodName} {c2 : ByteArray} {nL2 lo2 fr2 ce sl ix b nA : Nat} (As : List Value) {post : Option Value → va_W → Prop}
    (hM : Mt Γ.l Γ.d y c2 nL2 none (fr2, ce, sl) lo2 ws (.ref b :: As) post) (h1 : Cond.methodLink own ix y ∈ lw_all) (h2 : Cond.instanceMethod y ∈ lw_all) (h4 : Cond.initialized y.cls ∈ lw_all) (h5 : Cond.code y c2 nL2 none ∈ lw_all) (hI : y.name = "<init>")
    (hd0 : y.cls ≠ "java/lang/invoke/MethodHandle" ∧ y.cls ≠ "java/lang/invoke/VarHandle" ∧ (parseMethodDescriptor y.desc).map (fun d => d.parameters.length) = some nA) (hfr : fr2 + 1 ≤ fr.1 ∧ 8 + (nL2 + 11) + lo2 ≤ lo) (hn : As.length = nA) (hcat : (st.map fun v => v.category).sum ≤ 8) (hroom : k + ce ≤ fr.2.1 ∧ n + sl ≤ fr.2.2) (hd : decode cc pc = .ok (.invokespecial ix, 3)) {st0 : List Value} (hst : As.reverse ++ .ref b :: st = st0)
    (kk : ∀ (v : Option Value) (ws' : va_W), post v ws' → Go Γ (k + ce) (n + sl) ws' (pc + 3) lv (v.toList ++ st)) : Go Γ k n ws pc lv st0 := by
  subst hst
  refine go_of_run (c2 := c2) (y := y) (as := .ref b :: As) (post := post) C ?_ kk
  obtain ⟨p, l, e, R, s, m, args, below, meth, c, nL, d, A, Q⟩ := Γ
  obtain ⟨hx, hb, hml, hown, hts, hlk, hK, hA, hZ, ⟨hfr0, hce, hsl⟩, hlo⟩ := C
  intro H locs ls hP hD hS hl
  have hF : ∀ q, va_A ws H.size q → A q := by
    intro q h
    rcases h with ⟨j, e9, h⟩ | h
    · exact hD.2 j (q, e9) h
    · exact hA q (Nat.le_trans hS.1 h)
  exact va_runI (As := As) (rest := st) ⟨hx, hb, hml, hown, hts⟩ (hM H.size) (cwI nA hts (lw_meth h5) rfl rfl rfl (hts _ h4) (hts _ h1) (hts _ h2) hI hd0 ⟨Nat.le_trans hfr.1 hfr0, Nat.le_trans hfr.2 hlo⟩) ⟨Pc_blind, fun U hU hW => ⟨rfl, by rw [hU], by rw [hU]; exact hP, va_K.moved hW.alike hK, hD.weaken (fun _ _ _ _ => trivial), hZ.at hS hF hU hW⟩⟩ rfl hn hl.1 rfl (lv_room hcat) hd ⟨Nat.le_trans hroom.1 hce, Nat.le_trans hroom.2 hsl⟩
theorem go_callIN (C : Cx Γ cc own fr lo) {y : MethodName} {c2 : ByteArray} {nL2 lo2 fr2 ce sl ix b nA : Nat} (As : List Value) {host : String} {post : Option Value → va_W → Prop}
    (hM : Mt Γ.l Γ.d y c2 nL2 none (fr2, ce, sl) lo2 ws (.ref b :: As) post) (h1 : Cond.methodLinkNest own ix y host ∈ lw_tbl) (h2 : Cond.instanceMethod y ∈ lw_all) (h4 : Cond.initialized y.cls ∈ lw_all) (h5 : Cond.code y c2 nL2 none ∈ lw_all) (hI : y.name = "<init>")
    (hd0 : y.cls ≠ "java/lang/invoke/MethodHandle" ∧ y.cls ≠ "java/lang/invoke/VarHandle" ∧ (parseMethodDescriptor y.desc).map (fun d => d.parameters.length) = some nA) (hfr : fr2 + 1 ≤ fr.1 ∧ 8 + (nL2 + 11) + lo2 ≤ lo) (hn : As.length = nA) (hcat : (st.map fun v => v.category).sum ≤ 8) (hroom : k + ce ≤ fr.2.1 ∧ n + sl ≤ fr.2.2) (hd : decode cc pc = .ok (.invokespecial ix, 3)) {st0 : List Value} (hst : As.reverse ++ .ref b :: st = st0)
    (kk : ∀ (v : Option Value) (ws' : va_W), post v ws' → Go Γ (k + ce) (n + sl) ws' (pc + 3) lv (v.toList ++ st)) : Go Γ k n ws pc lv st0 := by
  subst hst
  refine go_of_run (c2 := c2) (y := y) (as := .ref b :: As) (post := post) C ?_ kk
  obtain ⟨p, l, e, R, s, m, args, below, meth, c, nL, d, A, Q⟩ := Γ
  obtain ⟨hx, hb, hml, hown, hts, hlk, hK, hA, hZ, ⟨hfr0, hce, hsl⟩, hlo⟩ := C
  intro H locs ls hP hD hS hl
  have hF : ∀ q, va_A ws H.size q → A q := by
    intro q h
    rcases h with ⟨j, e9, h⟩ | h
    · exact hD.2 j (q, e9) h
    · exact hA q (Nat.le_trans hS.1 h)
  exact va_runIN (As := As) (rest := st) ⟨hx, hb, hml, hown, hts⟩ (hM H.size) ⟨va_cnB nA hts (lw_meth h5) rfl rfl rfl (hZ.2.2 _ (lw_n h1 rfl)) (hts _ h4) hd0 ⟨Nat.le_trans hfr.1 hfr0, Nat.le_trans hfr.2 hlo⟩, hI, hts _ h2⟩ ⟨Pc_blind, fun U hU hW => ⟨rfl, by rw [hU], by rw [hU]; exact hP, va_K.moved hW.alike hK, hD.weaken (fun _ _ _ _ => trivial), hZ.at hS hF hU hW⟩⟩ rfl hn hl.1 rfl (lv_room hcat) hd ⟨Nat.le_trans hroom.1 hce, Nat.le_trans hroom.2 hsl⟩
end GO

/-! METHODS WITH HANDLERS: contracts, the catch -/
set_option maxRecDepth 100000
theorem Met.ofWH {l : Launch} {y : MethodName} {ws ws' : List Cond} {rm : Room} {Pc : Array Value → State → Prop} {Qc : Array Value → State → Outcome → State → Prop} {mc ms : Nat} {free : Addr → Prop} {cc : ByteArray} {maxL : Nat} {ret : Option FieldType} {hh : List (Nat × Nat × Nat × Nat)}
    (hy : plainName y.cls = true) (hw : ws = Cond.codeWith y cc maxL ret hh :: ws')
    (body : ∀ p e s m args below meth c s₁, BodyLoose p l y (headSpec ws rm) cc maxL ret e s m args below meth c s₁ → c.maxLocals = maxL → Pc args s →
      W p l e (headSpec ws rm).room s m args below meth c s.heap [] 0 0 (MQ below Qc args s mc ms free) (entryFrame m args maxL)) : Met l y ws rm Pc Qc mc ms free := by
  refine MetFree.of_bodyS (code := cc) (maxLocals := maxL) (ret := ret) hy ?_ ?_
  · intro args s m h hn
    obtain ⟨m9, meth, c, hn9, h1, h2, h3, h4, -, h5, h6, -⟩ := Cond.codeWith_spec (atoms_spec (ws := ws) h _ (by rw [hw]; exact List.mem_cons_self))
    cases hn.symm.trans hn9
    exact ⟨meth, c, h1, h2, h3, h4, h5, h6⟩
  · intro p e s m args below meth c s₁ B hml hP _
    have hh0 : s₁.heap = s.heap := by rw [B.state]; rfl
    obtain ⟨t, a1, o, b1, b2, b3⟩ := body p e s m args below meth c s₁ B hml hP s₁ hh0 (Stand.of_body B)
    exact ⟨t, o, a1, b1, b2, ⟨b3.1, b3.2⟩⟩
/-- a contract of a method with handlers hh -/
def MtW (l : Launch) (d : gD) (y : MethodName) (c : ByteArray) (nL : Nat) (ret : Option FieldType) (hh : List (Nat × Nat × Nat × Nat)) (fr : Nat × Nat × Nat) (lo : Nat) (ws : va_W) (as : List Value) (post : Option Value → va_W → Prop) : Prop :=
  ∀ sz : Nat, Met l y (wsW_ y c nL ret hh) ({ frames := fr.1, cells := fr.2.1, slots := fr.2.2, locals := lo } : Room) (va_Pc as (fun U => U.heap.size = sz ∧ va_P d.1 CL ws U.heap ∧ va_K d.1 CL (gTy d) U ∧ va_D (fun _ => True) ws ∧ ZZ d (va_A ws sz) U))
    (fun _ st oc t => ∃ (v : Option Value) (ws' : va_W), oc = .returned v ∧ post v ws' ∧ va_P d.1 CL ws' t.heap ∧ va_D (va_A ws sz) ws' ∧ va_F (va_A ws sz) st t) fr.2.1 fr.2.2 (va_A ws sz)
def Gam.tab : Gam → List ExceptionTableEntry
  | (p, l, e, R, s, m, args, below, meth, c, nL, d, A, Q) => c.exceptionTable.toList
/-- an int is the answer -/
def RetI (Γ : Gam) (cc : ByteArray) (ce sl : Nat) (post : Option Value → va_W → Prop) : Prop :=
  ∀ (k n : Nat) (ws' : va_W) (pc : Nat) (lv : List (Nat × Value)) (r : Int32), k ≤ ce → n ≤ sl → decode cc pc = .ok (.ireturn, 1) → post (some (.int r)) ws' → Go Γ k n ws' pc lv [.int r]
theorem MtW.of {l : Launch} {d : gD} {y : MethodName} {cc : ByteArray} {nL : Nat} {hh : List (Nat × Nat × Nat × Nat)} {fr : Nat × Nat × Nat} {lo : Nat} {ws : va_W} {as : List Value} {post : Option Value → va_W → Prop} (hy : plainName y.cls = true) (has : (lg_sl as).length ≤ nL)
    (body : ∀ Γ : Gam, Γ.l = l → Γ.d = d → Γ.nL = nL → Γ.tab = tableOf hh → Cx Γ cc y.cls fr lo → RetI Γ cc fr.2.1 fr.2.2 post → Go Γ 0 0 ws 0 (lv_args 0 as) []) : MtW l d y cc nL (some .int) hh fr lo ws as post := by
  intro sz
  refine Met.ofWH (cc := cc) (maxL := nL) (ret := some .int) (hh := hh) hy rfl ?_
  intro p e s m args below meth c s₁ B hml hv
  obtain ⟨rfl, hsz, hP, hK, hD0, hZ⟩ := hv
  have hts := atoms_spec (ws := wsW_ y cc nL (some .int) hh) B.pre
  have htab := vx_table (x := y) B (hts _ List.mem_cons_self)
  have hts : ∀ w ∈ lw_all, w.before _ s = true := fun w h => hts w (List.mem_cons_of_mem _ h)
  have hown : s.vm.findClass y.cls = some m.cls := findClass_of_methodNamed B.named
  have hlk := B.notSynchronized
  have hD := hD0.self (sz := s.heap.size)
  subst hsz
  have hl := lv_entry as (n := nL) has
  rw [lg_entry_eq]
  refine body (p, l, e, _, s, m, as.toArray, below, meth, c, nL, d, va_A ws s.heap.size, _) rfl rfl rfl htab ⟨B.exec, B.bytes, hml, hown, hts, hlk, hK, fun q h => Or.inr h, hZ, ⟨Nat.le_refl _, Nat.le_refl _, Nat.le_refl _⟩, Nat.le_refl _⟩ ?_ s.heap [] _ hP hD va_S.rf hl
  intro k n ws' pc lv r hk hn hd hp H locs ls hP hD hS hl
  refine W.widen hk hn ?_
  exact W.iret B.exec B.bytes B.returns (fun t ht hW => ⟨_, ws', rfl, hp, by rw [ht]; exact hP, hD, hS.F ht⟩) hS.2.2 hd
section GO
variable {Γ : Gam} {cc : ByteArray} {own : String} {fr : Nat × Nat × Nat} {lo k n pc : Nat} {ws ws' : va_W} {lv : List (Nat × Value)} {st : List Value}
/-- the one handler catches the fault -/
theorem go_catch (C : Cx Γ cc own fr lo) {a b h t : Nat} (htab : Γ.tab = tableOf [(a, b, h, t)]) (hpc : a ≤ pc ∧ pc < b) (h0 : t ≠ 0) (hcl : Cond.classLink own t FLT ∈ lw_all) (kk : ∀ q : Nat, Go Γ k n ws h lv [.ref q]) : GoX Γ k n ws pc lv st := by
  obtain ⟨p, l, e, R, s, m, args, below, meth, c, nL, d, A, Q⟩ := Γ
  obtain ⟨hx, hb, hml, hown, hts, hlk, hK, hA, hZ, ⟨hfr, hce, hsl⟩, hlo⟩ := C
  intro H locs ls q ce hP hD hS hl hq hv hc
  exact vx_catch hown [] ⟨a, b, h, t⟩ [] htab (fun z hz => by cases hz) (by show (decide (a ≤ pc) && decide (pc < b)) = true; simp [hpc]) h0 (hts _ hcl) ((hZ.2.2 _ (lw_n q309 rfl)).use rfl) hq hv hc (kk q H locs ls hP hD hS hl)
end GO

/-! PartyRaft's CONSTRUCTOR; printed by gen/raft0.py -/
set_option maxRecDepth 100000
theorem bV_ar {a a' : Nat → Nat} {rf rf' : rF} {σ : Bl} {g k : Nat} (h : a' (g + 1) = a (g + 1)) (hr : rf' g (σ.1 g) = rf g (σ.1 g)) : bV a' rf' σ g k = bV a rf σ g k := by
  match k with
  | 0 => rfl
  | 5 => exact hr
  | 1 => simp [bV, h]
  | 2 => simp [bV, h]
  | 3 => simp [bV, h]
  | 4 => simp [bV, h]
  | k + 6 => simp [bV, h]
theorem pFs_set2 {a a' : Nat → Nat} {rf rf' : rF} {σ : Bl} {FK : FKs} {j f : Nat} {x : Nat × Nat} (hx : FK[f]? = some x) (hj : j ≤ f) (hg : gapOK rf' σ FK j f) (ha : ∀ g, g < j → a' (g + 1) = a (g + 1)) (hr : ∀ g, g < j → rf' g (σ.1 g) = rf g (σ.1 g)) : (pFs a rf σ j 0 FK).set f (bV a' rf' σ f x.1) = pFs a' rf' σ (f + 1) 0 FK := by
  apply List.ext_getElem?
  intro i
  rw [List.getElem?_set, pFs_get, pFs_get, pFs_len]
  have hf : f < FK.length := (List.getElem?_eq_some_iff.mp hx).1
  by_cases h : f = i
  · subst h
    rw [if_pos rfl, if_pos hf, hx]
    simp
  · rw [if_neg h]
    cases hi : FK[i]? with
    | none => rfl
    | some y =>
      simp only [Option.map_some, Nat.zero_add]
      by_cases h1 : i < j
      · rw [if_pos h1, if_pos (by omega), bV_ar (ha i h1) (hr i h1)]
      · by_cases h2 : i < f
        · rw [if_neg h1, if_pos (by omega)]
          rcases hg i y hi (by omega) h2 with ⟨e1, e2⟩ | ⟨e1, e2⟩
          · rw [e1]; simp [dV, bV, e2]
          · rw [e1]; simp [dV, bV, e2]
        · rw [if_neg h1, if_neg (by omega)]
/-- a field that is no array; the references' reading may change above j -/
theorem pW_I2 {d : gD} {ci : Nat} {FK : FKs} {a : Nat → Nat} {rf rf' : rF} {rq : rQ} {σ : Bl} {j f κ N : Nat} {v : Value} (hx : FK[f]? = some (κ, N)) (hj : j ≤ f) (hg : gapOK rf' σ FK j f) (hr : ∀ g, g < j → rf' g (σ.1 g) = rf g (σ.1 g)) (hκ : κ = 0 ∨ κ = 5) (hv : bV a rf' σ f κ = v) :
    putO (pW d ci FK a rf rq σ j) (a 0) ci (pFs a rf σ j 0 FK) ((pFs a rf σ j 0 FK).set f v) (pW d ci FK a rf' rq σ (f + 1)) := by
  refine ⟨0, rfl, ?_⟩
  have e1 := pFs_set2 (a := a) (a' := a) hx hj hg (fun _ _ => rfl) hr
  rw [hv] at e1
  have e2 := pAs_set (cA := d.2.1) (a := a) (a' := a) (rq := rq) (σ := σ) (fun _ _ => rfl) hj FK 0 f hx (by omega) (fun g y hy g1 g2 => by
    rcases hg g y hy (by omega) (by omega) with h | h
    · exact Or.inl h.1
    · exact Or.inr h.1)
  have e3 : bC d.2.1 a rq σ f N κ = [] := by rcases hκ with h | h <;> rw [h] <;> rfl
  rw [e3, List.append_nil] at e2
  show (a 0, (Sum.inr (ci, _) : va_E)) :: pAs d.2.1 a rq σ j 0 FK = _
  rw [e1, e2]
  rfl
theorem pW_A3 {d : gD} {ci : Nat} {FK : FKs} {a : Nat → Nat} {rf : rF} {rq : rQ} {σ : Bl} {j f κ N q : Nat} {e9 : va_E} {F : va_W} (hx : FK[f]? = some (κ, N)) (hj : j ≤ f) (hg : gapOK rf σ FK j f) (hv : bV (upA a f q) rf σ f κ = .ref q) (hc : bC d.2.1 (upA a f q) rq σ f N κ = [(q, e9)]) :
    putO ((F ++ pW d ci FK a rf rq σ j) ++ [(q, e9)]) (a 0) ci (pFs a rf σ j 0 FK) ((pFs a rf σ j 0 FK).set f (.ref q)) (F ++ pW d ci FK (upA a f q) rf rq σ (f + 1)) := by
  rw [List.append_assoc]
  exact (pW_A hx hj hg hv hc).appR
theorem gapK {rf : rF} {σ : Bl} {FK : FKs} {j f : Nat} (h : (List.range f).all (fun g => decide (g < j) || (match FK[g]? with | some x => decide (x.1 = 0) && decide (σ.1 g = 0) | none => true)) = true) : gapOK rf σ FK j f := by
  intro g x hx h1 h2
  have := List.all_eq_true.mp h g (List.mem_range.mpr h2)
  rw [hx] at this
  simp only [Bool.or_eq_true, decide_eq_true_eq, Bool.and_eq_true] at this
  rcases this with h9 | h9
  · omega
  · exact Or.inl h9
theorem arrV_agree {cI : ClassId} {N : Nat} {f g : Nat → Value} (h : ∀ j, j < N → f j = g j) : arrV cI N f = arrV cI N g := by
  have e : (fun j : Fin N => f j.val) = (fun j : Fin N => g j.val) := funext fun j => h j.val j.2
  unfold arrV
  rw [e]
theorem asg_self (vm : Vm) (c : ClassId) : vm.assignable c c = true := by
  show vm.assignableAux (255 + 1) c c = true
  rw [Vm.assignableAux]
  simp
section GO
variable {Γ : Gam} {cc : ByteArray} {own : String} {fr : Nat × Nat × Nat} {lo k n pc : Nat} {ws ws' : va_W} {lv : List (Nat × Value)} {st : List Value}
theorem go_perm (h : ws.Perm ws') (kk : Go Γ k n ws' pc lv st) : Go Γ k n ws pc lv st := by
  obtain ⟨p, l, e, R, s, m, args, below, meth, c, nL, d, A, Q⟩ := Γ
  intro H locs ls hP hD hS hl
  exact kk H locs ls (hP.perm h) (hD.perm h) hS hl
/-- elements that the array has not are no matter -/
theorem go_refs {b c9 N : Nat} {f g : Nat → Option Nat} (hp : putA ws b (c9, N, .inr (.inr (.inr (.inr f)))) (c9, N, .inr (.inr (.inr (.inr g)))) ws') (h : ∀ j, j < N → f j = g j) (kk : Go Γ k n ws' pc lv st) : Go Γ k n ws pc lv st := by
  obtain ⟨p, l, e, R, s, m, args, below, meth, c, nL, d, A, Q⟩ := Γ
  intro H locs ls hP hD hS hl
  obtain ⟨q, hq, rfl⟩ := hp
  refine kk H locs ls (hP.set hD hq ?_ (fun _ _ => rfl)) (hD.set hq) hS hl
  have h1 := hP q _ hq
  show H[b]? = some (vp_cell _ _)
  rw [vp_cell_q, ← arrV_agree (f := fun j => va_rf (f j)) (fun j hj => by rw [h j hj]), ← vp_cell_q]
  exact h1
theorem go_aastS (i' : Nat) (hi : i' < 23) (C : Cx Γ cc own fr lo) {b N : Nat} {f : Nat → Option Nat} {i : Int32} (ha : putA ws b (Γ.d.2.1 4, N, .inr (.inr (.inr (.inr f)))) (Γ.d.2.1 4, N, .inr (.inr (.inr (.inr (va_up f i.toNatClampNeg (some (Γ.d.2.2.1 i'))))))) ws') (h : inB i N = true) (hd : decode cc pc = .ok (.aastore, 1)) (kk : Go Γ k n ws' (pc + 1) lv st) : Go Γ k n ws pc lv (.ref (Γ.d.2.2.1 i') :: .int i :: .ref b :: st) := by
  obtain ⟨p, l, e, R, s, m, args, below, meth, c, nL, d, A, Q⟩ := Γ
  obtain ⟨hx, hb, hml, hown, hts, hlk, hK, hA, hZ, ⟨hfr, hce, hsl⟩, hlo⟩ := C
  intro H locs ls hP hD hS hl
  obtain ⟨q, hq, rfl⟩ := ha
  obtain ⟨cell, g1, g2, g3, g4⟩ := (hZ.1.1 i' hi).1
  obtain ⟨kC, hkC, -⟩ := Vm.findClass_spec g3
  have hlt : d.2.2.1 i' < s.heap.size := (Array.getElem?_eq_some_iff.mp g1).1
  exact va_astqM hx hb hK hP hD hS q 4 hq rfl ⟨cell, by rw [hS.2.1 _ hlt g4]; exact g1, g2, ⟨kC, hkC⟩, fun comp hc => by
    have : comp = cell.cls := Option.some.inj (hc.symm.trans g3)
    rw [this]; exact asg_self _ _⟩ (inB_in h) hd (fun H1 locs1 hP1 hD1 hS1 => kk H1 locs1 ls hP1 hD1 hS1 hl)
end GO
def rfR (q1 q2 q3 q4 q5 : Nat) : rF := fun f z => match f with
  | 0 => if z = 0 then .null else .ref q1
  | 1 => .ref q1
  | 2 => .ref q2
  | 3 => .ref q3
  | 4 => .ref q4
  | _ => .ref q5
def rqR (d : gD) : rQ := fun f i z => match f with
  | 9 => some (d.2.2.1 (1 + i))
  | 10 => some (d.2.2.1 (6 + i))
  | 11 => some (d.2.2.1 (7 + i))
  | _ => none
/-- a new PartyRaft's addresses -/
def aN (d : gD) (a a1 a2 a3 a4 : Nat → Nat) (q5 : Nat) : XA := (fun j f => match j with
  | 0 => a f
  | 1 => a1 f
  | 2 => a2 f
  | 3 => a3 f
  | 4 => a4 f
  | 13 => q5
  | _ => 0, fun f => match f with
  | 3 => .ref (d.2.2.1 0)
  | _ => .null, fun _ => 0)
theorem bAs_rq {cA : Nat → ClassId} {a : Nat → Nat} {rq rq' : rQ} {σ : Bl} (h : ∀ f i, rq f i (σ.2.1 f i) = rq' f i (σ.2.1 f i)) : ∀ (FK : FKs) (o : Nat), bAs cA a rq σ o FK = bAs cA a rq' σ o FK
  | [], _ => rfl
  | x :: t, o => by
    rw [bAs, bAs, bAs_rq h t (o + 1)]
    congr 1
    match x.1 with
    | 0 => rfl
    | 1 => rfl
    | 2 => rfl
    | 3 => rfl
    | 4 => rfl
    | 5 => rfl
    | k + 6 => simp [bC, h]
theorem raftB {d : gD} {a a1 a2 a3 a4 : Nat → Nat} {q5 : Nat} : bWr d 0 FK0 a (rfR (a1 0) (a2 0) (a3 0) (a4 0) q5) (rqR d) s1i = XB d (aN d a a1 a2 a3 a4 q5) 0 s1i := by
  have e : bAs d.2.1 a (rqR d) s1i 0 FK0 = bAs d.2.1 a (xrq d (aN d a a1 a2 a3 a4 q5) 0) s1i 0 FK0 := by
    refine bAs_rq (fun f i => ?_) FK0 0
    match f with
    | 9 => rfl
    | 10 => rfl
    | 11 => rfl
    | 12 => rfl
    | 0 => rfl
    | 1 => rfl
    | 2 => rfl
    | 3 => rfl
    | 4 => rfl
    | 5 => rfl
    | 6 => rfl
    | 7 => rfl
    | 8 => rfl
    | f + 13 => rfl
  show (a 0, _) :: bAs d.2.1 a (rqR d) s1i 0 FK0 = _
  rw [e]
  rfl

theorem m0_init {l : Launch} {d : gD} {b : Nat} : Mt l d yX0_init cX0_init 1 none (5, 88, 7592) 150 (pW d 0 FK0 (fun _ => b) (rfR 0 0 0 0 0) (rqR d) s1i 0) [.ref b] (fun v w => v = none ∧ ∃ A : XA, A.1 0 0 = b ∧ w = XW d A [0, 1, 2, 3, 4, 13] [] (fun _ => s1i)) := by
  refine Mt.ofI (by decide +kernel) (Nat.le_of_ble_eq_true rfl) rfl ?_
  intro Γ hl hd hN hI C hE
  subst hl; subst hd
  show Go Γ 0 0 (pW Γ.d 0 FK0 (fun _ => b) (rfR 0 0 0 0 0) (rqR Γ.d) s1i 0) 0 [(0, .ref b)] []
  refine go_aload_n (pc := 0) C dX0_init_0 rfl 0 rfl ?_
  refine go_objInit (pc := 1) C q169 q170 q171 (by decide) (by decide) dX0_init_1 ?_
  refine go_aload_n (pc := 4) C dX0_init_4 rfl 0 rfl ?_
  refine go_mkFlow (pc := 5) C q172 q174 (by decide) (by decide) (Nat.le_of_ble_eq_true rfl) ⟨by decide, by decide⟩ dX0_init_5 dX0_init_8 dX0_init_9 (fun a1 => ?_)
  refine go_putF (pc := 12) (v := .ref (a1 0)) (ty := .object "PartyRaft$Flow") C hI 1 (putO.appL (pW_I2 (f := 1) (j := 0) (FK := FK0) (σ := s1i) (rf := (rfR 0 0 0 0 0)) (rf' := (rfR (a1 0) 0 0 0 0)) (rq := rqR Γ.d) (a := fun _ => b) rfl (by decide) (by intro g x hx h1 h2; have h9 : g = 0 := (by omega); subst h9; cases hx; exact Or.inr ⟨rfl, rfl⟩) (fun g h => absurd h (Nat.not_lt_zero g)) (Or.inr rfl) rfl)) (ci := 0) xc0 in_X0 tyX0 tyX0_ok nmX0 (by decide) q406 rfl rfl rfl rfl rfl (by rw [pFs_len]; decide) dX0_init_12 ?_
  refine go_aload_n (pc := 15) C dX0_init_15 rfl 0 rfl ?_
  refine go_mkFlow (pc := 16) C q172 q174 (by decide) (by decide) (Nat.le_of_ble_eq_true rfl) ⟨by decide, by decide⟩ dX0_init_16 dX0_init_19 dX0_init_20 (fun a2 => ?_)
  refine go_putF (pc := 23) (v := .ref (a2 0)) (ty := .object "PartyRaft$Flow") C hI 2 (putO.appL (putO.appL (pW_I2 (f := 2) (j := 2) (FK := FK0) (σ := s1i) (rf := (rfR (a1 0) 0 0 0 0)) (rf' := (rfR (a1 0) (a2 0) 0 0 0)) (rq := rqR Γ.d) (a := fun _ => b) rfl (by decide) gap0 (by intro g h; rcases (show g = 0 ∨ g = 1 by omega) with rfl | rfl <;> rfl) (Or.inr rfl) rfl))) (ci := 0) xc0 in_X0 tyX0 tyX0_ok nmX0 (by decide) q407 rfl rfl rfl rfl rfl (by rw [pFs_len]; decide) dX0_init_23 ?_
  refine go_aload_n (pc := 26) C dX0_init_26 rfl 0 rfl ?_
  refine go_mkFlow (pc := 27) C q172 q174 (by decide) (by decide) (Nat.le_of_ble_eq_true rfl) ⟨by decide, by decide⟩ dX0_init_27 dX0_init_30 dX0_init_31 (fun a3 => ?_)
  refine go_putF (pc := 34) (v := .ref (a3 0)) (ty := .object "PartyRaft$Flow") C hI 3 (putO.appL (putO.appL (putO.appL (pW_I2 (f := 3) (j := 3) (FK := FK0) (σ := s1i) (rf := (rfR (a1 0) (a2 0) 0 0 0)) (rf' := (rfR (a1 0) (a2 0) (a3 0) 0 0)) (rq := rqR Γ.d) (a := fun _ => b) rfl (by decide) gap0 (by intro g h; rcases (show g = 0 ∨ g = 1 ∨ g = 2 by omega) with rfl | rfl | rfl <;> rfl) (Or.inr rfl) rfl)))) (ci := 0) xc0 in_X0 tyX0 tyX0_ok nmX0 (by decide) q409 rfl rfl rfl rfl rfl (by rw [pFs_len]; decide) dX0_init_34 ?_
  refine go_aload_n (pc := 37) C dX0_init_37 rfl 0 rfl ?_
  refine go_mkFlow (pc := 38) C q172 q174 (by decide) (by decide) (Nat.le_of_ble_eq_true rfl) ⟨by decide, by decide⟩ dX0_init_38 dX0_init_41 dX0_init_42 (fun a4 => ?_)
  refine go_putF (pc := 45) (v := .ref (a4 0)) (ty := .object "PartyRaft$Flow") C hI 4 (putO.appL (putO.appL (putO.appL (putO.appL (pW_I2 (f := 4) (j := 4) (FK := FK0) (σ := s1i) (rf := (rfR (a1 0) (a2 0) (a3 0) 0 0)) (rf' := (rfR (a1 0) (a2 0) (a3 0) (a4 0) 0)) (rq := rqR Γ.d) (a := fun _ => b) rfl (by decide) gap0 (by intro g h; rcases (show g = 0 ∨ g = 1 ∨ g = 2 ∨ g = 3 by omega) with rfl | rfl | rfl | rfl <;> rfl) (Or.inr rfl) rfl))))) (ci := 0) xc0 in_X0 tyX0 tyX0_ok nmX0 (by decide) q410 rfl rfl rfl rfl rfl (by rw [pFs_len]; decide) dX0_init_45 ?_
  refine go_aload_n (pc := 48) C dX0_init_48 rfl 0 rfl ?_
  refine go_new (pc := 49) (ci := 2) (T := TX2) (N := 8) (fs := [.null, .null, .null, .null, .null, .int 0, .int 0, .int 0]) C in_X2 tyX2 tyX2_ok q307 q308 q143 rfl (dflt_all (by decide +kernel)) ⟨by decide, by decide⟩ dX0_init_49 (fun q5 => ?_)
  refine go_dup (pc := 52) C dX0_init_52 rfl ?_
  refine go_callI (pc := 53) C [] (Mt.frame ((((pW Γ.d 0 FK0 (fun _ => b) (rfR (a1 0) (a2 0) (a3 0) (a4 0) 0) (rqR Γ.d) s1i 5 ++ bW Γ.d 1 FK1 a1 s1i) ++ bW Γ.d 1 FK1 a2 s1i) ++ bW Γ.d 1 FK1 a3 s1i) ++ bW Γ.d 1 FK1 a4 s1i) [] (m2_init (b := q5))) q346 q347 q143 q348 rfl (by decide +kernel) ⟨by decide, by decide⟩ rfl (Nat.le_of_ble_eq_true rfl) ⟨by decide, by decide⟩ dX0_init_53 rfl (fun v9 w9 h9 => ?_)
  obtain ⟨w0, ⟨rfl, rfl⟩, rfl⟩ := h9
  rw [List.append_nil]
  refine go_putF (pc := 56) (v := .ref q5) (ty := .object "PartyRaft$Fault") C hI 6 (putO.appL (putO.appL (putO.appL (putO.appL (putO.appL (pW_I2 (f := 6) (j := 5) (FK := FK0) (σ := s1i) (rf := (rfR (a1 0) (a2 0) (a3 0) (a4 0) 0)) (rf' := (rfR (a1 0) (a2 0) (a3 0) (a4 0) q5)) (rq := rqR Γ.d) (a := fun _ => b) rfl (by decide) (gapK (by decide +kernel)) (by intro g h; rcases (show g = 0 ∨ g = 1 ∨ g = 2 ∨ g = 3 ∨ g = 4 by omega) with rfl | rfl | rfl | rfl | rfl <;> rfl) (Or.inr rfl) rfl)))))) (ci := 0) xc0 in_X0 tyX0 tyX0_ok nmX0 (by decide) q414 rfl rfl rfl rfl rfl (by rw [pFs_len]; decide) dX0_init_56 ?_
  refine go_perm (ws' := ((bW Γ.d 1 FK1 a1 s1i ++ (bW Γ.d 1 FK1 a2 s1i ++ (bW Γ.d 1 FK1 a3 s1i ++ (bW Γ.d 1 FK1 a4 s1i ++ [(q5, .inr (2, [.null, .null, .null, .ref (Γ.d.2.2.1 0), .null, .int 0, .int 0, .int 0]))])))) : va_W) ++ pW Γ.d 0 FK0 (fun _ => b) (rfR (a1 0) (a2 0) (a3 0) (a4 0) q5) (rqR Γ.d) s1i 7) ?_ ?_
  · rw [List.append_assoc, List.append_assoc, List.append_assoc, List.append_assoc]
    exact List.perm_append_comm
  generalize hF : ((bW Γ.d 1 FK1 a1 s1i ++ (bW Γ.d 1 FK1 a2 s1i ++ (bW Γ.d 1 FK1 a3 s1i ++ (bW Γ.d 1 FK1 a4 s1i ++ [(q5, .inr (2, [.null, .null, .null, .ref (Γ.d.2.2.1 0), .null, .int 0, .int 0, .int 0]))])))) : va_W) = F
  refine go_aload_n (pc := 59) C dX0_init_59 rfl 0 rfl ?_
  refine go_sipush (pc := 60) (v := (400 : Int32)) C dX0_init_60 (by decide) ?_
  refine go_newarr (pc := 63) (t := 1) (ty := .byte) (N := 400) (a0 := (400, .inl (fun _ => 0))) C rfl q380 rfl (fun _ => rfl) (by decide) (by decide) (by decide) ⟨by decide, by decide⟩ dX0_init_63 (fun r1 => ?_)
  refine go_putF (pc := 65) (v := .ref r1) (ty := .array .byte) C hI 7 (pW_A3 (f := 7) (j := 7) (q := r1) (σ := s1i) (rf := (rfR (a1 0) (a2 0) (a3 0) (a4 0) q5)) (rq := rqR Γ.d) (FK := FK0) rfl (by decide) gap0 rfl rfl) (ci := 0) xc0 in_X0 tyX0 tyX0_ok nmX0 (by decide) q416 rfl rfl rfl rfl rfl (by rw [pFs_len]; decide) dX0_init_65 ?_
  refine go_aload_n (pc := 68) C dX0_init_68 rfl 0 rfl ?_
  refine go_iconst (pc := 69) (v := (5 : Int32)) C dX0_init_69 (by decide) ?_
  refine go_anew (pc := 70) (t := 4) (N := 5) (cn := "java/lang/String") C rfl q381 q382 (by decide) (by decide) (by decide) ⟨by decide, by decide⟩ dX0_init_70 (fun r2 => ?_)
  refine go_dup (pc := 73) C dX0_init_73 rfl ?_
  refine go_iconst (pc := 74) (v := (0 : Int32)) C dX0_init_74 (by decide) ?_
  refine go_ldcS 1 (pc := 75) C dX0_init_75 (by decide +kernel) ?_
  refine go_aastS 1 (pc := 77) (by decide) C (putA.appR ⟨0, rfl, rfl⟩) (by decide) dX0_init_77 ?_
  refine go_dup (pc := 78) C dX0_init_78 rfl ?_
  refine go_iconst (pc := 79) (v := (1 : Int32)) C dX0_init_79 (by decide) ?_
  refine go_ldcS 2 (pc := 80) C dX0_init_80 (by decide +kernel) ?_
  refine go_aastS 2 (pc := 82) (by decide) C (putA.appR ⟨0, rfl, rfl⟩) (by decide) dX0_init_82 ?_
  refine go_dup (pc := 83) C dX0_init_83 rfl ?_
  refine go_iconst (pc := 84) (v := (2 : Int32)) C dX0_init_84 (by decide) ?_
  refine go_ldcS 3 (pc := 85) C dX0_init_85 (by decide +kernel) ?_
  refine go_aastS 3 (pc := 87) (by decide) C (putA.appR ⟨0, rfl, rfl⟩) (by decide) dX0_init_87 ?_
  refine go_dup (pc := 88) C dX0_init_88 rfl ?_
  refine go_iconst (pc := 89) (v := (3 : Int32)) C dX0_init_89 (by decide) ?_
  refine go_ldcS 4 (pc := 90) C dX0_init_90 (by decide +kernel) ?_
  refine go_aastS 4 (pc := 92) (by decide) C (putA.appR ⟨0, rfl, rfl⟩) (by decide) dX0_init_92 ?_
  refine go_dup (pc := 93) C dX0_init_93 rfl ?_
  refine go_iconst (pc := 94) (v := (4 : Int32)) C dX0_init_94 (by decide) ?_
  refine go_ldcS 5 (pc := 95) C dX0_init_95 (by decide +kernel) ?_
  refine go_aastS 5 (pc := 97) (by decide) C (putA.appR ⟨0, rfl, rfl⟩) (by decide) dX0_init_97 ?_
  refine go_refs (b := r2) (N := 5) (f := (va_up (va_up (va_up (va_up (va_up (fun _ => none) (0 : Int32).toNatClampNeg (some (Γ.d.2.2.1 1))) (1 : Int32).toNatClampNeg (some (Γ.d.2.2.1 2))) (2 : Int32).toNatClampNeg (some (Γ.d.2.2.1 3))) (3 : Int32).toNatClampNeg (some (Γ.d.2.2.1 4))) (4 : Int32).toNatClampNeg (some (Γ.d.2.2.1 5)))) (g := fun i => some (Γ.d.2.2.1 (1 + i))) (putA.appR ⟨0, rfl, rfl⟩) ?_ ?_
  · intro j hj
    rcases (show j = 0 ∨ j = 1 ∨ j = 2 ∨ j = 3 ∨ j = 4 by omega) with rfl | rfl | rfl | rfl | rfl <;> rfl
  refine go_putF (pc := 98) (v := .ref r2) (ty := .array (.object "java/lang/String")) C hI 9 (pW_A3 (f := 9) (j := 8) (q := r2) (σ := s1i) (rf := (rfR (a1 0) (a2 0) (a3 0) (a4 0) q5)) (rq := rqR Γ.d) (FK := FK0) rfl (by decide) (gapK (by decide +kernel)) rfl rfl) (ci := 0) xc0 in_X0 tyX0 tyX0_ok nmX0 (by decide) q419 rfl rfl rfl rfl rfl (by rw [pFs_len]; decide) dX0_init_98 ?_
  refine go_aload_n (pc := 101) C dX0_init_101 rfl 0 rfl ?_
  refine go_iconst (pc := 102) (v := (1 : Int32)) C dX0_init_102 (by decide) ?_
  refine go_anew (pc := 103) (t := 4) (N := 1) (cn := "java/lang/String") C rfl q381 q382 (by decide) (by decide) (by decide) ⟨by decide, by decide⟩ dX0_init_103 (fun r3 => ?_)
  refine go_dup (pc := 106) C dX0_init_106 rfl ?_
  refine go_iconst (pc := 107) (v := (0 : Int32)) C dX0_init_107 (by decide) ?_
  refine go_ldcS 6 (pc := 108) C dX0_init_108 (by decide +kernel) ?_
  refine go_aastS 6 (pc := 110) (by decide) C (putA.appR ⟨0, rfl, rfl⟩) (by decide) dX0_init_110 ?_
  refine go_refs (b := r3) (N := 1) (f := (va_up (fun _ => none) (0 : Int32).toNatClampNeg (some (Γ.d.2.2.1 6)))) (g := fun i => some (Γ.d.2.2.1 (6 + i))) (putA.appR ⟨0, rfl, rfl⟩) ?_ ?_
  · intro j hj
    rcases (show j = 0 by omega) with rfl <;> rfl
  refine go_putF (pc := 111) (v := .ref r3) (ty := .array (.object "java/lang/String")) C hI 10 (pW_A3 (f := 10) (j := 10) (q := r3) (σ := s1i) (rf := (rfR (a1 0) (a2 0) (a3 0) (a4 0) q5)) (rq := rqR Γ.d) (FK := FK0) rfl (by decide) gap0 rfl rfl) (ci := 0) xc0 in_X0 tyX0 tyX0_ok nmX0 (by decide) q421 rfl rfl rfl rfl rfl (by rw [pFs_len]; decide) dX0_init_111 ?_
  refine go_aload_n (pc := 114) C dX0_init_114 rfl 0 rfl ?_
  refine go_bipush (pc := 115) (v := (12 : Int32)) C dX0_init_115 (by decide) ?_
  refine go_anew (pc := 117) (t := 4) (N := 12) (cn := "java/lang/String") C rfl q381 q382 (by decide) (by decide) (by decide) ⟨by decide, by decide⟩ dX0_init_117 (fun r4 => ?_)
  refine go_dup (pc := 120) C dX0_init_120 rfl ?_
  refine go_iconst (pc := 121) (v := (0 : Int32)) C dX0_init_121 (by decide) ?_
  refine go_ldcS 7 (pc := 122) C dX0_init_122 (by decide +kernel) ?_
  refine go_aastS 7 (pc := 124) (by decide) C (putA.appR ⟨0, rfl, rfl⟩) (by decide) dX0_init_124 ?_
  refine go_dup (pc := 125) C dX0_init_125 rfl ?_
  refine go_iconst (pc := 126) (v := (1 : Int32)) C dX0_init_126 (by decide) ?_
  refine go_ldcS 8 (pc := 127) C dX0_init_127 (by decide +kernel) ?_
  refine go_aastS 8 (pc := 129) (by decide) C (putA.appR ⟨0, rfl, rfl⟩) (by decide) dX0_init_129 ?_
  refine go_dup (pc := 130) C dX0_init_130 rfl ?_
  refine go_iconst (pc := 131) (v := (2 : Int32)) C dX0_init_131 (by decide) ?_
  refine go_ldcS 9 (pc := 132) C dX0_init_132 (by decide +kernel) ?_
  refine go_aastS 9 (pc := 134) (by decide) C (putA.appR ⟨0, rfl, rfl⟩) (by decide) dX0_init_134 ?_
  refine go_dup (pc := 135) C dX0_init_135 rfl ?_
  refine go_iconst (pc := 136) (v := (3 : Int32)) C dX0_init_136 (by decide) ?_
  refine go_ldcS 10 (pc := 137) C dX0_init_137 (by decide +kernel) ?_
  refine go_aastS 10 (pc := 139) (by decide) C (putA.appR ⟨0, rfl, rfl⟩) (by decide) dX0_init_139 ?_
  refine go_dup (pc := 140) C dX0_init_140 rfl ?_
  refine go_iconst (pc := 141) (v := (4 : Int32)) C dX0_init_141 (by decide) ?_
  refine go_ldcS 11 (pc := 142) C dX0_init_142 (by decide +kernel) ?_
  refine go_aastS 11 (pc := 144) (by decide) C (putA.appR ⟨0, rfl, rfl⟩) (by decide) dX0_init_144 ?_
  refine go_dup (pc := 145) C dX0_init_145 rfl ?_
  refine go_iconst (pc := 146) (v := (5 : Int32)) C dX0_init_146 (by decide) ?_
  refine go_ldcS 12 (pc := 147) C dX0_init_147 (by decide +kernel) ?_
  refine go_aastS 12 (pc := 149) (by decide) C (putA.appR ⟨0, rfl, rfl⟩) (by decide) dX0_init_149 ?_
  refine go_dup (pc := 150) C dX0_init_150 rfl ?_
  refine go_bipush (pc := 151) (v := (6 : Int32)) C dX0_init_151 (by decide) ?_
  refine go_ldcS 13 (pc := 153) C dX0_init_153 (by decide +kernel) ?_
  refine go_aastS 13 (pc := 155) (by decide) C (putA.appR ⟨0, rfl, rfl⟩) (by decide) dX0_init_155 ?_
  refine go_dup (pc := 156) C dX0_init_156 rfl ?_
  refine go_bipush (pc := 157) (v := (7 : Int32)) C dX0_init_157 (by decide) ?_
  refine go_ldcS 14 (pc := 159) C dX0_init_159 (by decide +kernel) ?_
  refine go_aastS 14 (pc := 161) (by decide) C (putA.appR ⟨0, rfl, rfl⟩) (by decide) dX0_init_161 ?_
  refine go_dup (pc := 162) C dX0_init_162 rfl ?_
  refine go_bipush (pc := 163) (v := (8 : Int32)) C dX0_init_163 (by decide) ?_
  refine go_ldcS 15 (pc := 165) C dX0_init_165 (by decide +kernel) ?_
  refine go_aastS 15 (pc := 167) (by decide) C (putA.appR ⟨0, rfl, rfl⟩) (by decide) dX0_init_167 ?_
  refine go_dup (pc := 168) C dX0_init_168 rfl ?_
  refine go_bipush (pc := 169) (v := (9 : Int32)) C dX0_init_169 (by decide) ?_
  refine go_ldcS 16 (pc := 171) C dX0_init_171 (by decide +kernel) ?_
  refine go_aastS 16 (pc := 173) (by decide) C (putA.appR ⟨0, rfl, rfl⟩) (by decide) dX0_init_173 ?_
  refine go_dup (pc := 174) C dX0_init_174 rfl ?_
  refine go_bipush (pc := 175) (v := (10 : Int32)) C dX0_init_175 (by decide) ?_
  refine go_ldcS 17 (pc := 177) C dX0_init_177 (by decide +kernel) ?_
  refine go_aastS 17 (pc := 179) (by decide) C (putA.appR ⟨0, rfl, rfl⟩) (by decide) dX0_init_179 ?_
  refine go_dup (pc := 180) C dX0_init_180 rfl ?_
  refine go_bipush (pc := 181) (v := (11 : Int32)) C dX0_init_181 (by decide) ?_
  refine go_ldcS 18 (pc := 183) C dX0_init_183 (by decide +kernel) ?_
  refine go_aastS 18 (pc := 185) (by decide) C (putA.appR ⟨0, rfl, rfl⟩) (by decide) dX0_init_185 ?_
  refine go_refs (b := r4) (N := 12) (f := (va_up (va_up (va_up (va_up (va_up (va_up (va_up (va_up (va_up (va_up (va_up (va_up (fun _ => none) (0 : Int32).toNatClampNeg (some (Γ.d.2.2.1 7))) (1 : Int32).toNatClampNeg (some (Γ.d.2.2.1 8))) (2 : Int32).toNatClampNeg (some (Γ.d.2.2.1 9))) (3 : Int32).toNatClampNeg (some (Γ.d.2.2.1 10))) (4 : Int32).toNatClampNeg (some (Γ.d.2.2.1 11))) (5 : Int32).toNatClampNeg (some (Γ.d.2.2.1 12))) (6 : Int32).toNatClampNeg (some (Γ.d.2.2.1 13))) (7 : Int32).toNatClampNeg (some (Γ.d.2.2.1 14))) (8 : Int32).toNatClampNeg (some (Γ.d.2.2.1 15))) (9 : Int32).toNatClampNeg (some (Γ.d.2.2.1 16))) (10 : Int32).toNatClampNeg (some (Γ.d.2.2.1 17))) (11 : Int32).toNatClampNeg (some (Γ.d.2.2.1 18)))) (g := fun i => some (Γ.d.2.2.1 (7 + i))) (putA.appR ⟨0, rfl, rfl⟩) ?_ ?_
  · intro j hj
    rcases (show j = 0 ∨ j = 1 ∨ j = 2 ∨ j = 3 ∨ j = 4 ∨ j = 5 ∨ j = 6 ∨ j = 7 ∨ j = 8 ∨ j = 9 ∨ j = 10 ∨ j = 11 by omega) with rfl | rfl | rfl | rfl | rfl | rfl | rfl | rfl | rfl | rfl | rfl | rfl <;> rfl
  refine go_putF (pc := 186) (v := .ref r4) (ty := .array (.object "java/lang/String")) C hI 11 (pW_A3 (f := 11) (j := 11) (q := r4) (σ := s1i) (rf := (rfR (a1 0) (a2 0) (a3 0) (a4 0) q5)) (rq := rqR Γ.d) (FK := FK0) rfl (by decide) gap0 rfl rfl) (ci := 0) xc0 in_X0 tyX0 tyX0_ok nmX0 (by decide) q424 rfl rfl rfl rfl rfl (by rw [pFs_len]; decide) dX0_init_186 ?_
  refine go_aload_n (pc := 189) C dX0_init_189 rfl 0 rfl ?_
  refine go_bipush (pc := 190) (v := (6 : Int32)) C dX0_init_190 (by decide) ?_
  refine go_anew (pc := 192) (t := 6) (N := 6) (cn := "PartyRaft$Rule") C rfl q401 q402 (by decide) (by decide) (by decide) ⟨by decide, by decide⟩ dX0_init_192 (fun r5 => ?_)
  refine go_putF (pc := 195) (v := .ref r5) (ty := .array (.object "PartyRaft$Rule")) C hI 12 (pW_A3 (f := 12) (j := 12) (q := r5) (σ := s1i) (rf := (rfR (a1 0) (a2 0) (a3 0) (a4 0) q5)) (rq := rqR Γ.d) (FK := FK0) rfl (by decide) gap0 rfl rfl) (ci := 0) xc0 in_X0 tyX0 tyX0_ok nmX0 (by decide) q425 rfl rfl rfl rfl rfl (by rw [pFs_len]; decide) dX0_init_195 ?_
  refine go_aload_n (pc := 198) C dX0_init_198 rfl 0 rfl ?_
  refine go_bipush (pc := 199) (v := (12 : Int32)) C dX0_init_199 (by decide) ?_
  refine go_newarr (pc := 201) (t := 3) (ty := .long) (N := 12) (a0 := (12, .inr (.inl (fun _ => 0)))) C rfl q501 rfl (fun _ => rfl) (by decide) (by decide) (by decide) ⟨by decide, by decide⟩ dX0_init_201 (fun r6 => ?_)
  refine go_putF (pc := 203) (v := .ref r6) (ty := .array .long) C hI 14 (pW_A3 (f := 14) (j := 13) (q := r6) (σ := s1i) (rf := (rfR (a1 0) (a2 0) (a3 0) (a4 0) q5)) (rq := rqR Γ.d) (FK := FK0) rfl (by decide) (gapK (by decide +kernel)) rfl rfl) (ci := 0) xc0 in_X0 tyX0 tyX0_ok nmX0 (by decide) q427 rfl rfl rfl rfl rfl (by rw [pFs_len]; decide) dX0_init_203 ?_
  refine go_aload_n (pc := 206) C dX0_init_206 rfl 0 rfl ?_
  refine go_bipush (pc := 207) (v := (7 : Int32)) C dX0_init_207 (by decide) ?_
  refine go_newarr (pc := 209) (t := 0) (ty := .int) (N := 7) (a0 := (7, .inl (fun _ => 0))) C rfl q306 rfl (fun _ => rfl) (by decide) (by decide) (by decide) ⟨by decide, by decide⟩ dX0_init_209 (fun r7 => ?_)
  refine go_putF (pc := 211) (v := .ref r7) (ty := .array .int) C hI 15 (pW_A3 (f := 15) (j := 15) (q := r7) (σ := s1i) (rf := (rfR (a1 0) (a2 0) (a3 0) (a4 0) q5)) (rq := rqR Γ.d) (FK := FK0) rfl (by decide) gap0 rfl rfl) (ci := 0) xc0 in_X0 tyX0 tyX0_ok nmX0 (by decide) q428 rfl rfl rfl rfl rfl (by rw [pFs_len]; decide) dX0_init_211 ?_
  refine go_aload_n (pc := 214) C dX0_init_214 rfl 0 rfl ?_
  refine go_bipush (pc := 215) (v := (7 : Int32)) C dX0_init_215 (by decide) ?_
  refine go_newarr (pc := 217) (t := 0) (ty := .int) (N := 7) (a0 := (7, .inl (fun _ => 0))) C rfl q306 rfl (fun _ => rfl) (by decide) (by decide) (by decide) ⟨by decide, by decide⟩ dX0_init_217 (fun r8 => ?_)
  refine go_putF (pc := 219) (v := .ref r8) (ty := .array .int) C hI 16 (pW_A3 (f := 16) (j := 16) (q := r8) (σ := s1i) (rf := (rfR (a1 0) (a2 0) (a3 0) (a4 0) q5)) (rq := rqR Γ.d) (FK := FK0) rfl (by decide) gap0 rfl rfl) (ci := 0) xc0 in_X0 tyX0 tyX0_ok nmX0 (by decide) q429 rfl rfl rfl rfl rfl (by rw [pFs_len]; decide) dX0_init_219 ?_
  refine go_aload_n (pc := 222) C dX0_init_222 rfl 0 rfl ?_
  refine go_bipush (pc := 223) (v := (6 : Int32)) C dX0_init_223 (by decide) ?_
  refine go_newarr (pc := 225) (t := 0) (ty := .int) (N := 6) (a0 := (6, .inl (fun _ => 0))) C rfl q306 rfl (fun _ => rfl) (by decide) (by decide) (by decide) ⟨by decide, by decide⟩ dX0_init_225 (fun r9 => ?_)
  refine go_putF (pc := 227) (v := .ref r9) (ty := .array .int) C hI 17 (pW_A3 (f := 17) (j := 17) (q := r9) (σ := s1i) (rf := (rfR (a1 0) (a2 0) (a3 0) (a4 0) q5)) (rq := rqR Γ.d) (FK := FK0) rfl (by decide) gap0 rfl rfl) (ci := 0) xc0 in_X0 tyX0 tyX0_ok nmX0 (by decide) q430 rfl rfl rfl rfl rfl (by rw [pFs_len]; decide) dX0_init_227 ?_
  refine go_aload_n (pc := 230) C dX0_init_230 rfl 0 rfl ?_
  refine go_bipush (pc := 231) (v := (8 : Int32)) C dX0_init_231 (by decide) ?_
  refine go_newarr (pc := 233) (t := 0) (ty := .int) (N := 8) (a0 := (8, .inl (fun _ => 0))) C rfl q306 rfl (fun _ => rfl) (by decide) (by decide) (by decide) ⟨by decide, by decide⟩ dX0_init_233 (fun r10 => ?_)
  refine go_putF (pc := 235) (v := .ref r10) (ty := .array .int) C hI 21 (pW_A3 (f := 21) (j := 18) (q := r10) (σ := s1i) (rf := (rfR (a1 0) (a2 0) (a3 0) (a4 0) q5)) (rq := rqR Γ.d) (FK := FK0) rfl (by decide) (gapK (by decide +kernel)) rfl rfl) (ci := 0) xc0 in_X0 tyX0 tyX0_ok nmX0 (by decide) q434 rfl rfl rfl rfl rfl (by rw [pFs_len]; decide) dX0_init_235 ?_
  refine go_aload_n (pc := 238) C dX0_init_238 rfl 0 rfl ?_
  refine go_bipush (pc := 239) (v := (8 : Int32)) C dX0_init_239 (by decide) ?_
  refine go_newarr (pc := 241) (t := 0) (ty := .int) (N := 8) (a0 := (8, .inl (fun _ => 0))) C rfl q306 rfl (fun _ => rfl) (by decide) (by decide) (by decide) ⟨by decide, by decide⟩ dX0_init_241 (fun r11 => ?_)
  refine go_putF (pc := 243) (v := .ref r11) (ty := .array .int) C hI 22 (pW_A3 (f := 22) (j := 22) (q := r11) (σ := s1i) (rf := (rfR (a1 0) (a2 0) (a3 0) (a4 0) q5)) (rq := rqR Γ.d) (FK := FK0) rfl (by decide) gap0 rfl rfl) (ci := 0) xc0 in_X0 tyX0 tyX0_ok nmX0 (by decide) q435 rfl rfl rfl rfl rfl (by rw [pFs_len]; decide) dX0_init_243 ?_
  refine go_aload_n (pc := 246) C dX0_init_246 rfl 0 rfl ?_
  refine go_bipush (pc := 247) (v := (8 : Int32)) C dX0_init_247 (by decide) ?_
  refine go_newarr (pc := 249) (t := 0) (ty := .int) (N := 8) (a0 := (8, .inl (fun _ => 0))) C rfl q306 rfl (fun _ => rfl) (by decide) (by decide) (by decide) ⟨by decide, by decide⟩ dX0_init_249 (fun r12 => ?_)
  refine go_putF (pc := 251) (v := .ref r12) (ty := .array .int) C hI 23 (pW_A3 (f := 23) (j := 23) (q := r12) (σ := s1i) (rf := (rfR (a1 0) (a2 0) (a3 0) (a4 0) q5)) (rq := rqR Γ.d) (FK := FK0) rfl (by decide) gap0 rfl rfl) (ci := 0) xc0 in_X0 tyX0 tyX0_ok nmX0 (by decide) q436 rfl rfl rfl rfl rfl (by rw [pFs_len]; decide) dX0_init_251 ?_
  refine go_aload_n (pc := 254) C dX0_init_254 rfl 0 rfl ?_
  refine go_bipush (pc := 255) (v := (8 : Int32)) C dX0_init_255 (by decide) ?_
  refine go_newarr (pc := 257) (t := 0) (ty := .int) (N := 8) (a0 := (8, .inl (fun _ => 0))) C rfl q306 rfl (fun _ => rfl) (by decide) (by decide) (by decide) ⟨by decide, by decide⟩ dX0_init_257 (fun r13 => ?_)
  refine go_putF (pc := 259) (v := .ref r13) (ty := .array .int) C hI 25 (pW_A3 (f := 25) (j := 24) (q := r13) (σ := s1i) (rf := (rfR (a1 0) (a2 0) (a3 0) (a4 0) q5)) (rq := rqR Γ.d) (FK := FK0) rfl (by decide) (gapK (by decide +kernel)) rfl rfl) (ci := 0) xc0 in_X0 tyX0 tyX0_ok nmX0 (by decide) q438 rfl rfl rfl rfl rfl (by rw [pFs_len]; decide) dX0_init_259 ?_
  refine go_aload_n (pc := 262) C dX0_init_262 rfl 0 rfl ?_
  refine go_sipush (pc := 263) (v := (256 : Int32)) C dX0_init_263 (by decide) ?_
  refine go_newarr (pc := 266) (t := 2) (ty := .boolean) (N := 256) (a0 := (256, .inl (fun _ => 0))) C rfl q502 rfl (fun _ => rfl) (by decide) (by decide) (by decide) ⟨by decide, by decide⟩ dX0_init_266 (fun r14 => ?_)
  refine go_putF (pc := 268) (v := .ref r14) (ty := .array .boolean) C hI 26 (pW_A3 (f := 26) (j := 26) (q := r14) (σ := s1i) (rf := (rfR (a1 0) (a2 0) (a3 0) (a4 0) q5)) (rq := rqR Γ.d) (FK := FK0) rfl (by decide) gap0 rfl rfl) (ci := 0) xc0 in_X0 tyX0 tyX0_ok nmX0 (by decide) q439 rfl rfl rfl rfl rfl (by rw [pFs_len]; decide) dX0_init_268 ?_
  refine go_aload_n (pc := 271) C dX0_init_271 rfl 0 rfl ?_
  refine go_iconst (pc := 272) (v := (4 : Int32)) C dX0_init_272 (by decide) ?_
  refine go_anew (pc := 273) (t := 7) (N := 4) (cn := "PartyRaft$Image") C rfl q403 q404 (by decide) (by decide) (by decide) ⟨by decide, by decide⟩ dX0_init_273 (fun r15 => ?_)
  refine go_putF (pc := 276) (v := .ref r15) (ty := .array (.object "PartyRaft$Image")) C hI 28 (pW_A3 (f := 28) (j := 27) (q := r15) (σ := s1i) (rf := (rfR (a1 0) (a2 0) (a3 0) (a4 0) q5)) (rq := rqR Γ.d) (FK := FK0) rfl (by decide) (gapK (by decide +kernel)) rfl rfl) (ci := 0) xc0 in_X0 tyX0 tyX0_ok nmX0 (by decide) q441 rfl rfl rfl rfl rfl (by rw [pFs_len]; decide) dX0_init_276 ?_
  subst hF
  rw [pW_all (j := 29) rfl]
  rw [raftB]
  refine go_perm List.perm_append_comm ?_
  exact (hE 88 7592 _ 279 [(0, .ref b)] (Nat.le_refl _) (Nat.le_refl _)).2.2.2.1 rfl dX0_init_279 ⟨rfl, _, rfl, rfl⟩

/-! A BLOCK UNDER CONSTRUCTION: the fields below j have their values -/
set_option maxRecDepth 100000
def dV (k : Nat) : Value := if k = 0 then .int 0 else .null
def pFs (a : Nat → Nat) (rf : rF) (σ : Bl) (j : Nat) : Nat → FKs → List Value
  | _, [] => []
  | o, x :: t => (if o < j then bV a rf σ o x.1 else dV x.1) :: pFs a rf σ j (o + 1) t
def pAs (cA : Nat → ClassId) (a : Nat → Nat) (rq : rQ) (σ : Bl) (j : Nat) : Nat → FKs → va_W
  | _, [] => []
  | o, x :: t => (if o < j then bC cA a rq σ o x.2 x.1 else []) ++ pAs cA a rq σ j (o + 1) t
def pW (d : gD) (ci : Nat) (FK : FKs) (a : Nat → Nat) (rf : rF) (rq : rQ) (σ : Bl) (j : Nat) : va_W := (a 0, .inr (ci, pFs a rf σ j 0 FK)) :: pAs d.2.1 a rq σ j 0 FK
theorem pFs_len {a : Nat → Nat} {rf : rF} {σ : Bl} {j : Nat} : ∀ (FK : FKs) (o : Nat), (pFs a rf σ j o FK).length = FK.length
  | [], _ => rfl
  | x :: t, o => by simp [pFs, pFs_len t (o + 1)]
theorem pFs_get {a : Nat → Nat} {rf : rF} {σ : Bl} {j : Nat} : ∀ (FK : FKs) (o i : Nat), (pFs a rf σ j o FK)[i]? = FK[i]?.map (fun x => if o + i < j then bV a rf σ (o + i) x.1 else dV x.1)
  | [], _, _ => by simp [pFs]
  | y :: t, o, 0 => by simp [pFs]
  | y :: t, o, i + 1 => by rw [pFs, List.getElem?_cons_succ, pFs_get t (o + 1) i, show o + 1 + i = o + (i + 1) by omega]; simp
theorem pAs_nil {cA : Nat → ClassId} {a : Nat → Nat} {rq : rQ} {σ : Bl} {j : Nat} : ∀ (FK : FKs) (o : Nat), j ≤ o → pAs cA a rq σ j o FK = []
  | [], _, _ => rfl
  | y :: t, o, h => by rw [pAs, if_neg (by omega), pAs_nil t (o + 1) (by omega)]; rfl
theorem pFs_all {a : Nat → Nat} {rf : rF} {σ : Bl} {j : Nat} : ∀ (FK : FKs) (o : Nat), o + FK.length ≤ j → pFs a rf σ j o FK = bFs a rf σ o FK
  | [], _, _ => rfl
  | y :: t, o, h => by
    simp only [List.length_cons] at h
    rw [pFs, bFs, if_pos (by omega), pFs_all t (o + 1) (by omega)]
theorem pAs_all {cA : Nat → ClassId} {a : Nat → Nat} {rq : rQ} {σ : Bl} {j : Nat} : ∀ (FK : FKs) (o : Nat), o + FK.length ≤ j → pAs cA a rq σ j o FK = bAs cA a rq σ o FK
  | [], _, _ => rfl
  | y :: t, o, h => by
    simp only [List.length_cons] at h
    rw [pAs, bAs, if_pos (by omega), pAs_all t (o + 1) (by omega)]
/-- what lies between the last field set and the next: ints at 0, references at null -/
def gapOK (rf : rF) (σ : Bl) (FK : FKs) (j f : Nat) : Prop := ∀ (g : Nat) (x : Nat × Nat), FK[g]? = some x → j ≤ g → g < f → (x.1 = 0 ∧ σ.1 g = 0) ∨ (x.1 = 5 ∧ rf g (σ.1 g) = .null)
theorem gap0 {rf : rF} {σ : Bl} {FK : FKs} {j : Nat} : gapOK rf σ FK j j := fun g x _ h1 h2 => absurd h2 (by omega)
theorem bV_a {a a' : Nat → Nat} {rf : rF} {σ : Bl} {g k : Nat} (h : a' (g + 1) = a (g + 1)) : bV a' rf σ g k = bV a rf σ g k := by
  match k with
  | 0 => rfl
  | 5 => rfl
  | 1 => simp [bV, h]
  | 2 => simp [bV, h]
  | 3 => simp [bV, h]
  | 4 => simp [bV, h]
  | k + 6 => simp [bV, h]
theorem bC_a {cA : Nat → ClassId} {a a' : Nat → Nat} {rq : rQ} {σ : Bl} {g n k : Nat} (h : a' (g + 1) = a (g + 1)) : bC cA a' rq σ g n k = bC cA a rq σ g n k := by
  match k with
  | 0 => rfl
  | 5 => rfl
  | 1 => simp [bC, h]
  | 2 => simp [bC, h]
  | 3 => simp [bC, h]
  | 4 => simp [bC, h]
  | k + 6 => simp [bC, h]
theorem pFs_set {a a' : Nat → Nat} {rf : rF} {σ : Bl} {FK : FKs} {j f : Nat} {x : Nat × Nat} (hx : FK[f]? = some x) (hj : j ≤ f) (hg : gapOK rf σ FK j f) (ha : ∀ g, g < j → a' (g + 1) = a (g + 1)) : (pFs a rf σ j 0 FK).set f (bV a' rf σ f x.1) = pFs a' rf σ (f + 1) 0 FK := by
  apply List.ext_getElem?
  intro i
  rw [List.getElem?_set, pFs_get, pFs_get, pFs_len]
  have hf : f < FK.length := (List.getElem?_eq_some_iff.mp hx).1
  by_cases h : f = i
  · subst h
    rw [if_pos rfl, if_pos hf, hx]
    simp
  · rw [if_neg h]
    cases hi : FK[i]? with
    | none => rfl
    | some y =>
      simp only [Option.map_some, Nat.zero_add]
      by_cases h1 : i < j
      · rw [if_pos h1, if_pos (by omega), bV_a (ha i h1)]
      · by_cases h2 : i < f
        · rw [if_neg h1, if_pos (by omega)]
          rcases hg i y hi (by omega) h2 with ⟨e1, e2⟩ | ⟨e1, e2⟩
          · rw [e1]; simp [dV, bV, e2]
          · rw [e1]; simp [dV, bV, e2]
        · rw [if_neg h1, if_neg (by omega)]
theorem pAs_set {cA : Nat → ClassId} {a a' : Nat → Nat} {rq : rQ} {σ : Bl} {j f : Nat} {x : Nat × Nat} (ha : ∀ g, g < j → a' (g + 1) = a (g + 1)) (hj : j ≤ f) : ∀ (FK : FKs) (o i : Nat), FK[i]? = some x → o + i = f → (∀ (g : Nat) (y : Nat × Nat), FK[g]? = some y → j ≤ o + g → o + g < f → y.1 = 0 ∨ y.1 = 5) → pAs cA a rq σ j o FK ++ bC cA a' rq σ f x.2 x.1 = pAs cA a' rq σ (f + 1) o FK
  | [], _, _, h, _, _ => by simp at h
  | y :: t, o, 0, h, e, _ => by
    simp only [List.getElem?_cons_zero, Option.some.injEq] at h
    subst h
    have e : o = f := by omega
    subst e
    rw [pAs, pAs, if_neg (by omega), if_pos (by omega), pAs_nil t (o + 1) (by omega), pAs_nil t (o + 1) (by omega)]
    simp
  | y :: t, o, i + 1, h, e, hg => by
    have ih := pAs_set (cA := cA) (rq := rq) (σ := σ) ha hj t (o + 1) i (by simpa using h) (by omega) (fun g y hy h1 h2 => hg (g + 1) y (by simpa using hy) (by omega) (by omega))
    rw [pAs, pAs, List.append_assoc, ih, if_pos (show o < f + 1 by omega)]
    congr 1
    by_cases h1 : o < j
    · rw [if_pos h1, bC_a (ha o h1)]
    · rw [if_neg h1]
      rcases hg 0 y rfl (by omega) (by omega) with e1 | e1 <;> rw [e1] <;> rfl
def upA (a : Nat → Nat) (f q : Nat) : Nat → Nat := fun i => if i = f + 1 then q else a i
theorem pW_A {d : gD} {ci : Nat} {FK : FKs} {a : Nat → Nat} {rf : rF} {rq : rQ} {σ : Bl} {j f κ N q : Nat} {e9 : va_E} (hx : FK[f]? = some (κ, N)) (hj : j ≤ f) (hg : gapOK rf σ FK j f) (hv : bV (upA a f q) rf σ f κ = .ref q) (hc : bC d.2.1 (upA a f q) rq σ f N κ = [(q, e9)]) :
    putO (pW d ci FK a rf rq σ j ++ [(q, e9)]) (a 0) ci (pFs a rf σ j 0 FK) ((pFs a rf σ j 0 FK).set f (.ref q)) (pW d ci FK (upA a f q) rf rq σ (f + 1)) := by
  refine ⟨0, rfl, ?_⟩
  have h1 : ∀ g, g < j → upA a f q (g + 1) = a (g + 1) := fun g h => by simp [upA]; omega
  have e1 := pFs_set (a' := upA a f q) hx hj hg h1
  rw [hv] at e1
  have e2 := pAs_set (cA := d.2.1) (rq := rq) (σ := σ) h1 hj FK 0 f hx (by omega) (fun g y hy g1 g2 => by
    rcases hg g y hy (by omega) (by omega) with h | h
    · exact Or.inl h.1
    · exact Or.inr h.1)
  rw [hc] at e2
  show (a 0, (Sum.inr (ci, _) : va_E)) :: (pAs d.2.1 a rq σ j 0 FK ++ [(q, e9)]) = _
  rw [e1, e2]
  rfl
/-- a field that is no array -/
theorem pW_I {d : gD} {ci : Nat} {FK : FKs} {a : Nat → Nat} {rf : rF} {rq : rQ} {σ : Bl} {j f κ N : Nat} {v : Value} (hx : FK[f]? = some (κ, N)) (hj : j ≤ f) (hg : gapOK rf σ FK j f) (hκ : κ = 0 ∨ κ = 5) (hv : bV a rf σ f κ = v) :
    putO (pW d ci FK a rf rq σ j) (a 0) ci (pFs a rf σ j 0 FK) ((pFs a rf σ j 0 FK).set f v) (pW d ci FK a rf rq σ (f + 1)) := by
  refine ⟨0, rfl, ?_⟩
  have e1 := pFs_set (a := a) (a' := a) hx hj hg (fun _ _ => rfl)
  rw [hv] at e1
  have e2 := pAs_set (cA := d.2.1) (a := a) (a' := a) (rq := rq) (σ := σ) (fun _ _ => rfl) hj FK 0 f hx (by omega) (fun g y hy g1 g2 => by
    rcases hg g y hy (by omega) (by omega) with h | h
    · exact Or.inl h.1
    · exact Or.inr h.1)
  have e3 : bC d.2.1 a rq σ f N κ = [] := by rcases hκ with h | h <;> rw [h] <;> rfl
  rw [e3, List.append_nil] at e2
  show (a 0, (Sum.inr (ci, _) : va_E)) :: pAs d.2.1 a rq σ j 0 FK = _
  rw [e1, e2]
  rfl
theorem pW_all {d : gD} {ci : Nat} {FK : FKs} {a : Nat → Nat} {rf : rF} {rq : rQ} {σ : Bl} {j : Nat} (h1 : FK.length = j) : pW d ci FK a rf rq σ j = bWr d ci FK a rf rq σ := by
  rw [pW, bWr, pFs_all FK 0 (by omega), pAs_all FK 0 (by omega)]
theorem pFs_gap {a : Nat → Nat} {rf : rF} {σ : Bl} {FK : FKs} {j f : Nat} (hj : j ≤ f) (hg : gapOK rf σ FK j f) : pFs a rf σ j 0 FK = pFs a rf σ f 0 FK := by
  apply List.ext_getElem?
  intro i
  rw [pFs_get, pFs_get]
  cases hi : FK[i]? with
  | none => rfl
  | some y =>
    simp only [Option.map_some, Nat.zero_add]
    by_cases h1 : i < j
    · rw [if_pos h1, if_pos (by omega)]
    · by_cases h2 : i < f
      · rw [if_neg h1, if_pos h2]
        rcases hg i y hi (by omega) h2 with ⟨e1, e2⟩ | ⟨e1, e2⟩
        · rw [e1]; simp [dV, bV, e2]
        · rw [e1]; simp [dV, bV, e2]
      · rw [if_neg h1, if_neg h2]
theorem pAs_gap {cA : Nat → ClassId} {a : Nat → Nat} {rq : rQ} {σ : Bl} {j f : Nat} (hj : j ≤ f) : ∀ (FK : FKs) (o : Nat), (∀ (g : Nat) (y : Nat × Nat), FK[g]? = some y → j ≤ o + g → o + g < f → y.1 = 0 ∨ y.1 = 5) → pAs cA a rq σ j o FK = pAs cA a rq σ f o FK
  | [], _, _ => rfl
  | y :: t, o, hg => by
    rw [pAs, pAs, pAs_gap hj t (o + 1) (fun g y hy h1 h2 => hg (g + 1) y (by simpa using hy) (by omega) (by omega))]
    congr 1
    by_cases h1 : o < j
    · rw [if_pos h1, if_pos (by omega)]
    · by_cases h2 : o < f
      · rw [if_neg h1, if_pos h2]
        rcases hg 0 y rfl (by omega) (by omega) with e1 | e1 <;> rw [e1] <;> rfl
      · rw [if_neg h1, if_neg h2]
theorem pW_gap {d : gD} {ci : Nat} {FK : FKs} {a : Nat → Nat} {rf : rF} {rq : rQ} {σ : Bl} {j f : Nat} (hj : j ≤ f) (hg : gapOK rf σ FK j f) : pW d ci FK a rf rq σ j = pW d ci FK a rf rq σ f := by
  rw [pW, pW, pFs_gap hj hg, pAs_gap hj FK 0 (fun g y hy g1 g2 => by
    rcases hg g y hy (by omega) (by omega) with h | h
    · exact Or.inl h.1
    · exact Or.inr h.1)]

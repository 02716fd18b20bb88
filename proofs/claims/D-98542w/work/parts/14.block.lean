/-! BLOCKS: an object with the arrays that it alone holds: its state as functions -/
set_option maxRecDepth 100000
/-- int fields; int, byte and boolean arrays; long arrays: by the field's number. A field of references has a number that tells which (rf), an array of references numbers (rq) -/
abbrev Bl : Type := (Nat → Int32) × (Nat → Nat → Int32) × (Nat → Nat → Int64)
def bI (σ : Bl) (f : Nat) (v : Int32) : Bl := (fun g => if g = f then v else σ.1 g, σ.2)
def bS (σ : Bl) (f : Nat) (h : Nat → Int32) : Bl := (σ.1, fun g => if g = f then h else σ.2.1 g, σ.2.2)
def bT (σ : Bl) (f : Nat) (h : Nat → Int64) : Bl := (σ.1, σ.2.1, fun g => if g = f then h else σ.2.2 g)
/-- an element of an array -/
def bA (σ : Bl) (f i : Nat) (v : Int32) : Bl := bS σ f (upd (σ.2.1 f) i v)
def bL (σ : Bl) (f i : Nat) (v : Int64) : Bl := bT σ f (vp_updL (σ.2.2 f) i v)
/-- the kinds of the fields: (0, _) a field of int or boolean, (1, n) an int array of n, (2, n) bytes, (3, n) booleans, (4, n) longs, (5, _) a reference, (6.., n) an array of references -/
abbrev FKs : Type := List (Nat × Nat)
abbrev rF : Type := Nat → Int32 → Value
abbrev rQ : Type := Nat → Nat → Int32 → Option Nat
def bV (a : Nat → Nat) (rf : rF) (σ : Bl) (f : Nat) : Nat → Value
  | 0 => .int (σ.1 f)
  | 5 => rf f (σ.1 f)
  | _ => .ref (a (f + 1))
def bC (cA : Nat → ClassId) (a : Nat → Nat) (rq : rQ) (σ : Bl) (f n : Nat) : Nat → va_W
  | 0 => []
  | 5 => []
  | 4 => [(a (f + 1), .inl (cA 3, n, .inr (.inl (σ.2.2 f))))]
  | 1 => [(a (f + 1), .inl (cA 0, n, .inl (σ.2.1 f)))]
  | 2 => [(a (f + 1), .inl (cA 1, n, .inl (σ.2.1 f)))]
  | 3 => [(a (f + 1), .inl (cA 2, n, .inl (σ.2.1 f)))]
  | k + 6 => [(a (f + 1), .inl (cA (k + 4), n, .inr (.inr (.inr (.inr (fun i => rq f i (σ.2.1 f i)))))))]
def bFs (a : Nat → Nat) (rf : rF) (σ : Bl) : Nat → FKs → List Value
  | _, [] => []
  | f, x :: t => bV a rf σ f x.1 :: bFs a rf σ (f + 1) t
def bAs (cA : Nat → ClassId) (a : Nat → Nat) (rq : rQ) (σ : Bl) : Nat → FKs → va_W
  | _, [] => []
  | f, x :: t => bC cA a rq σ f x.2 x.1 ++ bAs cA a rq σ (f + 1) t
/-- the world of a block: class number ci, kinds FK, addresses a: a 0 the object, a (f + 1) the array of field f -/
def bWr (d : gD) (ci : Nat) (FK : FKs) (a : Nat → Nat) (rf : rF) (rq : rQ) (σ : Bl) : va_W := (a 0, .inr (ci, bFs a rf σ 0 FK)) :: bAs d.2.1 a rq σ 0 FK
abbrev bW (d : gD) (ci : Nat) (FK : FKs) (a : Nat → Nat) (σ : Bl) : va_W := bWr d ci FK a (fun _ _ => .null) (fun _ _ _ => none) σ
theorem bFs_get {a : Nat → Nat} {rf : rF} {σ : Bl} : ∀ (FK : FKs) (o f : Nat) (x : Nat × Nat), FK[f]? = some x → (bFs a rf σ o FK)[f]? = some (bV a rf σ (o + f) x.1)
  | [], _, _, _, h => by simp at h
  | y :: t, o, 0, x, h => by
    simp only [List.getElem?_cons_zero, Option.some.injEq] at h
    subst h
    simp [bFs]
  | y :: t, o, f + 1, x, h => by
    rw [bFs, List.getElem?_cons_succ, bFs_get t (o + 1) f x (by simpa using h), show o + 1 + f = o + (f + 1) by omega]
theorem bFs_len {a : Nat → Nat} {rf : rF} {σ : Bl} : ∀ (FK : FKs) (o : Nat), (bFs a rf σ o FK).length = FK.length
  | [], _ => rfl
  | x :: t, o => by simp [bFs, bFs_len t (o + 1)]
theorem bV_I {a : Nat → Nat} {rf : rF} {σ : Bl} {f g k : Nat} {v : Int32} (h : g ≠ f) : bV a rf (bI σ f v) g k = bV a rf σ g k := by
  match k with
  | 0 => simp [bV, bI, h]
  | 5 => simp [bV, bI, h]
  | 1 => rfl
  | 2 => rfl
  | 3 => rfl
  | 4 => rfl
  | k + 6 => rfl
theorem bFs_same {a : Nat → Nat} {rf : rF} {σ σ' : Bl} (e : σ.1 = σ'.1) : ∀ (FK : FKs) (o : Nat), bFs a rf σ o FK = bFs a rf σ' o FK
  | [], _ => rfl
  | x :: t, o => by
    rw [bFs, bFs, bFs_same e t (o + 1)]
    congr 1
    match x.1 with
    | 0 => simp [bV, e]
    | 5 => simp [bV, e]
    | 1 => rfl
    | 2 => rfl
    | 3 => rfl
    | 4 => rfl
    | k + 6 => rfl
theorem bFs_off {a : Nat → Nat} {rf : rF} {σ : Bl} {f : Nat} {v : Int32} : ∀ (FK : FKs) (o : Nat), f < o → bFs a rf (bI σ f v) o FK = bFs a rf σ o FK
  | [], _, _ => rfl
  | x :: t, o, h => by rw [bFs, bFs, bV_I (by omega), bFs_off t (o + 1) (by omega)]
theorem bFs_set {a : Nat → Nat} {rf : rF} {σ : Bl} {v : Int32} : ∀ (FK : FKs) (o f : Nat) (x : Nat × Nat), FK[f]? = some x → (bFs a rf σ o FK).set f (bV a rf (bI σ (o + f) v) (o + f) x.1) = bFs a rf (bI σ (o + f) v) o FK
  | [], _, _, _, h => by simp at h
  | y :: t, o, 0, x, h => by
    simp only [List.getElem?_cons_zero, Option.some.injEq] at h
    subst h
    rw [bFs, List.set_cons_zero, bFs, Nat.add_zero, bFs_off t (o + 1) (by omega)]
  | y :: t, o, f + 1, x, h => by
    have ih := bFs_set (a := a) (rf := rf) (σ := σ) (v := v) t (o + 1) f x (by simpa using h)
    rw [show o + 1 + f = o + (f + 1) by omega] at ih
    rw [bFs, List.set_cons_succ, ih]
    conv => rhs; rw [bFs]
    rw [bV_I (by omega)]
theorem bAs_I {cA : Nat → ClassId} {a : Nat → Nat} {rq : rQ} {σ σ' : Bl} (h : σ.2 = σ'.2) : ∀ (FK : FKs) (o : Nat), bAs cA a rq σ o FK = bAs cA a rq σ' o FK
  | [], _ => rfl
  | x :: t, o => by
    rw [bAs, bAs, bAs_I h t (o + 1)]
    congr 1
    match x.1 with
    | 0 => rfl
    | 5 => rfl
    | 4 => simp [bC, h]
    | 1 => simp [bC, h]
    | 2 => simp [bC, h]
    | 3 => simp [bC, h]
    | k + 6 => simp [bC, h]
/-- a cell of an array, and what a change of that array makes of it -/
theorem bAs_at {cA : Nat → ClassId} {a : Nat → Nat} {rq : rQ} {σ σ' : Bl} {F : Nat} {e e' : Nat × va_E} {k n : Nat} (h1 : bC cA a rq σ F n k = [e]) (h2 : bC cA a rq σ' F n k = [e']) (hoff : ∀ g m j, g ≠ F → bC cA a rq σ' g m j = bC cA a rq σ g m j) : ∀ (FK : FKs) (o f : Nat), o + f = F → FK[f]? = some (k, n) → ∃ q : Nat, (bAs cA a rq σ o FK)[q]? = some e ∧ (bAs cA a rq σ o FK).set q e' = bAs cA a rq σ' o FK
  | [], _, _, _, h => by simp at h
  | x :: t, o, 0, hF, h => by
    simp only [List.getElem?_cons_zero, Option.some.injEq] at h
    subst h
    have ho : o = F := by omega
    subst ho
    have off : ∀ (t : FKs) (o1 : Nat), o < o1 → bAs cA a rq σ' o1 t = bAs cA a rq σ o1 t := by
      intro t
      induction t with
      | nil => intro o1 _; rfl
      | cons x t ih =>
        intro o1 h9
        rw [bAs, bAs, ih (o1 + 1) (by omega), hoff o1 x.2 x.1 (by omega)]
    refine ⟨0, ?_, ?_⟩
    · rw [bAs]; dsimp only; rw [h1]; rfl
    · rw [bAs, bAs]; dsimp only; rw [h1, h2, off t (o + 1) (by omega)]; rfl
  | x :: t, o, f + 1, hF, h => by
    obtain ⟨q, g1, g2⟩ := bAs_at h1 h2 hoff t (o + 1) f (by omega) (by simpa using h)
    have e0 : bC cA a rq σ' o x.2 x.1 = bC cA a rq σ o x.2 x.1 := hoff o x.2 x.1 (by omega)
    refine ⟨(bC cA a rq σ o x.2 x.1).length + q, ?_, ?_⟩
    · rw [bAs, List.getElem?_append_right (by omega), Nat.add_sub_cancel_left]; exact g1
    · rw [bAs, List.set_append_right _ _ (by omega), Nat.add_sub_cancel_left, g2]
      conv => rhs; rw [bAs, e0]
theorem bC_S {cA : Nat → ClassId} {a : Nat → Nat} {rq : rQ} {σ : Bl} {F : Nat} {h : Nat → Int32} (g m j : Nat) (hg : g ≠ F) : bC cA a rq (bS σ F h) g m j = bC cA a rq σ g m j := by
  match j with
  | 0 => rfl
  | 5 => rfl
  | 4 => rfl
  | 1 => simp [bC, bS, hg]
  | 2 => simp [bC, bS, hg]
  | 3 => simp [bC, bS, hg]
  | k + 6 => simp [bC, bS, hg]
theorem bC_T {cA : Nat → ClassId} {a : Nat → Nat} {rq : rQ} {σ : Bl} {F : Nat} {h : Nat → Int64} (g m j : Nat) (hg : g ≠ F) : bC cA a rq (bT σ F h) g m j = bC cA a rq σ g m j := by
  match j with
  | 0 => rfl
  | 5 => rfl
  | 4 => simp [bC, bT, hg]
  | 1 => rfl
  | 2 => rfl
  | 3 => rfl
  | k + 6 => rfl
section BL
variable {d : gD} {ci : Nat} {FK : FKs} {a : Nat → Nat} {rf : rF} {rq : rQ} {σ : Bl}
theorem bW_O : hasO (bWr d ci FK a rf rq σ) (a 0) ci (bFs a rf σ 0 FK) := ⟨0, rfl⟩
theorem bW_int {f z : Nat} (h : FK[f]? = some (0, z)) : (bFs a rf σ 0 FK)[f]? = some (.int (σ.1 f)) := by
  have h1 := bFs_get (a := a) (rf := rf) (σ := σ) FK 0 f _ h
  rwa [Nat.zero_add] at h1
theorem bW_rf {f z : Nat} (h : FK[f]? = some (5, z)) : (bFs a rf σ 0 FK)[f]? = some (rf f (σ.1 f)) := by
  have h1 := bFs_get (a := a) (rf := rf) (σ := σ) FK 0 f _ h
  rwa [Nat.zero_add] at h1
theorem bV_ref {f k : Nat} (hk : k ≠ 4) : bV a rf σ f (k + 1) = .ref (a (f + 1)) := by
  match k, hk with
  | 0, _ => rfl
  | 1, _ => rfl
  | 2, _ => rfl
  | 3, _ => rfl
  | k + 5, _ => rfl
theorem bW_ref {f k z : Nat} (h : FK[f]? = some (k + 1, z)) (hk : k ≠ 4 := by decide) : (bFs a rf σ 0 FK)[f]? = some (.ref (a (f + 1))) := by
  have h1 := bFs_get (a := a) (rf := rf) (σ := σ) FK 0 f _ h
  rw [Nat.zero_add] at h1
  rw [h1]
  exact congrArg some (bV_ref hk)
theorem bW_putI {f z : Nat} {v : Int32} (h : FK[f]? = some (0, z)) : putO (bWr d ci FK a rf rq σ) (a 0) ci (bFs a rf σ 0 FK) ((bFs a rf σ 0 FK).set f (.int v)) (bWr d ci FK a rf rq (bI σ f v)) := by
  refine ⟨0, rfl, ?_⟩
  have h1 := bFs_set (a := a) (rf := rf) (σ := σ) (v := v) FK 0 f _ h
  rw [Nat.zero_add] at h1
  have h2 : bV a rf (bI σ f v) f 0 = .int v := by simp [bV, bI]
  dsimp only at h1
  rw [h2] at h1
  rw [h1]
  show _ :: _ = _ :: _
  rw [bAs_I (cA := d.2.1) (a := a) (rq := rq) (σ := σ) (σ' := bI σ f v) rfl FK 0]
theorem bW_putR {f z : Nat} {v : Int32} (h : FK[f]? = some (5, z)) : putO (bWr d ci FK a rf rq σ) (a 0) ci (bFs a rf σ 0 FK) ((bFs a rf σ 0 FK).set f (rf f v)) (bWr d ci FK a rf rq (bI σ f v)) := by
  refine ⟨0, rfl, ?_⟩
  have h1 := bFs_set (a := a) (rf := rf) (σ := σ) (v := v) FK 0 f _ h
  rw [Nat.zero_add] at h1
  have h2 : bV a rf (bI σ f v) f 5 = rf f v := by simp [bV, bI]
  dsimp only at h1
  rw [h2] at h1
  rw [h1]
  show _ :: _ = _ :: _
  rw [bAs_I (cA := d.2.1) (a := a) (rq := rq) (σ := σ) (σ' := bI σ f v) rfl FK 0]
theorem bC_p {cA : Nat → ClassId} {f z k : Nat} (hk : k < 3) : bC cA a rq σ f z (k + 1) = [(a (f + 1), .inl (cA k, z, .inl (σ.2.1 f)))] := by
  match k, hk with
  | 0, _ => rfl
  | 1, _ => rfl
  | 2, _ => rfl
theorem bW_putA0 {f k z : Nat} {e e' : Nat × va_E} {σ' : Bl} (h : FK[f]? = some (k, z)) (h1 : bC d.2.1 a rq σ f z k = [e]) (h2 : bC d.2.1 a rq σ' f z k = [e']) (hoff : ∀ g m j, g ≠ f → bC d.2.1 a rq σ' g m j = bC d.2.1 a rq σ g m j) (hs : σ.1 = σ'.1) : ∃ q : Nat, (bWr d ci FK a rf rq σ)[q]? = some e ∧ (bWr d ci FK a rf rq σ).set q e' = bWr d ci FK a rf rq σ' := by
  obtain ⟨q, g1, g2⟩ := bAs_at (cA := d.2.1) h1 h2 hoff FK 0 f (Nat.zero_add f) h
  refine ⟨q + 1, g1, ?_⟩
  show _ :: (bAs d.2.1 a rq σ 0 FK).set q _ = _
  rw [g2]
  show _ :: _ = _ :: _
  rw [bFs_same hs]
theorem bW_putS {f k z : Nat} {g : Nat → Int32} (h : FK[f]? = some (k + 1, z)) (hk : k < 3) : putA (bWr d ci FK a rf rq σ) (a (f + 1)) (d.2.1 k, z, .inl (σ.2.1 f)) (d.2.1 k, z, .inl g) (bWr d ci FK a rf rq (bS σ f g)) :=
  bW_putA0 h (bC_p hk) (by rw [bC_p hk]; simp [bS]) (fun _ _ _ hg => bC_S _ _ _ hg) rfl
theorem bW_putT {f z : Nat} {g : Nat → Int64} (h : FK[f]? = some (4, z)) : putA (bWr d ci FK a rf rq σ) (a (f + 1)) (d.2.1 3, z, .inr (.inl (σ.2.2 f))) (d.2.1 3, z, .inr (.inl g)) (bWr d ci FK a rf rq (bT σ f g)) :=
  bW_putA0 h rfl (by simp [bC, bT]) (fun _ _ _ hg => bC_T _ _ _ hg) rfl
theorem bW_putQ {f k z i : Nat} {v : Int32} (h : FK[f]? = some (k + 6, z)) : putA (bWr d ci FK a rf rq σ) (a (f + 1)) (d.2.1 (k + 4), z, .inr (.inr (.inr (.inr (fun i => rq f i (σ.2.1 f i)))))) (d.2.1 (k + 4), z, .inr (.inr (.inr (.inr (fun j => rq f j (upd (σ.2.1 f) i v j)))))) (bWr d ci FK a rf rq (bA σ f i v)) :=
  bW_putA0 h rfl (by simp [bC, bA, bS]) (fun _ _ _ hg => bC_S _ _ _ hg) rfl
theorem bW_A {f k z : Nat} (h : FK[f]? = some (k + 1, z)) (hk : k < 3) : hasA (bWr d ci FK a rf rq σ) (a (f + 1)) (d.2.1 k, z, .inl (σ.2.1 f)) := by
  obtain ⟨q, h1, -⟩ := bW_putS (d := d) (ci := ci) (a := a) (rf := rf) (rq := rq) (σ := σ) (g := σ.2.1 f) h hk
  exact ⟨q, h1⟩
theorem bW_L {f z : Nat} (h : FK[f]? = some (4, z)) : hasA (bWr d ci FK a rf rq σ) (a (f + 1)) (d.2.1 3, z, .inr (.inl (σ.2.2 f))) := by
  obtain ⟨q, h1, -⟩ := bW_putT (d := d) (ci := ci) (a := a) (rf := rf) (rq := rq) (σ := σ) (g := σ.2.2 f) h
  exact ⟨q, h1⟩
theorem bW_Q {f k z : Nat} (h : FK[f]? = some (k + 6, z)) : hasA (bWr d ci FK a rf rq σ) (a (f + 1)) (d.2.1 (k + 4), z, .inr (.inr (.inr (.inr (fun i => rq f i (σ.2.1 f i)))))) := by
  obtain ⟨q, h1, -⟩ := bW_putQ (d := d) (ci := ci) (a := a) (rf := rf) (rq := rq) (σ := σ) (i := 0) (v := 0) h
  exact ⟨q, h1⟩
theorem bW_putA {f k z i : Nat} {v : Int32} (h : FK[f]? = some (k + 1, z)) (hk : k < 3) : putA (bWr d ci FK a rf rq σ) (a (f + 1)) (d.2.1 k, z, .inl (σ.2.1 f)) (d.2.1 k, z, .inl (upd (σ.2.1 f) i v)) (bWr d ci FK a rf rq (bA σ f i v)) := bW_putS h hk
theorem bW_putL {f z i : Nat} {v : Int64} (h : FK[f]? = some (4, z)) : putA (bWr d ci FK a rf rq σ) (a (f + 1)) (d.2.1 3, z, .inr (.inl (σ.2.2 f))) (d.2.1 3, z, .inr (.inl (vp_updL (σ.2.2 f) i v))) (bWr d ci FK a rf rq (bL σ f i v)) := bW_putT h
end BL

/-! TREES THAT GROW: a blank cell in the midst is no matter; the counted monad; making a number, a word, a pair .. -/
set_option maxRecDepth 100000
theorem vAt.mono2 {ws w2 : va_W} (hw : ∀ b ci fs, fs.head? ≠ some Value.null → hasO ws b ci fs → hasO w2 b ci fs) : ∀ (n a : Nat) (f : (Nat → Int64) → Int64), vAt ws n a f → vAt w2 n a f := by
  intro n
  induction n with
  | zero => intro a f h; exact h
  | succ n ih =>
    rintro a f (⟨z, h1, h2⟩ | ⟨z, h1, h2⟩ | ⟨a1, a2, sg, f1, f2, h1, h2, h3, h4⟩)
    · exact Or.inl ⟨z, hw _ _ _ (by simp) h1, h2⟩
    · exact Or.inr (Or.inl ⟨z, hw _ _ _ (by simp) h1, h2⟩)
    · exact Or.inr (Or.inr ⟨a1, a2, sg, f1, f2, hw _ _ _ (by simp) h1, ih _ _ h2, ih _ _ h3, h4⟩)
theorem tAt.mono2 {ws w2 : va_W} (hw : ∀ b ci fs, fs.head? ≠ some Value.null → hasO ws b ci fs → hasO w2 b ci fs) : ∀ (n a : Nat) (f : (Nat → Int64) → Bool), tAt ws n a f → tAt w2 n a f := by
  intro n
  induction n with
  | zero => intro a f h; exact h
  | succ n ih =>
    rintro a f (⟨a1, f1, h1, h2, h3⟩ | ⟨a1, a2, sg, f1, f2, h1, h2, h3, h4⟩ | ⟨a1, a2, sg, f1, f2, h1, h2, h3, h4⟩)
    · exact Or.inl ⟨a1, f1, hw _ _ _ (by simp) h1, ih _ _ h2, h3⟩
    · exact Or.inr (Or.inl ⟨a1, a2, sg, f1, f2, hw _ _ _ (by simp) h1, vAt.mono2 hw _ _ _ h2, vAt.mono2 hw _ _ _ h3, h4⟩)
    · exact Or.inr (Or.inr ⟨a1, a2, sg, f1, f2, hw _ _ _ (by simp) h1, ih _ _ h2, ih _ _ h3, h4⟩)
/-- the cell in the midst changes; what it held before had null first -/
theorem hole_mono {E1 E9 : va_W} {q ci : Nat} {fs : List Value} {e : va_E} (h0 : fs.head? = some .null) : ∀ b c9 gs, gs.head? ≠ some Value.null → hasO (E1 ++ (q, .inr (ci, fs)) :: E9) b c9 gs → hasO (E1 ++ (q, e) :: E9) b c9 gs := by
  intro b c9 gs hg h
  obtain ⟨k, hk⟩ := h
  refine ⟨k, ?_⟩
  by_cases h1 : k < E1.length
  · rw [List.getElem?_append_left h1] at hk ⊢
    exact hk
  · rw [List.getElem?_append_right (by omega)] at hk ⊢
    match hm : k - E1.length, hk with
    | 0, hk =>
      rw [List.getElem?_cons_zero] at hk
      cases hk
      exact absurd h0 hg
    | m + 1, hk => exact hk
theorem hasO_app {E E9 : va_W} : ∀ b ci fs, hasO E b ci fs → hasO (E ++ E9) b ci fs := fun _ _ _ h => h.appL
/-- counted results: an answer or the fault, and how many cells and slots were made -/
abbrev Cn (α : Type) : Type := ((Nat → Bl) ⊕ (α × (Nat → Bl))) × (Nat × Nat)
def cnt {α : Type} (c d : Nat) (x : Option (Cn α)) : Option (Cn α) := match x with
  | none => none
  | some (r, (a, b)) => some (r, (c + a, d + b))
theorem cnt_some {α : Type} {c d : Nat} {x : Option (Cn α)} {r : Cn α} (h : cnt c d x = some r) : ∃ r1 : Cn α, x = some r1 ∧ r = (r1.1, (c + r1.2.1, d + r1.2.2)) := by
  match x, h with
  | some (r0, (a, b)), h => cases h; exact ⟨_, rfl, rfl⟩
/-- the first made its cells; then the rest -/
def bndC {α β : Type} (x : Option (Cn α)) (f : α → (Nat → Bl) → Option (Cn β)) : Option (Cn β) := match x with
  | none => none
  | some (.inl s, c) => some (.inl s, c)
  | some (.inr (a, s), (c, d)) => cnt c d (f a s)
theorem bndC_some {α β : Type} {x : Option (Cn α)} {f : α → (Nat → Bl) → Option (Cn β)} {r : Cn β} (h : bndC x f = some r) : ∃ r1 : Cn α, x = some r1 ∧ (∀ a s, r1.1 = .inr (a, s) → ∃ r2 : Cn β, f a s = some r2 ∧ r = (r2.1, (r1.2.1 + r2.2.1, r1.2.2 + r2.2.2))) ∧ ∀ s, r1.1 = .inl s → r = (.inl s, r1.2) := by
  match x, h with
  | some (.inl s, c), h => cases h; exact ⟨_, rfl, fun a s e => (by cases e), fun s e => by cases e; rfl⟩
  | some (.inr (a, s), (c, d)), h =>
    obtain ⟨r2, h1, h2⟩ := cnt_some h
    exact ⟨_, rfl, fun a s e => by cases e; exact ⟨r2, h1, h2⟩, fun s e => by cases e⟩
/-- a loop's walk with the result not fixed -/
theorem loop_walkR {S R : Type} {body : (S → Option R) → S → Option R} {P : S → R → Prop} (h : ∀ K : S → Option R, (∀ s r, K s = some r → P s r) → ∀ s r, body K s = some r → P s r) : ∀ (n : Nat) (s : S) (r : R), loop body n s = some r → P s r := by
  intro n
  induction n with
  | zero => intro s r h0; cases h0
  | succ n ih => intro s r h0; exact h _ (ih) s r h0
/-- what throws but makes nothing, then what counts -/
def bndXc {β : Type} (x : Option ((Nat → Bl) ⊕ (Nat → Bl))) (f : (Nat → Bl) → Option (Cn β)) : Option (Cn β) := match x with
  | none => none
  | some (.inl s) => some (.inl s, (0, 0))
  | some (.inr s) => f s
def bndXc2 {α β : Type} (x : Option ((Nat → Bl) ⊕ (α × (Nat → Bl)))) (f : α → (Nat → Bl) → Option (Cn β)) : Option (Cn β) := match x with
  | none => none
  | some (.inl s) => some (.inl s, (0, 0))
  | some (.inr (a, s)) => f a s
theorem bndXc_some {β : Type} {x : Option ((Nat → Bl) ⊕ (Nat → Bl))} {f : (Nat → Bl) → Option (Cn β)} {r : Cn β} (h : bndXc x f = some r) : ∃ r1, x = some r1 ∧ (∀ s, r1 = .inr s → f s = some r) ∧ ∀ s, r1 = .inl s → r = (.inl s, (0, 0)) := by
  match x, h with
  | some (.inl s), h => cases h; exact ⟨_, rfl, fun s e => (by cases e), fun s e => by cases e; rfl⟩
  | some (.inr s), h => exact ⟨_, rfl, fun s e => by cases e; exact h, fun s e => by cases e⟩
theorem bndXc2_some {α β : Type} {x : Option ((Nat → Bl) ⊕ (α × (Nat → Bl)))} {f : α → (Nat → Bl) → Option (Cn β)} {r : Cn β} (h : bndXc2 x f = some r) : ∃ r1, x = some r1 ∧ (∀ a s, r1 = .inr (a, s) → f a s = some r) ∧ ∀ s, r1 = .inl s → r = (.inl s, (0, 0)) := by
  match x, h with
  | some (.inl s), h => cases h; exact ⟨_, rfl, fun a s e => (by cases e), fun s e => by cases e; rfl⟩
  | some (.inr (a, s)), h => exact ⟨_, rfl, fun a' s' e => by cases e; exact h, fun s e => by cases e⟩
/-- a function of the words, and the height of its tree -/
abbrev Vf : Type := ((Nat → Int64) → Int64) × Nat
abbrev Tf : Type := ((Nat → Int64) → Bool) × Nat
/-- Text.value: a number or a word -/
def f4_value (s0 : Nat → Bl) : Option (Cn Vf) :=
  bnd2 (f4_see s0) (fun _ s1 => bnd (f4_isDigit s1 ((s1 14).1 2)) (fun r2 =>
    if r2 = 0 then
      bnd2 (f4_oneOf s1 12 7) (fun w s2 => bndXc (f4_demand s2 (if w = (-1 : Int32) then (0 : Int32) else (1 : Int32)) 0 ((s1 14).1 2)) (fun s3 => bndXc (f4_makes s3 ((s1 14).1 2)) (fun s4 =>
        chk (inB w 12) (chk (decide (7 + w.toNatClampNeg < 23)) (some (.inr ((fun wds => wds w.toNatClampNeg, 1), upX s4 14 (bI (s4 14) 2 ((s4 14).1 2 + Int32.ofNat (sBy (7 + w.toNatClampNeg)).length))), (1, 1)))))))
    else
      bndXc2 (f4_number s1 0 99999) (fun v s2 => bndXc (f4_makes s2 ((s1 14).1 2)) (fun s3 =>
        some (.inr ((fun _ => v.toInt64, 1), s3), (1, 1))))))

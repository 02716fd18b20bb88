/-! PLAIN LAW: searches; rows of all, in order -/
set_option maxRecDepth 100000
section B
variable {S R : Type} {body : (S → Option R) → S → Option R}
/-- within c turns from one state to another -/
def Rch (body : (S → Option R) → S → Option R) (c : Nat) (s s' : S) : Prop := ∃ k, k ≤ c ∧ ∀ n, loop body (n + k) s = loop body n s'
theorem Rch.refl {s : S} : Rch body 0 s s := ⟨0, Nat.le_refl _, fun _ => rfl⟩
theorem Rch.trans {c d : Nat} {s t u : S} (h : Rch body c s t) (g : Rch body d t u) : Rch body (c + d) s u := by
  obtain ⟨k, hk, h⟩ := h
  obtain ⟨l, hl, g⟩ := g
  exact ⟨l + k, by omega, fun n => by rw [← Nat.add_assoc, h, g]⟩
theorem Rch.mono {c d : Nat} {s t : S} (h : Rch body c s t) (hc : c ≤ d) : Rch body d s t := by
  obtain ⟨k, hk, h⟩ := h
  exact ⟨k, by omega, h⟩
theorem Rch.step {s s' : S} (h : ∀ K : S → Option R, body K s = K s') : Rch body 1 s s' := ⟨1, Nat.le_refl _, fun n => h _⟩
theorem Rch.fin {c : Nat} {s s' : S} {r : Option R} (h : Rch body c s s') (hc : c < 1000000000000000) (hf : ∀ K : S → Option R, body K s' = r) : loop body FU s = r := by
  obtain ⟨k, hk, h⟩ := h
  have hF := FU_big
  rw [show FU = (FU - k - 1 + 1) + k by omega, h]
  exact hf _
end B
/-- f at t, t + 1 .., c times -/
def fdN {S : Type} (f : Nat → S → S) : Nat → Nat → S → S
  | _, 0, s => s
  | t, c + 1, s => fdN f (t + 1) c (f t s)
theorem fdN_id {S : Type} {f : Nat → S → S} {s : S} : ∀ (c t : Nat), (∀ j, t ≤ j → j < t + c → f j s = s) → fdN f t c s = s
  | 0, _, _ => rfl
  | c + 1, t, h => by
    show fdN f (t + 1) c (f t s) = s
    rw [h t (Nat.le_refl _) (by omega)]
    exact fdN_id c (t + 1) (fun j h1 h2 => h j (by omega) (by omega))
/-- the first of c from t on that does something is t + d -/
theorem fdN_skip {S : Type} {f : Nat → S → S} {s : S} : ∀ (d t c : Nat), d ≤ c → (∀ j, t ≤ j → j < t + d → f j s = s) → fdN f t c s = fdN f (t + d) (c - d) s
  | 0, _, _, _, _ => rfl
  | d + 1, t, c, hc, h => by
    match c, hc with
    | c + 1, hc =>
      show fdN f (t + 1) c (f t s) = _
      rw [h t (Nat.le_refl _) (by omega), fdN_skip d (t + 1) c (by omega) (fun j h1 h2 => h j (by omega) (by omega)), show t + 1 + d = t + (d + 1) by omega, show c + 1 - (d + 1) = c - d by omega]
def upN (f : Nat → Nat) (k v : Nat) : Nat → Nat := fun j => if j = k then v else f j
def rmB (l : Nat → Bool) (t : Nat) : Nat → Bool := fun j => l j && !decide (j = t)
/-- a row is there: the count, the first row -/
def vsR (st : (Nat → Nat) → Bool) (row : Nat → Nat) (S : Int32 × (Nat → Nat)) : Int32 × (Nat → Nat) := if st row = true then (S.1 + 1, if S.1 = 0 then row else S.2) else S
/-- all rows that go on with those left -/
def srR (st : (Nat → Nat) → Bool) : Nat → Nat → (Nat → Nat) → (Nat → Bool) → Int32 × (Nat → Nat) → Int32 × (Nat → Nat)
  | 0, _, row, _, S => vsR st row S
  | m + 1, k, row, lf, S => fdN (fun t S => if lf t = true then srR st m (k + 1) (upN row k t) (rmB lf t) S else S) 0 8 S
/-- a row of k and those left are those of A, each once -/
def JR (A : Nat → Bool) (k : Nat) (row : Nat → Nat) (lf : Nat → Bool) : Prop := (∀ j, lf j = true → A j = true) ∧ ∀ p : Nat → Bool, sumN k (fun i => if p (row i) = true then 1 else 0) + sumN 8 (fun t => if (lf t && p t) = true then 1 else 0) = sumN 8 (fun t => if (A t && p t) = true then 1 else 0)
theorem JR.start {A : Nat → Bool} {row : Nat → Nat} : JR A 0 row A := ⟨fun _ h => h, fun p => by simp [sumN]⟩
theorem sumN_rm {lf p : Nat → Bool} {t : Nat} (h : lf t = true) : ∀ n, sumN n (fun j => if (lf j && p j) = true then 1 else 0) = sumN n (fun j => if (rmB lf t j && p j) = true then 1 else 0) + (if (decide (t < n) && p t) = true then 1 else 0)
  | 0 => by simp [sumN]
  | n + 1 => by
    simp only [sumN]
    rw [sumN_rm h n]
    by_cases e : n = t
    · subst e
      have h1 : rmB lf n n = false := by simp [rmB]
      rw [h1, h]
      by_cases c : p n = true
      · simp [c]
      · simp [c]
    · have h1 : rmB lf t n = lf n := by simp [rmB, e]
      rw [h1]
      have h2 : decide (t < n + 1) = decide (t < n) := decide_eq_decide.mpr ⟨fun z => by omega, fun z => by omega⟩
      rw [h2]; omega
theorem JR.next {A : Nat → Bool} {k t : Nat} {row : Nat → Nat} {lf : Nat → Bool} (h : JR A k row lf) (ht : lf t = true) (h8 : t < 8) : JR A (k + 1) (upN row k t) (rmB lf t) := by
  refine ⟨fun j hj => h.1 j (by unfold rmB at hj; rw [Bool.and_eq_true] at hj; exact hj.1), fun p => ?_⟩
  have h1 := h.2 p
  rw [sumN_rm ht 8, decide_eq_true h8, Bool.true_and] at h1
  have hs : ∀ f : Nat → Nat, sumN (k + 1) f = sumN k f + f k := fun _ => rfl
  have hu : ∀ i, i < k → upN row k t i = row i := fun i hi => by unfold upN; rw [if_neg (by omega)]
  have h2 : sumN k (fun i => if p (upN row k t i) = true then 1 else 0) = sumN k (fun i => if p (row i) = true then 1 else 0) := sumN_congr fun i hi => by rw [hu i hi]
  have h3 : upN row k t k = t := by simp [upN]
  rw [hs, h2, h3]
  omega
theorem sumN_ones : ∀ n, sumN n (fun _ => 1) = n
  | 0 => rfl
  | n + 1 => by simp only [sumN]; rw [sumN_ones n]
def cntB (n : Nat) (p : Nat → Bool) : Nat := sumN n (fun t => if p t = true then 1 else 0)
theorem JR.count {A : Nat → Bool} {k : Nat} {row : Nat → Nat} {lf : Nat → Bool} (h : JR A k row lf) : k + cntB 8 lf = cntB 8 A := by
  have h1 := h.2 (fun _ => true)
  have h2 := sumN_ones k
  simp only [Bool.and_true] at h1
  unfold cntB
  simp only [if_true] at h1
  omega
theorem cntB_zero {p : Nat → Bool} : ∀ n, cntB n p = 0 ↔ ∀ j, j < n → p j = false
  | 0 => ⟨fun _ j h => absurd h (Nat.not_lt_zero j), fun _ => rfl⟩
  | n + 1 => by
    have ih := cntB_zero (p := p) n
    unfold cntB at ih ⊢
    simp only [sumN]
    constructor
    · intro h j hj
      by_cases e : j = n
      · subst e
        cases c : p j with
        | false => rfl
        | true => rw [c] at h; simp at h
      · exact ih.mp (by omega) j (by omega)
    · intro h
      rw [ih.mpr (fun j hj => h j (by omega)), h n (by omega)]; rfl
/-! stand together: from the first to the last, or in one run -/
def rnB (b : Nat → Bool) : Nat → Nat
  | 0 => 0
  | i + 1 => rnB b i + (if (b i && !(decide (0 < i) && b (i - 1))) = true then 1 else 0)
def sfB (b : Nat → Bool) : Nat → Option (Nat × Nat)
  | 0 => none
  | k + 1 => if b k = true then (match sfB b k with | none => some (k, k) | some q => some (q.1, k)) else sfB b k
def sdB (b : Nat → Bool) (n c : Nat) : Bool := match sfB b n with
  | none => true
  | some q => decide (q.2 - q.1 + 1 = c)
theorem rnB_cg {b b' : Nat → Bool} : ∀ n, (∀ k, k < n → b k = b' k) → rnB b n = rnB b' n
  | 0, _ => rfl
  | n + 1, h => by
    unfold rnB
    rw [rnB_cg n (fun k hk => h k (by omega)), h n (by omega)]
    by_cases c : 0 < n
    · rw [h (n - 1) (by omega)]
    · rw [decide_eq_false c, Bool.false_and, Bool.false_and]
theorem sfB_cg {b b' : Nat → Bool} : ∀ n, (∀ k, k < n → b k = b' k) → sfB b n = sfB b' n
  | 0, _ => rfl
  | n + 1, h => by unfold sfB; rw [sfB_cg n (fun k hk => h k (by omega)), h n (by omega)]
theorem sd_dec : ∀ n, n < 8 → ∀ m, m < 128 → sdB (fun k => Nat.testBit m k) n (cntB n (fun k => Nat.testBit m k)) = decide (rnB (fun k => Nat.testBit m k) n ≤ 1) := by decide +kernel
theorem mkN_le {p : Nat → Bool} {n : Nat} (h : n < 8) : mkN n p < 128 := Nat.lt_of_lt_of_le (mkN_lt p n) (by
  have : 2 ^ n ≤ 2 ^ 7 := Nat.pow_le_pow_right (by decide) (by omega)
  omega)
theorem sd_eq {b : Nat → Bool} {n : Nat} (h : n < 8) : sdB b n (cntB n b) = decide (rnB b n ≤ 1) := by
  have e : ∀ k, k < n → b k = Nat.testBit (mkN n b) k := fun k hk => by rw [mkN_bit]; simp [hk]
  have h1 := sd_dec n h (mkN n b) (mkN_le h)
  rw [rnB_cg n e]
  unfold sdB at h1 ⊢
  rw [sfB_cg n e]
  have h2 : cntB n b = cntB n (fun k => Nat.testBit (mkN n b) k) := sumN_congr fun k hk => by rw [e k hk]
  rw [h2]; exact h1
theorem sfB_le {b : Nat → Bool} : ∀ (n : Nat) (q : Nat × Nat), sfB b n = some q → q.1 ≤ q.2 ∧ q.2 < n
  | 0, q, h => by cases h
  | n + 1, q, h => by
    unfold sfB at h
    by_cases c : b n = true
    · rw [if_pos c] at h
      cases e : sfB b n with
      | none => rw [e] at h; simp only [Option.some.injEq] at h; subst h; exact ⟨Nat.le_refl _, Nat.lt_succ_self _⟩
      | some q2 =>
        rw [e] at h; simp only [Option.some.injEq] at h; subst h
        have := sfB_le n q2 e
        exact ⟨by dsimp only; omega, Nat.lt_succ_self _⟩
    · rw [if_neg c] at h
      have := sfB_le n q h
      exact ⟨this.1, by omega⟩

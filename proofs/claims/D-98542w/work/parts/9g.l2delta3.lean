/-! PLAIN LAW: delta, the Model's side -/
set_option maxRecDepth 100000
def lv (a : Ar) (g : Nat → Int32) (m : Nat) : Bool := (decide (m / 8 < m % 8) && decide (m % 8 < cT a)) && ((decide (a 9 (m / 8) = 0) && decide (a 9 (m % 8) = 0)) && !decide (g (m / 8) = g (m % 8)))
def lnM (a : Ar) (m : Nat) : Nat := lenN a (m / 8) (m % 8)
def bst (a : Ar) (g : Nat → Int32) : Nat → Option Nat
  | 0 => none
  | m + 1 => if lv a g m = true then (match bst a g m with
    | none => some m
    | some m0 => if lnM a m0 ≤ lnM a m then some m0 else some m) else bst a g m
theorem bst_spec {a : Ar} {g : Nat → Int32} : ∀ m, (bst a g m = none → ∀ k, k < m → lv a g k = false) ∧ ∀ m0, bst a g m = some m0 → m0 < m ∧ lv a g m0 = true ∧ ∀ k, k < m → lv a g k = true → lnM a m0 < lnM a k ∨ (lnM a m0 = lnM a k ∧ m0 ≤ k)
  | 0 => ⟨fun _ k h => by omega, fun m0 h => by cases h⟩
  | m + 1 => by
    obtain ⟨ih1, ih2⟩ := bst_spec (a := a) (g := g) m
    unfold bst
    by_cases hl : lv a g m = true
    · rw [if_pos hl]
      cases hb : bst a g m with
      | none =>
        refine ⟨fun z => (by cases z), fun m0 h => ?_⟩
        have e : m = m0 := Option.some.inj h
        subst e
        refine ⟨by omega, hl, fun k hk hlk => ?_⟩
        by_cases e : k = m
        · subst e; exact Or.inr ⟨rfl, Nat.le_refl _⟩
        · have := ih1 hb k (by omega); rw [this] at hlk; cases hlk
      | some m1 =>
        obtain ⟨j1, j2, j3⟩ := ih2 m1 hb
        (try dsimp only)
        by_cases c : lnM a m1 ≤ lnM a m
        · rw [if_pos c]
          refine ⟨fun z => (by cases z), fun m0 h => ?_⟩
          have e : m1 = m0 := Option.some.inj h
          subst e
          refine ⟨by omega, j2, fun k hk hlk => ?_⟩
          by_cases e : k = m
          · subst e; omega
          · exact j3 k (by omega) hlk
        · rw [if_neg c]
          refine ⟨fun z => (by cases z), fun m0 h => ?_⟩
          have e : m = m0 := Option.some.inj h
          subst e
          refine ⟨by omega, hl, fun k hk hlk => ?_⟩
          by_cases e : k = m
          · subst e; exact Or.inr ⟨rfl, Nat.le_refl _⟩
          · have := j3 k (by omega) hlk; omega
    · rw [if_neg hl]
      refine ⟨fun z k hk => ?_, fun m0 h => ?_⟩
      · by_cases e : k = m
        · subst e; simpa using hl
        · exact ih1 z k (by omega)
      · obtain ⟨j1, j2, j3⟩ := ih2 m0 h
        refine ⟨by omega, j2, fun k hk hlk => ?_⟩
        by_cases e : k = m
        · subst e; exact absurd hlk hl
        · exact j3 k (by omega) hlk
theorem lv_no {a : Ar} {g : Nat → Int32} {m : Nat} (h : ¬ (m / 8 < m % 8 ∧ m % 8 < cT a)) : lv a g m = false := by
  unfold lv
  cases hx : (decide (m / 8 < m % 8) && decide (m % 8 < cT a)) with
  | false => rfl
  | true => rw [Bool.and_eq_true, decide_eq_true_eq, decide_eq_true_eq] at hx; exact absurd hx h
theorem bst_skip {a : Ar} {g : Nat → Int32} {m : Nat} : ∀ k, (∀ j, m ≤ j → j < m + k → lv a g j = false) → bst a g (m + k) = bst a g m
  | 0, _ => rfl
  | k + 1, h => by
    have ih := bst_skip k (fun j h1 h2 => h j h1 (by omega))
    show bst a g (m + k + 1) = _
    have hl : ¬ lv a g (m + k) = true := by rw [h (m + k) (by omega) (by omega)]; decide
    rw [show bst a g (m + k + 1) = (if lv a g (m + k) = true then (match bst a g (m + k) with
      | none => some (m + k)
      | some m0 => if lnM a m0 ≤ lnM a (m + k) then some m0 else some (m + k)) else bst a g (m + k)) from rfl, if_neg hl, ih]
def wB (a : Ar) : Prop := ∀ t, t < cT a → 0 ≤ (a 6 t).toInt ∧ (a 6 t).toInt ≤ 50
theorem cnP_lv {a : Ar} {g : Nat → Int32} (hw : wB a) {n : Nat} (hn : n < 704) : cnP a g n = (lv a g (n % 64) && decide (lnM a (n % 64) = n / 64 + 1)) := by
  unfold cnP cnd lv lnM
  rw [show n % 64 % 8 = n % 8 by omega]
  by_cases hx : n % 64 / 8 < n % 8 ∧ n % 8 < cT a
  · obtain ⟨e, l1, l2⟩ := lenI_eq (a := a) (hw (n % 64 / 8) (by omega)) (hw (n % 8) hx.2)
    rw [e]
    have : decide (Int32.ofNat (lenN a (n % 64 / 8) (n % 8)) = Int32.ofNat (n / 64 + 1)) = decide (lenN a (n % 64 / 8) (n % 8) = n / 64 + 1) := decide_eq_decide.mpr (by rw [zI_inj (by omega) (by omega)])
    rw [this]
    simp only [Bool.and_assoc]
  · have : (decide (n % 64 / 8 < n % 8) && decide (n % 8 < cT a)) = false := by
      cases hy : (decide (n % 64 / 8 < n % 8) && decide (n % 8 < cT a)) with
      | false => rfl
      | true => rw [Bool.and_eq_true, decide_eq_true_eq, decide_eq_true_eq] at hy; exact absurd hy hx
    rw [this]; rfl
theorem lv_len {a : Ar} {g : Nat → Int32} (hw : wB a) {m : Nat} (h : lv a g m = true) : (m / 8 < m % 8 ∧ m % 8 < cT a) ∧ 1 ≤ lnM a m ∧ lnM a m ≤ 11 := by
  have hx : m / 8 < m % 8 ∧ m % 8 < cT a := by
    refine Classical.byContradiction fun z => ?_
    rw [lv_no z] at h; cases h
  obtain ⟨-, l1, l2⟩ := lenI_eq (a := a) (hw (m / 8) (by omega)) (hw (m % 8) hx.2)
  exact ⟨hx, l1, l2⟩
/-- no pair is left -/
theorem lnK_none {a : Ar} {s : KS} (hw : wB a) {p : Nat} (hp : p ≤ 704) (h : bst a (lnK a s p).1 64 = none) : lnK a s 704 = lnK a s p := by
  have := lnK_skip (a := a) (s := s) (p := p) (704 - p) (fun n h1 h2 => by
    rw [cnP_lv hw (by omega), (bst_spec 64).1 h _ (by omega)]; rfl)
  rwa [show p + (704 - p) = 704 by omega] at this
/-- the least pair is the next -/
theorem lnK_next {a : Ar} {s : KS} (hw : wB a) {p m : Nat} (hp : p ≤ 704) (h : bst a (lnK a s p).1 64 = some m) : ∃ q, p < q ∧ q ≤ 704 ∧ lnK a s q = (joinG (lnK a s p).1 ((lnK a s p).1 (m % 8)) ((lnK a s p).1 (m / 8)), (lnK a s p).2.1 + Int32.ofNat (lnM a m), (lnK a s p).2.2 + 1) := by
  obtain ⟨m1, m2, m3⟩ := (bst_spec (a := a) (g := (lnK a s p).1) 64).2 m h
  obtain ⟨hx, l1, l2⟩ := lv_len hw m2
  have n64 : (64 * (lnM a m - 1) + m) % 64 = m := by omega
  have nd : (64 * (lnM a m - 1) + m) / 64 + 1 = lnM a m := by omega
  have n704 : 64 * (lnM a m - 1) + m < 704 := by omega
  have hc : cnP a (lnK a s p).1 (64 * (lnM a m - 1) + m) = true := by
    rw [cnP_lv hw n704, n64, nd, m2]; simp
  have hlo : p ≤ 64 * (lnM a m - 1) + m := by
    refine Classical.byContradiction fun z => ?_
    rw [lnK_dn p _ (by omega)] at hc; cases hc
  have hskip := lnK_skip (a := a) (s := s) (p := p) (64 * (lnM a m - 1) + m - p) (fun n h1 h2 => by
    rw [cnP_lv hw (by omega)]
    cases hl : lv a (lnK a s p).1 (n % 64) with
    | false => rfl
    | true =>
      rw [Bool.true_and, decide_eq_false_iff_not]
      intro e
      have := m3 (n % 64) (by omega) hl
      omega)
  rw [show p + (64 * (lnM a m - 1) + m - p) = 64 * (lnM a m - 1) + m by omega] at hskip
  refine ⟨64 * (lnM a m - 1) + m + 1, by omega, by omega, ?_⟩
  show stK a (lnK a s (64 * (lnM a m - 1) + m)) ((64 * (lnM a m - 1) + m) / 64 + 1) ((64 * (lnM a m - 1) + m) % 64 / 8) ((64 * (lnM a m - 1) + m) % 8) = _
  unfold cnP at hc
  rw [hskip]
  unfold stK
  rw [if_pos hc, nd, n64, show (64 * (lnM a m - 1) + m) % 8 = m % 8 by omega]

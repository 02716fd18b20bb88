/-! PLAIN LAW: delta, pairs in a row; the Model's measures -/
set_option maxRecDepth 100000
/-- position n: length n/64+1, pair n%64/8, n%8 -/
def cnP (a : Ar) (g : Nat → Int32) (n : Nat) : Bool := cnd a g (n / 64 + 1) (n % 64 / 8) (n % 8)
def lnK (a : Ar) (s : KS) : Nat → KS
  | 0 => s
  | n + 1 => stK a (lnK a s n) (n / 64 + 1) (n % 64 / 8) (n % 8)
theorem lnK_in {a : Ar} {s : KS} {l i : Nat} (hi : i < 8) : ∀ j, j ≤ 8 → lnK a s (64 * l + 8 * i + j) = inK a (l + 1) i j (lnK a s (64 * l + 8 * i))
  | 0, _ => rfl
  | j + 1, h => by
    show stK a (lnK a s (64 * l + 8 * i + j)) ((64 * l + 8 * i + j) / 64 + 1) ((64 * l + 8 * i + j) % 64 / 8) ((64 * l + 8 * i + j) % 8) = stK a (inK a (l + 1) i j (lnK a s (64 * l + 8 * i))) (l + 1) i j
    rw [lnK_in hi j (by omega), show (64 * l + 8 * i + j) / 64 = l by omega, show (64 * l + 8 * i + j) % 64 / 8 = i by omega, show (64 * l + 8 * i + j) % 8 = j by omega]
theorem lnK_row {a : Ar} {s : KS} {l : Nat} : ∀ i, i ≤ 8 → lnK a s (64 * l + 8 * i) = rowK a (l + 1) i (lnK a s (64 * l))
  | 0, _ => rfl
  | i + 1, h => by
    have := lnK_in (a := a) (s := s) (l := l) (i := i) (by omega) 8 (Nat.le_refl _)
    rw [show 64 * l + 8 * (i + 1) = 64 * l + 8 * i + 8 by omega, this, lnK_row i (by omega)]
    rfl
theorem lnK_all {a : Ar} {s : KS} : ∀ l, lnK a s (64 * l) = allK a l s
  | 0 => rfl
  | l + 1 => by
    have := lnK_row (a := a) (s := s) (l := l) 8 (Nat.le_refl _)
    rw [show 64 * (l + 1) = 64 * l + 8 * 8 by omega, this, lnK_all l]
    rfl
theorem joinG_eq {g : Nat → Int32} {u w : Int32} {i j : Nat} (h : g i = g j) : joinG g u w i = joinG g u w j := by
  unfold joinG; rw [h]
theorem cnd_join {a : Ar} {g : Nat → Int32} {u w : Int32} {L i j : Nat} (h : cnd a g L i j = false) : cnd a (joinG g u w) L i j = false := by
  unfold cnd at h ⊢
  by_cases e : g i = g j
  · rw [joinG_eq e]; simp
  · have e1 : decide (g i = g j) = false := decide_eq_false e
    rw [e1] at h
    simp only [Bool.not_false, Bool.true_and] at h
    cases hx : (decide (i < j) && decide (j < cT a)) with
    | false => rfl
    | true =>
      rw [hx, Bool.true_and] at h
      cases hy : (decide (a 9 i = 0) && decide (a 9 j = 0)) with
      | false => rfl
      | true =>
        rw [hy, Bool.true_and] at h
        rw [h]; simp
theorem cnd_self {a : Ar} {g : Nat → Int32} {L i j : Nat} (h : cnd a g L i j = true) : cnd a (joinG g (g j) (g i)) L i j = false := by
  unfold cnd at h ⊢
  have e : joinG g (g j) (g i) i = joinG g (g j) (g i) j := by
    unfold joinG
    rw [if_pos rfl]
    by_cases c : g i = g j
    · rw [if_pos c]
    · rw [if_neg c]
  rw [e]; simp
theorem stK_g {a : Ar} {s : KS} {L i j : Nat} {L2 i2 j2 : Nat} (h : cnd a s.1 L2 i2 j2 = false) : cnd a (stK a s L i j).1 L2 i2 j2 = false := by
  unfold stK
  by_cases c : cnd a s.1 L i j = true
  · rw [if_pos c]; exact cnd_join h
  · rw [if_neg c]; exact h
theorem lnK_dn {a : Ar} {s : KS} : ∀ n m, m < n → cnP a (lnK a s n).1 m = false
  | 0, m, h => by omega
  | n + 1, m, h => by
    show cnd a (stK a (lnK a s n) (n / 64 + 1) (n % 64 / 8) (n % 8)).1 _ _ _ = false
    by_cases e : m = n
    · subst e
      unfold stK
      by_cases c : cnd a (lnK a s m).1 (m / 64 + 1) (m % 64 / 8) (m % 8) = true
      · rw [if_pos c]; exact cnd_self c
      · rw [if_neg c]; simpa using c
    · exact stK_g (lnK_dn n m (by omega))
/-- no pair between p and q: nothing changes -/
theorem lnK_skip {a : Ar} {s : KS} {p : Nat} : ∀ k, (∀ n, p ≤ n → n < p + k → cnP a (lnK a s p).1 n = false) → lnK a s (p + k) = lnK a s p
  | 0, _ => rfl
  | k + 1, h => by
    have ih := lnK_skip k (fun n h1 h2 => h n h1 (by omega))
    show stK a (lnK a s (p + k)) ((p + k) / 64 + 1) ((p + k) % 64 / 8) ((p + k) % 8) = _
    rw [ih]
    have := h (p + k) (by omega) (by omega)
    unfold cnP at this
    unfold stK
    rw [this]; rfl
/-- marks of what isn't afloat -/
def mI (a : Ar) (g : Nat → Int32) : Prop := ∀ t, t < cT a → (g t = -1 ↔ ¬ a 9 t = 0)
theorem mk0_mI {a : Ar} (h8 : cT a ≤ 8) : mI a (mk0 a) := fun t ht => by
  unfold mk0
  by_cases h : a 9 t = 0
  · rw [if_pos h]
    have hl := (ntz_eq (small_pc (a := a) (rp := sRp a) (t := t)) (pc_ne (by omega))).1
    refine ⟨fun z => ?_, fun z => absurd h z⟩
    have := congrArg Int32.toInt z
    rw [zI_int (by omega)] at this
    have e : Int32.toInt (-1) = -1 := rfl
    omega
  · rw [if_neg h]; exact ⟨fun _ => h, fun _ => rfl⟩
theorem lnK_mI {a : Ar} {s : KS} (h : mI a s.1) : ∀ n, mI a (lnK a s n).1
  | 0 => h
  | n + 1 => by
    have ih := lnK_mI h n
    show mI a (stK a (lnK a s n) _ _ _).1
    unfold stK
    by_cases c : cnd a (lnK a s n).1 (n / 64 + 1) (n % 64 / 8) (n % 8) = true
    · rw [if_pos c]
      unfold cnd at c
      simp only [Bool.and_eq_true, decide_eq_true_eq] at c
      obtain ⟨⟨hij, hj⟩, ⟨hi9, hj9⟩, -⟩ := c
      intro t ht
      unfold joinG
      by_cases e : (lnK a s n).1 t = (lnK a s n).1 (n % 8)
      · show (if (lnK a s n).1 t = (lnK a s n).1 (n % 8) then (lnK a s n).1 (n % 64 / 8) else _) = -1 ↔ _
        rw [if_pos e]
        have h1 := ih t ht
        rw [e] at h1
        have hi' : n % 64 / 8 < cT a := by omega
        constructor
        · intro z; exact absurd hi9 ((ih _ hi').mp z)
        · intro z; exact absurd hj9 ((ih _ hj).mp (h1.mpr z))
      · show (if (lnK a s n).1 t = (lnK a s n).1 (n % 8) then _ else (lnK a s n).1 t) = -1 ↔ _
        rw [if_neg e]; exact ih t ht
    · rw [if_neg c]; exact ih
/-! lengths -/
def lenN (a : Ar) (i j : Nat) : Nat := 1 + ((a 6 i).toInt - (a 6 j).toInt).natAbs / 5
theorem div5 : ∀ k, k < 51 → Int32.ofNat k / (5 : Int32) = Int32.ofNat (k / 5) := by decide
theorem of_toInt {v : Int32} {n : Nat} (hn : n < 2147483648) (h : v.toInt = n) : v = Int32.ofNat n := Int32.toInt_inj.mp (by rw [h, zI_int hn])
theorem lenI_eq {a : Ar} {i j : Nat} (hi : 0 ≤ (a 6 i).toInt ∧ (a 6 i).toInt ≤ 50) (hj : 0 ≤ (a 6 j).toInt ∧ (a 6 j).toInt ≤ 50) : lenI a i j = Int32.ofNat (lenN a i j) ∧ 1 ≤ lenN a i j ∧ lenN a i j ≤ 11 := by
  have hk : ((a 6 i).toInt - (a 6 j).toInt).natAbs ≤ 50 := by omega
  have e1 : (a 6 i - a 6 j).toInt = (a 6 i).toInt - (a 6 j).toInt := tI_sub (by omega) (by omega)
  have e2 : (if 0 ≤ a 6 i - a 6 j then a 6 i - a 6 j else 0 - (a 6 i - a 6 j)) = Int32.ofNat ((a 6 i).toInt - (a 6 j).toInt).natAbs := by
    by_cases c : 0 ≤ a 6 i - a 6 j
    · rw [if_pos c]
      rw [Int32.le_iff_toInt_le, e1] at c
      have c : (0 : Int) ≤ (a 6 i).toInt - (a 6 j).toInt := c
      exact of_toInt (by omega) (by rw [e1]; omega)
    · rw [if_neg c]
      rw [Int32.le_iff_toInt_le, e1] at c
      have c : ¬ (0 : Int) ≤ (a 6 i).toInt - (a 6 j).toInt := c
      have z0 : (0 : Int32).toInt = 0 := rfl
      exact of_toInt (by omega) (by rw [tI_sub (by rw [e1, z0]; omega) (by rw [e1, z0]; omega), e1, z0]; omega)
  refine ⟨?_, by unfold lenN; omega, by unfold lenN; omega⟩
  unfold lenI
  rw [e2, div5 _ (by omega)]
  unfold lenN
  exact (Int32.ofNat_add 1 _).symm
theorem f3_ropeBetween_eq {M : Bl} {i j : Nat} (hi8 : i < 8) (hj8 : j < 8) (hi : 0 ≤ (M.2.1 6 i).toInt ∧ (M.2.1 6 i).toInt ≤ 50) (hj : 0 ≤ (M.2.1 6 j).toInt ∧ (M.2.1 6 j).toInt ≤ 50) : f3_ropeBetween M (Int32.ofNat i) (Int32.ofNat j) = some (Int32.ofNat (lenN M.2.1 i j)) := by
  have hk : ((M.2.1 6 i).toInt - (M.2.1 6 j).toInt).natAbs ≤ 50 := by omega
  have ini : inB (Int32.ofNat i) 8 = true := zI_in hi8 (by decide)
  have inj : inB (Int32.ofNat j) 8 = true := zI_in hj8 (by decide)
  have ki : (Int32.ofNat i).toNatClampNeg = i := zI_nat (by omega)
  have kj : (Int32.ofNat j).toNatClampNeg = j := zI_nat (by omega)
  unfold f3_ropeBetween
  simp only [ini, inj, ki, kj, chk_t]
  by_cases c : M.2.1 6 j ≤ M.2.1 6 i
  · rw [if_pos c]
    rw [Int32.le_iff_toInt_le] at c
    rw [of_toInt (v := M.2.1 6 i - M.2.1 6 j) (n := ((M.2.1 6 i).toInt - (M.2.1 6 j).toInt).natAbs) (by omega) (by rw [tI_sub (by omega) (by omega)]; omega), div5 _ (by omega)]
    unfold lenN
    exact congrArg some (Int32.ofNat_add 1 _).symm
  · rw [if_neg c]
    rw [Int32.le_iff_toInt_le] at c
    rw [of_toInt (v := M.2.1 6 j - M.2.1 6 i) (n := ((M.2.1 6 i).toInt - (M.2.1 6 j).toInt).natAbs) (by omega) (by rw [tI_sub (by omega) (by omega)]; omega), div5 _ (by omega)]
    unfold lenN
    exact congrArg some (Int32.ofNat_add 1 _).symm

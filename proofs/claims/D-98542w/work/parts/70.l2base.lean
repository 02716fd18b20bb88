/-! PLAIN LAW, base: numbers, sets of bits, loops -/
set_option maxRecDepth 100000
theorem bnd_s {α β : Type} (a : α) (f : α → Option β) : bnd (some a) f = f a := rfl
theorem bnd2_s {α β γ : Type} (a : α) (b : β) (f : α → β → Option γ) : bnd2 (some (a, b)) f = f a b := rfl
theorem chk_t {α : Type} (x : Option α) : chk true x = x := rfl
theorem ltv_s {α β : Type} (x : α) (f : α → Option β) : ltv x f = f x := rfl
theorem chk_h {α : Type} {b : Bool} (h : b = true) (x : Option α) : chk b x = x := by subst h; rfl
theorem zI_succ (k : Nat) : Int32.ofNat k + (1 : Int32) = Int32.ofNat (k + 1) := (Int32.ofNat_add k 1).symm
theorem zI_pred {k : Nat} (h : 0 < k) : Int32.ofNat k - (1 : Int32) = Int32.ofNat (k - 1) := by
  obtain ⟨j, rfl⟩ : ∃ j, k = j + 1 := ⟨k - 1, by omega⟩
  rw [← zI_succ, Nat.add_sub_cancel, Int32.add_sub_cancel]
theorem zI_le {a b : Nat} (ha : a < 2147483648) (hb : b < 2147483648) : (Int32.ofNat a ≤ Int32.ofNat b) = (a ≤ b) := propext (Int32.ofNat_le_iff_le ha hb)
theorem zI_lt {a b : Nat} (ha : a < 2147483648) (hb : b < 2147483648) : (Int32.ofNat a < Int32.ofNat b) = (a < b) := propext (Int32.ofNat_lt_iff_lt ha hb)
theorem zI_nat {a : Nat} (ha : a < 2147483648) : (Int32.ofNat a).toNatClampNeg = a := Int32.toNatClampNeg_ofNat_of_lt ha
theorem zI_int {a : Nat} (ha : a < 2147483648) : (Int32.ofNat a).toInt = a := Int32.toInt_ofNat_of_lt ha
theorem zI_inj {a b : Nat} (ha : a < 2147483648) (hb : b < 2147483648) : (Int32.ofNat a = Int32.ofNat b) = (a = b) := by
  refine propext ⟨fun h => ?_, fun h => by rw [h]⟩
  rw [← zI_nat ha, h, zI_nat hb]
theorem zI_neg {a : Nat} (ha : a < 2147483648) : (Int32.ofNat a < 0) = False := by
  have h : (Int32.ofNat a < Int32.ofNat 0) = (a < 0) := zI_lt ha (by decide)
  have h2 : (Int32.ofNat a < 0) = (a < 0) := h
  rw [h2]; exact eq_false (Nat.not_lt_zero a)
theorem zI_pos {a : Nat} (ha : a < 2147483648) : (0 ≤ Int32.ofNat a) = True := by
  have h : (Int32.ofNat 0 ≤ Int32.ofNat a) = (0 ≤ a) := zI_le (by decide) ha
  have h2 : (0 ≤ Int32.ofNat a) = (0 ≤ a) := h
  rw [h2]; exact eq_true (Nat.zero_le a)
theorem zI_in {a N : Nat} (h : a < N) (hN : N < 2147483648) : inB (Int32.ofNat a) N = true := by
  have ha : a < 2147483648 := Nat.lt_trans h hN
  simp only [inB, zI_pos ha, zI_nat ha, h, decide_true, Bool.and_self]
theorem zI_of {x : Int32} (h : 0 ≤ x) : x = Int32.ofNat x.toNatClampNeg := (Int32.ofNat_toNatClampNeg x h).symm
theorem zI_lt31 (x : Int32) : x.toNatClampNeg < 2147483648 := Int32.toNatClampNeg_lt x
theorem zI_31 {k : Nat} (h : k < 32) : (Int32.ofNat k &&& 31) = Int32.ofNat k := (by decide +kernel : ∀ k, k < 32 → (Int32.ofNat k &&& 31) = Int32.ofNat k) k h
/-! bits -/
def b2 (b : Bool) : Int32 := if b = true then 1 else 0
theorem b2_inj {x y : Bool} : (b2 x = b2 y) = (x = y) := by cases x <;> cases y <;> simp [b2]
theorem isB_b2 (b : Bool) : isB (b2 b) = true := by cases b <;> rfl
def bit (s : Int32) (k : Nat) : Bool := s.toBitVec.getLsbD k
theorem sh_bit {s : Int32} {k : Nat} (h : k < 32) : ((s >>> (Int32.ofNat k &&& 31)) &&& (1 : Int32)) = b2 (bit s k) := by
  rw [zI_31 h, ← Int32.toBitVec_inj]
  have e2 : ((Int32.ofNat k).toBitVec.smod 32).toNat = k := (by decide +kernel : ∀ k, k < 32 → ((Int32.ofNat k).toBitVec.smod 32).toNat = k) k h
  show (s.toBitVec.sshiftRight' ((Int32.ofNat k).toBitVec.smod 32)) &&& 1#32 = _
  rw [BitVec.and_one_eq_setWidth_ofBool_getLsbD, BitVec.getLsbD_sshiftRight', e2]
  have e3 : (!decide (32 ≤ 0) && if k + 0 < 32 then s.toBitVec.getLsbD (k + 0) else s.toBitVec.msb) = bit s k := by
    simp [bit, h]
  rw [e3]
  cases bit s k <;> rfl
theorem has_bit {s : Int32} {k : Nat} (h : k < 32) : f3_has s (Int32.ofNat k) = some (b2 (bit s k)) := by
  unfold f3_has
  rw [sh_bit h]
  cases bit s k <;> rfl
theorem has_bit0 {s : Int32} {k : Nat} (h : k < 32) : f0_has s (Int32.ofNat k) = some (b2 (bit s k)) := has_bit h
theorem bit_ext {a b : Int32} (h : ∀ k, k < 32 → bit a k = bit b k) : a = b := Int32.toBitVec_inj.mp (BitVec.eq_of_getLsbD_eq h)
theorem bit_or (a b : Int32) (k : Nat) : bit (a ||| b) k = (bit a k || bit b k) := by simp [bit]
theorem bit_and (a b : Int32) (k : Nat) : bit (a &&& b) k = (bit a k && bit b k) := by simp [bit]
theorem bit_not (a : Int32) {k : Nat} (h : k < 32) : bit (a ^^^ (-1 : Int32)) k = !bit a k := by
  have e : ((-1 : Int32).toBitVec).getLsbD k = true := (by decide +kernel : ∀ k, k < 32 → ((-1 : Int32).toBitVec).getLsbD k = true) k h
  show ((a.toBitVec ^^^ (-1 : Int32).toBitVec).getLsbD k) = _
  rw [BitVec.getLsbD_xor, e]
  cases h1 : a.toBitVec.getLsbD k <;> simp [bit, h1]
theorem bit_zero (k : Nat) : bit 0 k = false := by simp [bit]
theorem bit_shl {k j : Nat} (hk : k < 32) (hj : j < 32) : bit ((1 : Int32) <<< (Int32.ofNat k &&& 31)) j = decide (j = k) :=
  (by decide +kernel : ∀ k, k < 32 → ∀ j, j < 32 → bit ((1 : Int32) <<< (Int32.ofNat k &&& 31)) j = decide (j = k)) k hk j hj
theorem bit_nI {a k : Nat} (hk : k < 32) : bit (Int32.ofNat a) k = a.testBit k := by
  show (BitVec.ofNat 32 a).getLsbD k = _
  rw [BitVec.getLsbD_ofNat]; simp [hk]
/-- a set is empty -/
theorem and_zero_iff {a b : Int32} : (a &&& b = 0) = (∀ k, k < 32 → (bit a k && bit b k) = false) := by
  refine propext ⟨fun h k hk => ?_, fun h => bit_ext fun k hk => ?_⟩
  · rw [← bit_and, h, bit_zero]
  · rw [bit_and, h k hk, bit_zero]
def mkN : Nat → (Nat → Bool) → Nat
  | 0, _ => 0
  | n + 1, p => if p n then mkN n p ||| 2 ^ n else mkN n p
theorem mkN_lt (p : Nat → Bool) : ∀ n, mkN n p < 2 ^ n
  | 0 => by simp [mkN]
  | n + 1 => by
    have h := mkN_lt p n
    have h2 : 2 ^ n < 2 ^ (n + 1) := Nat.pow_lt_pow_right (by decide) (Nat.lt_succ_self n)
    unfold mkN
    split
    · exact Nat.or_lt_two_pow (Nat.lt_trans h h2) h2
    · exact Nat.lt_trans h h2
theorem mkN_bit (p : Nat → Bool) (k : Nat) : ∀ n, (mkN n p).testBit k = (decide (k < n) && p k)
  | 0 => by simp [mkN]
  | n + 1 => by
    have ih := mkN_bit p k n
    unfold mkN
    by_cases hp : p n = true
    · rw [if_pos hp, Nat.testBit_or, ih, Nat.testBit_two_pow]
      by_cases hk : k = n
      · subst hk; simp [hp]
      · have h1 : (n = k) = False := eq_false (fun z => hk z.symm)
        have h2 : (k < n + 1) = (k < n) := propext ⟨fun z => by omega, fun z => by omega⟩
        simp [h1, h2]
    · rw [if_neg hp, ih]
      by_cases hk : k = n
      · subst hk; simp [hp]
      · have h2 : (k < n + 1) = (k < n) := propext ⟨fun z => by omega, fun z => by omega⟩
        simp [h2]
/-- the set of those below n with p -/
def mkS (n : Nat) (p : Nat → Bool) : Int32 := Int32.ofNat (mkN n p)
theorem bit_mkS {n k : Nat} {p : Nat → Bool} (hk : k < 32) : bit (mkS n p) k = (decide (k < n) && p k) := by
  rw [mkS, bit_nI hk, mkN_bit]
theorem mkS_zero (p : Nat → Bool) : mkS 0 p = 0 := rfl
theorem mkS_yes {n : Nat} {p : Nat → Bool} (hn : n < 32) (h : p n = true) : mkS n p ||| ((1 : Int32) <<< (Int32.ofNat n &&& 31)) = mkS (n + 1) p := by
  refine bit_ext fun k hk => ?_
  rw [bit_or, bit_mkS hk, bit_mkS hk, bit_shl hn hk]
  by_cases hkn : k = n
  · subst hkn; simp [h]
  · have h2 : (k < n + 1) = (k < n) := propext ⟨fun z => by omega, fun z => by omega⟩
    simp [hkn, h2]
theorem mkS_no {n : Nat} {p : Nat → Bool} (h : p n = false) : mkS n p = mkS (n + 1) p := by
  simp [mkS, mkN, h]
theorem mkS_no0 {n : Nat} {p : Nat → Bool} (h : p n = false) : mkS n p ||| (0 : Int32) = mkS (n + 1) p := by
  rw [← mkS_no h]; simp
theorem mkS_congr {n : Nat} {p q : Nat → Bool} (h : ∀ k, k < n → p k = q k) : mkS n p = mkS n q := by
  refine bit_ext fun k hk => ?_
  rw [bit_mkS hk, bit_mkS hk]
  by_cases hkn : k < n
  · rw [h k hkn]
  · simp [hkn]
theorem mkS_eq {n : Nat} {s : Int32} (h : ∀ k, n ≤ k → k < 32 → bit s k = false) : s = mkS n (bit s) := by
  refine bit_ext fun k hk => ?_
  rw [bit_mkS hk]
  by_cases hkn : k < n
  · simp [hkn]
  · simp [hkn, h k (by omega) hk]
theorem mkS_nat {n : Nat} {s : Int32} (h : ∀ k, n ≤ k → k < 32 → bit s k = false) : ∃ m : Nat, m < 2 ^ n ∧ s = Int32.ofNat m := ⟨mkN n (bit s), mkN_lt _ _, mkS_eq h⟩
theorem mkS_all {n : Nat} (h : n ≤ 12) : ((1 : Int32) <<< (Int32.ofNat n &&& 31)) - (1 : Int32) = mkS n (fun _ => true) :=
  (by decide +kernel : ∀ n, n < 13 → ((1 : Int32) <<< (Int32.ofNat n &&& 31)) - (1 : Int32) = mkS n (fun _ => true)) n (by omega)
/-! sums -/
def sumI (n : Nat) (f : Nat → Int32) : Int32 := match n with
  | 0 => 0
  | n + 1 => sumI n f + f n
def sumZ (n : Nat) (f : Nat → Int) : Int := match n with
  | 0 => 0
  | n + 1 => sumZ n f + f n
def sumN (n : Nat) (f : Nat → Nat) : Nat := match n with
  | 0 => 0
  | n + 1 => sumN n f + f n
theorem tI_add {a b : Int32} (h1 : -2147483648 ≤ a.toInt + b.toInt) (h2 : a.toInt + b.toInt < 2147483648) : (a + b).toInt = a.toInt + b.toInt := by
  rw [Int32.toInt_add]; exact Int.bmod_eq_of_le h1 h2
theorem tI_sub {a b : Int32} (h1 : -2147483648 ≤ a.toInt - b.toInt) (h2 : a.toInt - b.toInt < 2147483648) : (a - b).toInt = a.toInt - b.toInt := by
  rw [Int32.toInt_sub]; exact Int.bmod_eq_of_le h1 h2
theorem tI_mul {a b : Int32} (h1 : -2147483648 ≤ a.toInt * b.toInt) (h2 : a.toInt * b.toInt < 2147483648) : (a * b).toInt = a.toInt * b.toInt := by
  rw [Int32.toInt_mul]; exact Int.bmod_eq_of_le h1 h2
theorem sumZ_le {f : Nat → Int} {B : Int} : ∀ n : Nat, (∀ k, k < n → -B ≤ f k ∧ f k ≤ B) → -(n * B) ≤ sumZ n f ∧ sumZ n f ≤ n * B
  | 0, _ => by simp [sumZ]
  | n + 1, h => by
    have ih := sumZ_le n (fun k hk => h k (by omega))
    have h1 := h n (by omega)
    have e : ((n + 1 : Nat) : Int) * B = n * B + B := by rw [Int.natCast_add, Int.add_mul]; simp
    rw [e]; simp only [sumZ]; omega
theorem sumI_int {f : Nat → Int32} {B : Int} : ∀ n : Nat, (∀ k, k < n → -B ≤ (f k).toInt ∧ (f k).toInt ≤ B) → n * B < 2147483648 → 0 ≤ B → (sumI n f).toInt = sumZ n (fun k => (f k).toInt)
  | 0, _, _, _ => rfl
  | n + 1, h, hB, h0 => by
    have e : ((n + 1 : Nat) : Int) * B = n * B + B := by rw [Int.natCast_add, Int.add_mul]; simp
    rw [e] at hB
    have ih := sumI_int n (fun k hk => h k (by omega)) (by omega) h0
    have h1 := h n (by omega)
    have h2 := sumZ_le (f := fun k => (f k).toInt) (B := B) n (fun k hk => h k (by omega))
    simp only [sumI, sumZ]
    rw [← ih] at h2 ⊢
    exact tI_add (by omega) (by omega)
theorem sumI_congr {n : Nat} {f g : Nat → Int32} (h : ∀ k, k < n → f k = g k) : sumI n f = sumI n g := by
  induction n with
  | zero => rfl
  | succ n ih => simp only [sumI]; rw [ih (fun k hk => h k (by omega)), h n (by omega)]
theorem sumZ_congr {n : Nat} {f g : Nat → Int} (h : ∀ k, k < n → f k = g k) : sumZ n f = sumZ n g := by
  induction n with
  | zero => rfl
  | succ n ih => simp only [sumZ]; rw [ih (fun k hk => h k (by omega)), h n (by omega)]
theorem sumZ_sub (n : Nat) (f g : Nat → Int) : sumZ n (fun k => f k - g k) = sumZ n f - sumZ n g := by
  induction n with
  | zero => rfl
  | succ n ih => simp only [sumZ]; rw [ih]; omega
theorem sumZ_add (n : Nat) (f g : Nat → Int) : sumZ n (fun k => f k + g k) = sumZ n f + sumZ n g := by
  induction n with
  | zero => rfl
  | succ n ih => simp only [sumZ]; rw [ih]; omega
theorem sumN_congr {n : Nat} {f g : Nat → Nat} (h : ∀ k, k < n → f k = g k) : sumN n f = sumN n g := by
  induction n with
  | zero => rfl
  | succ n ih => simp only [sumN]; rw [ih (fun k hk => h k (by omega)), h n (by omega)]
theorem sumN_le {f : Nat → Nat} {B : Nat} : ∀ n : Nat, (∀ k, k < n → f k ≤ B) → sumN n f ≤ n * B
  | 0, _ => by simp [sumN]
  | n + 1, h => by
    have ih := sumN_le n (fun k hk => h k (by omega))
    have h1 := h n (by omega)
    rw [Nat.succ_mul]; simp only [sumN]; omega
theorem sumI_nat {f : Nat → Nat} : ∀ n : Nat, sumI n (fun k => Int32.ofNat (f k)) = Int32.ofNat (sumN n f)
  | 0 => rfl
  | n + 1 => by simp only [sumI, sumN]; rw [sumI_nat n, Int32.ofNat_add]
theorem sumI_sub (n : Nat) (f g : Nat → Int32) : sumI n (fun k => f k - g k) = sumI n f - sumI n g := by
  induction n with
  | zero => simp [sumI]
  | succ n ih =>
    simp only [sumI]; rw [ih, ← Int32.toInt_inj]
    simp only [Int32.toInt_add, Int32.toInt_sub, Int.bmod_add_bmod, Int.add_bmod_bmod, Int.bmod_sub_bmod, Int.sub_bmod_bmod]
    congr 1; omega
/-! loops -/
theorem FU_big : 1000000000000000 < FU := by unfold FU; exact Nat.lt_of_lt_of_le (by decide : 1000000000000000 < 10 ^ 16) (Nat.pow_le_pow_right (by decide) (by decide))
theorem loop_seq {S R : Type} {body : (S → Option R) → S → Option R} (st : Nat → S) (N : Nat) {r : Option R} (hN : N < 1000000000000000) (step : ∀ (K : S → Option R) (k : Nat), k < N → body K (st k) = K (st (k + 1))) (fin : ∀ K : S → Option R, body K (st N) = r) : loop body FU (st 0) = r := by
  have key : ∀ j m k, k + j = N → j < m → loop body m (st k) = r := by
    intro j
    induction j with
    | zero =>
      intro m k hk hm
      match m, hm with
      | m + 1, _ => have e : k = N := by omega
                    subst e; exact fin _
    | succ j ih =>
      intro m k hk hm
      match m, hm with
      | m + 1, hm =>
        show body (loop body m) (st k) = r
        rw [step _ k (by omega)]
        exact ih m (k + 1) (by omega) (by omega)
  exact key N FU 0 (by omega) (Nat.lt_trans hN FU_big)
theorem loop_meas {S R : Type} {body : (S → Option R) → S → Option R} (Inv : S → Prop) (μ : S → Nat) (F : S → Option R) (h : ∀ (K : S → Option R) (s : S), Inv s → (∀ s', Inv s' → μ s' < μ s → K s' = F s') → body K s = F s) {s : S} (hs : Inv s) (hμ : μ s < 1000000000000000) : loop body FU s = F s := by
  have key : ∀ n s, Inv s → μ s < n → loop body n s = F s := by
    intro n
    induction n with
    | zero => intro s _ hm; omega
    | succ n ih => intro s hs hm; exact h _ s hs (fun s' h1 h2 => ih s' h1 (by omega))
  exact key FU s hs (Nat.lt_trans hμ FU_big)
/-- a loop ends with what it owes -/
theorem loop_post {S R : Type} {body : (S → Option R) → S → Option R} (Inv : S → Prop) (μ : S → Nat) (Q : R → Prop) (h : ∀ (K : S → Option R) (s : S), Inv s → (∀ s', Inv s' → μ s' < μ s → ∃ r, K s' = some r ∧ Q r) → ∃ r, body K s = some r ∧ Q r) {s : S} (hs : Inv s) (hμ : μ s < 1000000000000000) : ∃ r, loop body FU s = some r ∧ Q r := by
  have key : ∀ n s, Inv s → μ s < n → ∃ r, loop body n s = some r ∧ Q r := by
    intro n
    induction n with
    | zero => intro s _ hm; omega
    | succ n ih => intro s hs hm; exact h _ s hs (fun s' h1 h2 => ih s' h1 (by omega))
  exact key FU s hs (Nat.lt_trans hμ FU_big)
/-- both answer, and so that Q -/
def Bo {α β : Type} (Q : α → β → Prop) (x : Option α) (y : Option β) : Prop := ∃ a b, x = some a ∧ y = some b ∧ Q a b
theorem Bo.some {α β : Type} {Q : α → β → Prop} {a : α} {b : β} (h : Q a b) : Bo Q (some a) (some b) := ⟨a, b, rfl, rfl, h⟩
theorem Bo.bnd {α β γ δ : Type} {Q0 : α → β → Prop} {Q : γ → δ → Prop} {x : Option α} {y : Option β} {f : α → Option γ} {g : β → Option δ} (h : Bo Q0 x y) (h2 : ∀ a b, Q0 a b → Bo Q (f a) (g b)) : Bo Q (bnd x f) (bnd y g) := by
  obtain ⟨a, b, rfl, rfl, h0⟩ := h; exact h2 a b h0
theorem Bo.bnd2 {α β γ δ ε ζ : Type} {Q0 : α × β → γ × δ → Prop} {Q : ε → ζ → Prop} {x : Option (α × β)} {y : Option (γ × δ)} {f : α → β → Option ε} {g : γ → δ → Option ζ} (h : Bo Q0 x y) (h2 : ∀ a b c d, Q0 (a, b) (c, d) → Bo Q (f a b) (g c d)) : Bo Q (bnd2 x f) (bnd2 y g) := by
  obtain ⟨⟨a, b⟩, ⟨c, d⟩, rfl, rfl, h0⟩ := h; exact h2 a b c d h0
theorem Bo.mono {α β : Type} {Q Q2 : α → β → Prop} {x : Option α} {y : Option β} (h : Bo Q x y) (h2 : ∀ a b, Q a b → Q2 a b) : Bo Q2 x y := by
  obtain ⟨a, b, e1, e2, h0⟩ := h; exact ⟨a, b, e1, e2, h2 a b h0⟩
theorem loop_sim {S1 R1 S2 R2 : Type} {b1 : (S1 → Option R1) → S1 → Option R1} {b2 : (S2 → Option R2) → S2 → Option R2} (I : S1 → S2 → Prop) (μ : S2 → Nat) (Q : R1 → R2 → Prop)
    (h : ∀ (K1 : S1 → Option R1) (K2 : S2 → Option R2) (s1 : S1) (s2 : S2), I s1 s2 → (∀ t1 t2, I t1 t2 → μ t2 < μ s2 → Bo Q (K1 t1) (K2 t2)) → Bo Q (b1 K1 s1) (b2 K2 s2)) {s1 : S1} {s2 : S2} (hs : I s1 s2) (hμ : μ s2 < 1000000000000000) : Bo Q (loop b1 FU s1) (loop b2 FU s2) := by
  have key : ∀ n s1 s2, I s1 s2 → μ s2 < n → Bo Q (loop b1 n s1) (loop b2 n s2) := by
    intro n
    induction n with
    | zero => intro s1 s2 _ hm; omega
    | succ n ih => intro s1 s2 hs hm; exact h _ _ s1 s2 hs (fun t1 t2 h1 h2 => ih t1 t2 h1 (by omega))
  exact key FU s1 s2 hs (Nat.lt_trans hμ FU_big)
theorem if_on {α : Type} {A B : α} {n k : Nat} (h : k < n) (hn : n < 2147483648) : (if Int32.ofNat n ≤ Int32.ofNat k then A else B) = B :=
  if_neg (by rw [zI_le hn (Nat.lt_trans h hn)]; omega)
theorem if_off {α : Type} {A B : α} {n : Nat} : (if Int32.ofNat n ≤ Int32.ofNat n then A else B) = A := if_pos (Int32.le_refl _)
theorem if_bit {α : Type} {A B : α} {b : Bool} : (if b2 b = 0 then A else B) = if b = true then B else A := by
  cases b <;> rfl
/-- a loop that ends at a state of Ex, in what G says of it -/
theorem loop_out {S R : Type} {body : (S → Option R) → S → Option R} (Inv : S → Prop) (μ : S → Nat) (Ex : S → Prop) (G : S → Option R) (h : ∀ s, Inv s → (Ex s ∧ ∀ K : S → Option R, body K s = G s) ∨ ∃ s', Inv s' ∧ μ s' < μ s ∧ ∀ K : S → Option R, body K s = K s') {s : S} (hs : Inv s) (hμ : μ s < 1000000000000000) : ∃ s9, Inv s9 ∧ Ex s9 ∧ loop body FU s = G s9 := by
  have key : ∀ n s, Inv s → μ s < n → ∃ s9, Inv s9 ∧ Ex s9 ∧ loop body n s = G s9 := by
    intro n
    induction n with
    | zero => intro s _ hm; omega
    | succ n ih =>
      intro s hs hm
      rcases h s hs with ⟨h1, h2⟩ | ⟨s', h1, h2, h3⟩
      · exact ⟨s, hs, h1, h2 _⟩
      · obtain ⟨s9, g1, g2, g3⟩ := ih s' h1 (by omega)
        exact ⟨s9, g1, g2, (h3 _).trans g3⟩
  exact key FU s hs (Nat.lt_trans hμ FU_big)
/-- the first below n with p, else n -/
def fsN (p : Nat → Bool) : Nat → Nat
  | 0 => 0
  | n + 1 => if fsN p n < n then fsN p n else if p n then n else n + 1
theorem fsN_le (p : Nat → Bool) : ∀ n, fsN p n ≤ n
  | 0 => Nat.le_refl _
  | n + 1 => by have := fsN_le p n; unfold fsN; split <;> (try split) <;> omega
theorem fsN_spec (p : Nat → Bool) : ∀ n, (∀ k, k < fsN p n → p k = false) ∧ (fsN p n < n → p (fsN p n) = true)
  | 0 => ⟨fun k h => absurd h (Nat.not_lt_zero k), fun h => absurd h (Nat.lt_irrefl _)⟩
  | n + 1 => by
    have ih := fsN_spec p n
    have hl := fsN_le p n
    unfold fsN
    by_cases h1 : fsN p n < n
    · rw [if_pos h1]; exact ⟨ih.1, fun _ => ih.2 h1⟩
    · have e : fsN p n = n := by omega
      rw [if_neg h1]
      by_cases h2 : p n = true
      · rw [if_pos h2]; exact ⟨fun k hk => ih.1 k (by omega), fun _ => h2⟩
      · rw [if_neg h2]
        refine ⟨fun k hk => ?_, fun z => absurd z (Nat.lt_irrefl _)⟩
        by_cases e2 : k = n
        · subst e2; simpa using h2
        · exact ih.1 k (by omega)
theorem fsN_congr {p q : Nat → Bool} : ∀ n, (∀ k, k < n → p k = q k) → fsN p n = fsN q n
  | 0, _ => rfl
  | n + 1, h => by unfold fsN; rw [fsN_congr n (fun k hk => h k (by omega)), h n (by omega)]
theorem fsN_ex {p : Nat → Bool} {n : Nat} : fsN p n < n ↔ ∃ k, k < n ∧ p k = true := by
  have h := fsN_spec p n
  constructor
  · exact fun hl => ⟨_, hl, h.2 hl⟩
  · rintro ⟨k, hk, hp⟩
    apply Nat.lt_of_not_le
    intro hl
    have := h.1 k (by omega)
    rw [hp] at this; cases this
theorem zif_lt {α : Type} {A B : α} {a b : Nat} (ha : a < 2147483648) (hb : b < 2147483648) : (if Int32.ofNat a < Int32.ofNat b then A else B) = if a < b then A else B := by
  by_cases h : a < b
  · rw [if_pos h, if_pos (by rw [zI_lt ha hb]; exact h)]
  · rw [if_neg h, if_neg (by rw [zI_lt ha hb]; exact h)]
theorem zif_le {α : Type} {A B : α} {a b : Nat} (ha : a < 2147483648) (hb : b < 2147483648) : (if Int32.ofNat a ≤ Int32.ofNat b then A else B) = if a ≤ b then A else B := by
  by_cases h : a ≤ b
  · rw [if_pos h, if_pos (by rw [zI_le ha hb]; exact h)]
  · rw [if_neg h, if_neg (by rw [zI_le ha hb]; exact h)]
theorem zif_eq {α : Type} {A B : α} {a b : Nat} (ha : a < 2147483648) (hb : b < 2147483648) : (if Int32.ofNat a = Int32.ofNat b then A else B) = if a = b then A else B := by
  by_cases h : a = b
  · rw [if_pos h, if_pos (by rw [h])]
  · rw [if_neg h, if_neg (by rw [zI_inj ha hb]; exact h)]

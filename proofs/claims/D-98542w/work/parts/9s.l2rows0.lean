/-! PLAIN LAW: rows, the raft's search -/
set_option maxRecDepth 100000
section R
variable {x0 y : Nat → Bl}
/-- some set of the first m does not stand in one run -/
def noR (TS : Nat → Int32) (n : Nat) (row : Nat → Nat) (k : Nat) : Bool := decide (1 < rnB (fun i => bit (TS k) (row i)) n)
def stR (TS : Nat → Int32) (m n : Nat) (row : Nat → Nat) : Bool := decide (¬ fsN (noR TS n row) m < m)
/-- as at x0, but rows, the first row, the count -/
def Fr0 (x0 y : Nat → Bl) : Prop := (∀ f, f ≠ 20 → (y 0).1 f = (x0 0).1 f) ∧ (∀ f, f ≠ 15 → f ≠ 16 → (y 0).2.1 f = (x0 0).2.1 f) ∧ ∀ j, j ≠ 0 → y j = x0 j
def Rw0 (y : Nat → Bl) (row : Nat → Nat) (k : Nat) : Prop := ∀ i, i < k → (y 0).2.1 15 i = Int32.ofNat (row i) ∧ row i < 8
def Sc0 (y : Nat → Bl) (n : Nat) (S : Int32 × (Nat → Nat)) : Prop := (y 0).1 20 = S.1 ∧ (¬ S.1 = 0 → ∀ i, i < n → (y 0).2.1 16 i = Int32.ofNat (S.2 i))
theorem Fr0.refl : Fr0 x0 x0 := ⟨fun _ _ => rfl, fun _ _ _ => rfl, fun _ _ => rfl⟩
def sfI : Option (Nat × Nat) → Int32 × Int32
  | none => (-1, -1)
  | some q => (Int32.ofNat q.1, Int32.ofNat q.2)
theorem f0_standTogether_eq {S : Int32} {n : Nat} {row : Nat → Nat} (hn : (y 0).1 19 = Int32.ofNat n) (h7 : n ≤ 7) (hr : Rw0 y row n) (hS : ∀ k, 12 ≤ k → k < 32 → bit S k = false) : f0_standTogether y S = some (b2 (sdB (fun i => bit S (row i)) n (pop S))) := by
  unfold f0_standTogether
  refine loop_seq (fun k => ((sfI (sfB (fun i => bit S (row i)) k)).1, (sfI (sfB (fun i => bit S (row i)) k)).2, Int32.ofNat k)) n (by omega) ?_ ?_
  · intro K k hk
    have hkn : inB (Int32.ofNat k) 7 = true := zI_in (by omega) (by decide)
    obtain ⟨e1, e2⟩ := hr k hk
    simp only [g0_standTogether_7]
    rw [hn, if_on hk (by omega), chk_h hkn, zI_nat (by omega), e1, has_bit0 (by omega), bnd_s, if_bit, zI_succ]
    show _ = K ((sfI (sfB (fun i => bit S (row i)) (k + 1))).1, (sfI (sfB (fun i => bit S (row i)) (k + 1))).2, Int32.ofNat (k + 1))
    have hs : sfB (fun i => bit S (row i)) (k + 1) = if bit S (row k) = true then (match sfB (fun i => bit S (row i)) k with | none => some (k, k) | some q => some (q.1, k)) else sfB (fun i => bit S (row i)) k := rfl
    rw [hs]
    by_cases c : bit S (row k) = true
    · rw [if_pos c, if_pos c]
      cases e : sfB (fun i => bit S (row i)) k with
      | none => rw [if_pos (show (sfI none).1 = -1 from rfl)]; rfl
      | some q =>
        have := sfB_le k q e
        rw [if_neg (show ¬ (sfI (some q)).1 = -1 from nat_m1 (by omega))]; rfl
    · rw [if_neg c, if_neg c]
  · intro K
    simp only [g0_standTogether_7]
    rw [hn, if_off]
    unfold sdB
    cases e : sfB (fun i => bit S (row i)) n with
    | none => rw [if_pos (show (sfI none).1 = -1 from rfl)]; rfl
    | some q =>
      have hq := sfB_le n q e
      rw [if_neg (show ¬ (sfI (some q)).1 = -1 from nat_m1 (by omega)), bitCount_eq hS, bnd_s]
      have e1 : (sfI (some q)).2 - (sfI (some q)).1 + (1 : Int32) = Int32.ofNat (q.2 - q.1 + 1) := by
        show Int32.ofNat q.2 - Int32.ofNat q.1 + (1 : Int32) = _
        rw [← zI_succ, show Int32.ofNat q.2 = Int32.ofNat (q.2 - q.1) + Int32.ofNat q.1 by rw [← Int32.ofNat_add]; congr 1; omega, Int32.add_sub_cancel]
      have hp := pop_le S
      rw [e1, zif_eq (by omega) (by omega)]
      by_cases c : q.2 - q.1 + 1 = pop S
      · rw [if_pos c]; simp [c, b2]
      · rw [if_neg c]; simp [c, b2]
theorem pop_8 {S : Int32} (h : ∀ k, 8 ≤ k → k < 32 → bit S k = false) : pop S = cntB 8 (bit S) := by
  unfold pop cntB
  have e : ∀ f : Nat → Nat, sumN 16 f = sumN 8 f + f 8 + f 9 + f 10 + f 11 + f 12 + f 13 + f 14 + f 15 := fun f => rfl
  rw [e, h 8 (by omega) (by omega), h 9 (by omega) (by omega), h 10 (by omega) (by omega), h 11 (by omega) (by omega), h 12 (by omega) (by omega), h 13 (by omega) (by omega), h 14 (by omega) (by omega), h 15 (by omega) (by omega)]
  simp
/-- sets told: each within A -/
def TSo (A : Nat → Bool) (TS : Nat → Int32) (m : Nat) : Prop := (∀ j, A j = true → j < 8) ∧ ∀ k, k < m → ∀ j, j < 32 → bit (TS k) j = true → A j = true
theorem TSo.hi {A : Nat → Bool} {TS : Nat → Int32} {m k : Nat} (h : TSo A TS m) (hk : k < m) : ∀ j, 8 ≤ j → j < 32 → bit (TS k) j = false := fun j h1 h2 => by
  cases c : bit (TS k) j with
  | false => rfl
  | true => have := h.1 j (h.2 k hk j h2 c); omega
theorem sd_row {A : Nat → Bool} {TS : Nat → Int32} {m k n : Nat} {row : Nat → Nat} {lf : Nat → Bool} (h : TSo A TS m) (hk : k < m) (h7 : n ≤ 7) (hJ : JR A n row lf) (h0 : cntB 8 lf = 0) : sdB (fun i => bit (TS k) (row i)) n (pop (TS k)) = !(noR TS n row k) := by
  have e := hJ.2 (bit (TS k))
  have e0 := (cntB_zero 8).mp h0
  have e2 : sumN 8 (fun t => if (lf t && bit (TS k) t) = true then 1 else 0) = sumN 8 (fun _ => 0) := sumN_congr fun j hj => by rw [e0 j hj]; rfl
  have e3 : sumN 8 (fun t => if (A t && bit (TS k) t) = true then 1 else 0) = cntB 8 (bit (TS k)) := sumN_congr fun j hj => by
    cases c : bit (TS k) j with
    | false => simp
    | true => rw [h.2 k hk j (by omega) c]; rfl
  rw [e2, e3] at e
  have e4 : sumN 8 (fun _ => 0) = 0 := rfl
  rw [e4, Nat.add_zero] at e
  rw [pop_8 (h.hi hk), ← e]
  have := sd_eq (b := fun i => bit (TS k) (row i)) (n := n) (by omega)
  unfold cntB at this
  rw [this]
  unfold noR
  by_cases c : rnB (fun i => bit (TS k) (row i)) n ≤ 1
  · rw [decide_eq_true c, decide_eq_false (by omega)]; rfl
  · rw [decide_eq_false c, decide_eq_true (by omega)]; rfl
/-- a whole row -/
theorem leaf_eq {A : Nat → Bool} {TS : Nat → Int32} {m n : Nat} {row : Nat → Nat} {lf : Nat → Bool} {S : Int32 × (Nat → Nat)} {rec : (Nat → Bl) → Int32 → Int32 → Option (Nat → Bl)} (h : TSo A TS m) (hm6 : m ≤ 6) (hm : (x0 0).1 18 = Int32.ofNat m) (hT : ∀ k, k < m → (x0 0).2.1 17 k = TS k) (hn : (x0 0).1 19 = Int32.ofNat n) (h7 : n ≤ 7) (hJ : JR A n row lf) (h0 : cntB 8 lf = 0) (hF : Fr0 x0 y) (hr : Rw0 y row n) (hS : Sc0 y n S) : ∃ y', loop (g0_triesRows_6 y rec) FU (0 : Int32) = some y' ∧ Fr0 x0 y' ∧ Rw0 y' row n ∧ Sc0 y' n (vsR (stR TS m n) row S) := by
  have hl := fsN_le (noR TS n row) m
  have hs := fsN_spec (noR TS n row) m
  have e18 : (y 0).1 18 = Int32.ofNat m := by rw [hF.1 18 (by decide)]; exact hm
  have e19 : (y 0).1 19 = Int32.ofNat n := by rw [hF.1 19 (by decide)]; exact hn
  have e17 : (y 0).2.1 17 = (x0 0).2.1 17 := hF.2.1 17 (by decide) (by decide)
  have one : ∀ k, k < m → f0_standTogether y ((y 0).2.1 17 (Int32.ofNat k).toNatClampNeg) = some (b2 (!(noR TS n row k))) := fun k hk => by
    rw [zI_nat (by omega), e17, hT k hk, f0_standTogether_eq e19 h7 hr (fun j h1 h2 => h.hi hk j (by omega) h2), sd_row h hk h7 hJ h0]
  have go : ∀ r : Option (Nat → Bl), (∀ K : Int32 → Option (Nat → Bl), g0_triesRows_6 y rec K (Int32.ofNat (fsN (noR TS n row) m)) = r) → loop (g0_triesRows_6 y rec) FU (0 : Int32) = r := by
    intro r hr
    refine loop_seq (fun k => Int32.ofNat k) (fsN (noR TS n row) m) (by omega) ?_ hr
    intro K k hk
    have hkn : inB (Int32.ofNat k) 6 = true := zI_in (by omega) (by decide)
    unfold g0_triesRows_6
    rw [e18, if_on (by omega) (by omega), chk_h hkn, one k (by omega), bnd_s, if_bit, hs.1 k hk, zI_succ]
    rfl
  by_cases c : fsN (noR TS n row) m < m
  · have hkn : inB (Int32.ofNat (fsN (noR TS n row) m)) 6 = true := zI_in (by omega) (by decide)
    refine ⟨y, go _ (fun K => ?_), hF, hr, ?_⟩
    · unfold g0_triesRows_6
      rw [e18, if_on c (by omega), chk_h hkn, one _ c, bnd_s, if_bit, hs.2 c]
      rfl
    · unfold vsR stR
      rw [decide_eq_false (fun z => z c)]; exact hS
  · have ef : fsN (noR TS n row) m = m := by omega
    have hv : vsR (stR TS m n) row S = (S.1 + 1, if S.1 = 0 then row else S.2) := by
      unfold vsR stR
      rw [decide_eq_true c]; rfl
    rw [hv]
    by_cases c0 : S.1 = 0
    · refine ⟨upX y 0 (bI (bS (y 0) 16 (va_cpy ((y 0).2.1 15) ((y 0).2.1 16) 0 0 7)) 20 (S.1 + 1)), go _ (fun K => ?_), ?_⟩
      · unfold g0_triesRows_6
        rw [e18, ef, if_off, hS.1, if_pos c0, ltv_s, upX_upX, upX_self]
        show some (upX y 0 (bI _ 20 ((y 0).1 20 + 1))) = _
        rw [hS.1]
      · refine ⟨⟨fun f hf => ?_, fun f h1 h2 => ?_, fun j hj => ?_⟩, fun i hi => ?_, ?_, fun _ i hi => ?_⟩
        · rw [upX_self, ← hF.1 f hf]; simp [bI, bS, hf]
        · rw [upX_self, ← hF.2.1 f h1 h2]; simp [bI, bS, h2]
        · rw [upX_ne hj]; exact hF.2.2 j hj
        · rw [upX_self, ← (hr i hi).1]
          exact ⟨by simp [bI, bS], (hr i hi).2⟩
        · rw [upX_self]; simp [bI, bS, hS.1]
        · rw [upX_self]
          dsimp only
          rw [if_pos c0, ← (hr i hi).1]
          have hi7 : i < 7 := by omega
          simp [bI, bS, va_cpy, hi7]
    · refine ⟨upX y 0 (bI (y 0) 20 (S.1 + 1)), go _ (fun K => ?_), ?_⟩
      · unfold g0_triesRows_6
        rw [e18, ef, if_off, hS.1, if_neg c0]
      · refine ⟨⟨fun f hf => ?_, fun f h1 h2 => ?_, fun j hj => ?_⟩, fun i hi => ?_, ?_, fun _ i hi => ?_⟩
        · rw [upX_self, ← hF.1 f hf]; simp [bI, hf]
        · rw [upX_self, ← hF.2.1 f h1 h2]; simp [bI]
        · rw [upX_ne hj]; exact hF.2.2 j hj
        · rw [upX_self, ← (hr i hi).1]
          exact ⟨rfl, (hr i hi).2⟩
        · rw [upX_self]; simp [bI]
        · rw [upX_self]
          dsimp only
          rw [if_neg c0, ← hS.2 c0 i hi]; rfl
end R

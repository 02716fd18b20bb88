/-! PLAIN LAW: rows, the Model's search -/
set_option maxRecDepth 100000
section R
variable {M0 s : Bl}
def Fr3 (M0 s : Bl) : Prop := (∀ f, f ≠ 62 → s.1 f = M0.1 f) ∧ (∀ f, f ≠ 58 → f ≠ 59 → s.2.1 f = M0.2.1 f) ∧ s.2.2 = M0.2.2
def Rw3 (s : Bl) (row : Nat → Nat) (k : Nat) : Prop := ∀ i, i < k → s.2.1 58 i = Int32.ofNat (row i) ∧ row i < 8
def Sc3 (s : Bl) (n : Nat) (S : Int32 × (Nat → Nat)) : Prop := s.1 62 = S.1 ∧ (¬ S.1 = 0 → ∀ i, i < n → s.2.1 59 i = Int32.ofNat (S.2 i))
theorem Fr3.refl : Fr3 M0 M0 := ⟨fun _ _ => rfl, fun _ _ _ => rfl, rfl⟩
theorem Fr3.row {k : Nat} {v : Int32} (h : Fr3 M0 s) : Fr3 M0 (bA s 58 k v) := ⟨h.1, fun f h1 h2 => by rw [← h.2.1 f h1 h2]; simp [bA, bS, h1], h.2.2⟩
theorem Rw3.row {k j : Nat} {v : Int32} {row : Nat → Nat} (h : Rw3 s row k) (hj : k ≤ j) : Rw3 (bA s 58 j v) row k := fun i hi => by
  refine ⟨?_, (h i hi).2⟩
  rw [← (h i hi).1]
  show upd (s.2.1 58) j v i = _
  unfold upd; rw [if_neg (by omega)]
theorem Sc3.row {k n : Nat} {v : Int32} {S : Int32 × (Nat → Nat)} (h : Sc3 s n S) : Sc3 (bA s 58 k v) n S := ⟨h.1, fun h0 i hi => by rw [← h.2 h0 i hi]; simp [bA, bS]⟩
theorem row_at {k : Nat} {v : Int32} : (bA s 58 k v).2.1 58 k = v := by simp [bA, bS, upd]
theorem f3_areTogether_eq {LS : Nat → Int32} {m n : Nat} {row : Nat → Nat} (hm6 : m ≤ 6) (hm : s.1 61 = Int32.ofNat m) (hT : ∀ k, k < m → s.2.1 60 k = LS k) (h7 : n ≤ 7) (hr : Rw3 s row n) : f3_areTogether s (Int32.ofNat n) = some (b2 (stR LS m n row)) := by
  have hl := fsN_le (noR LS n row) m
  have hs := fsN_spec (noR LS n row) m
  have inner : ∀ (K : Int32 → Option Int32) (k : Nat), k < m → loop (g3_areTogether_15 s (Int32.ofNat n) (Int32.ofNat k) K) FU ((0 : Int32), (0 : Int32)) = if noR LS n row k = true then some 0 else K (Int32.ofNat (k + 1)) := by
    intro K k hk
    have hkn : inB (Int32.ofNat k) 7 = true := zI_in (by omega) (by decide)
    have hbd : ∀ i, rnB (fun i => bit (LS k) (row i)) i ≤ i := by
      intro i
      induction i with
      | zero => exact Nat.le_refl _
      | succ i ih => unfold rnB; split <;> omega
    refine loop_seq (fun i => (Int32.ofNat (rnB (fun i => bit (LS k) (row i)) i), Int32.ofNat i)) n (by omega) ?_ ?_
    · intro K2 i hi
      have hin : inB (Int32.ofNat i) 9 = true := zI_in (by omega) (by decide)
      obtain ⟨e1, e2⟩ := hr i hi
      have hst : rnB (fun i => bit (LS k) (row i)) (i + 1) = rnB (fun i => bit (LS k) (row i)) i + (if (bit (LS k) (row i) && !(decide (0 < i) && bit (LS k) (row (i - 1)))) = true then 1 else 0) := rfl
      have g52 : ∀ z : Bool, g3_areTogether_52 s K K2 (Int32.ofNat n) (Int32.ofNat k) (Int32.ofNat (rnB (fun i => bit (LS k) (row i)) i)) (Int32.ofNat i) (b2 z) = K2 (Int32.ofNat (rnB (fun i => bit (LS k) (row i)) i + (if (bit (LS k) (row i) && !z) = true then 1 else 0)), Int32.ofNat (i + 1)) := by
        intro z
        unfold g3_areTogether_52
        rw [chk_h hkn, chk_h hin, zI_nat (by omega), zI_nat (by omega), hT k hk, e1, has_bit (by omega), bnd_s, if_bit, if_bit, zI_succ, zI_succ, Int32.add_zero]
        cases bit (LS k) (row i) <;> cases z <;> rfl
      simp only [g3_areTogether_15]
      rw [if_on hi (by omega), hst]
      by_cases c : i = 0
      · subst c
        rw [if_pos (by decide)]
        exact g52 false
      · rw [if_neg (by
          intro z
          have : (Int32.ofNat i ≤ Int32.ofNat 0) = (i ≤ 0) := zI_le (by omega) (by decide)
          have z2 : Int32.ofNat i ≤ Int32.ofNat 0 := z
          rw [this] at z2; omega), chk_h hkn, zI_pred (by omega)]
        have hin1 : inB (Int32.ofNat (i - 1)) 9 = true := zI_in (by omega) (by decide)
        obtain ⟨e3, e4⟩ := hr (i - 1) (by omega)
        rw [chk_h hin1, zI_nat (by omega), zI_nat (by omega), hT k hk, e3, has_bit (by omega), bnd_s, if_bit, decide_eq_true (show 0 < i by omega), Bool.true_and]
        have a1 := g52 true
        have a0 := g52 false
        cases bit (LS k) (row (i - 1)) with
        | true => rw [if_pos rfl]; exact a1
        | false => rw [if_neg (by decide)]; exact a0
    · intro K2
      have := hbd n
      simp only [g3_areTogether_15]
      rw [if_off, show (1 : Int32) = Int32.ofNat 1 from rfl, zif_le (by omega) (by omega)]
      unfold noR
      by_cases c : rnB (fun i => bit (LS k) (row i)) n ≤ 1
      · rw [if_pos c, decide_eq_false (by omega)]; simp only [Bool.false_eq_true, if_false]; rw [show Int32.ofNat 1 = (1 : Int32) from rfl, zI_succ]
      · rw [if_neg c, decide_eq_true (by omega)]; rfl
  unfold f3_areTogether
  refine loop_seq (fun k => Int32.ofNat k) (fsN (noR LS n row) m) (by omega) ?_ ?_
  · intro K k hk
    unfold g3_areTogether_2
    rw [hm, if_on (by omega) (by omega), inner K k (by omega), hs.1 k hk]
    rfl
  · intro K
    unfold g3_areTogether_2 stR
    by_cases c : fsN (noR LS n row) m < m
    · rw [hm, if_on c (by omega), inner K _ c, hs.2 c, decide_eq_false (fun z => z c)]; rfl
    · rw [hm, show fsN (noR LS n row) m = m by omega, if_off, decide_eq_true (by omega)]; rfl
theorem f3_takesRow_eq {LS : Nat → Int32} {m n : Nat} {row : Nat → Nat} {S : Int32 × (Nat → Nat)} (hm6 : m ≤ 6) (hm : M0.1 61 = Int32.ofNat m) (hT : ∀ k, k < m → M0.2.1 60 k = LS k) (h7 : n ≤ 7) (hF : Fr3 M0 s) (hr : Rw3 s row n) (hS : Sc3 s n S) : ∃ s', f3_takesRow s (Int32.ofNat n) = some s' ∧ Fr3 M0 s' ∧ s'.2.1 58 = s.2.1 58 ∧ Sc3 s' n (vsR (stR LS m n) row S) := by
  unfold f3_takesRow vsR
  rw [f3_areTogether_eq (LS := LS) hm6 (by rw [hF.1 61 (by decide)]; exact hm) (fun k hk => by rw [hF.2.1 60 (by decide) (by decide)]; exact hT k hk) h7 hr, bnd_s, if_bit]
  cases stR LS m n row with
  | false => exact ⟨s, rfl, hF, rfl, hS⟩
  | true =>
    rw [if_pos rfl, if_pos rfl]
    by_cases c : S.1 = 0
    · have key : loop (g3_takesRow_10 (Int32.ofNat n)) FU (s, (0 : Int32)) = some (bI (bS s 59 (fun i => if i < n then s.2.1 58 i else s.2.1 59 i)) 62 (S.1 + 1)) := by
        have hst : ∀ k, bA (bS s 59 (fun i => if i < k then s.2.1 58 i else s.2.1 59 i)) 59 k (s.2.1 58 k) = bS s 59 (fun i => if i < k + 1 then s.2.1 58 i else s.2.1 59 i) := by
          intro k
          have e : ∀ f : Nat → Int32, bA (bS s 59 f) 59 k (s.2.1 58 k) = bS s 59 (upd f k (s.2.1 58 k)) := fun f => by
            simp only [bA, bS]
            congr 2
            funext g; by_cases hg : g = 59
            · subst hg; simp
            · simp [hg]
          rw [e]
          congr 1
          funext i
          unfold upd
          dsimp only
          by_cases h1 : i = k
          · subst h1; rw [if_pos rfl, if_pos (Nat.lt_succ_self _)]
          · rw [if_neg h1]
            by_cases h2 : i < k
            · rw [if_pos h2, if_pos (by omega)]
            · rw [if_neg h2, if_neg (by omega)]
        have h0 : s = bS s 59 (fun i => if i < 0 then s.2.1 58 i else s.2.1 59 i) := by
          have : (fun i => if i < 0 then s.2.1 58 i else s.2.1 59 i) = s.2.1 59 := by funext i; simp
          rw [this]
          show s = (s.1, _, s.2.2)
          refine Prod.ext rfl (Prod.ext ?_ rfl)
          funext g; by_cases hg : g = 59
          · subst hg; simp
          · simp [hg]
        have e0 : (s, (0 : Int32)) = (fun k => (bS s 59 (fun i => if i < k then s.2.1 58 i else s.2.1 59 i), Int32.ofNat k)) 0 := by
          show (s, (0 : Int32)) = (bS s 59 (fun i => if i < 0 then s.2.1 58 i else s.2.1 59 i), Int32.ofNat 0)
          rw [← h0]; rfl
        rw [e0]
        refine loop_seq (fun k => (bS s 59 (fun i => if i < k then s.2.1 58 i else s.2.1 59 i), Int32.ofNat k)) n (by omega) ?_ ?_
        · intro K k hk
          have hk9 : inB (Int32.ofNat k) 9 = true := zI_in (by omega) (by decide)
          have hk8 : inB (Int32.ofNat k) 8 = true := zI_in (by omega) (by decide)
          simp only [g3_takesRow_10]
          rw [if_on hk (by omega), if_pos (show (bS s 59 _).1 62 = 0 from hS.1.trans c), chk_h hk9, chk_h hk8, zI_nat (by omega), zI_succ]
          rw [show (bS s 59 (fun i => if i < k then s.2.1 58 i else s.2.1 59 i)).2.1 58 k = s.2.1 58 k from rfl, hst k]
        · intro K
          simp only [g3_takesRow_10]
          rw [if_off, show (bS s 59 (fun i => if i < n then s.2.1 58 i else s.2.1 59 i)).1 62 = S.1 from hS.1]
      rw [key]
      refine ⟨_, rfl, ⟨fun f hf => ?_, fun f h1 h2 => ?_, hF.2.2⟩, rfl, ?_, fun _ i hi => ?_⟩
      · rw [← hF.1 f hf]; simp [bI, bS, hf]
      · rw [← hF.2.1 f h1 h2]; simp [bI, bS, h2]
      · simp [bI]
      · dsimp only
        rw [if_pos c, ← (hr i hi).1]
        simp [bI, bS, hi]
    · have key : loop (g3_takesRow_10 (Int32.ofNat n)) FU (s, (0 : Int32)) = some (bI s 62 (S.1 + 1)) := by
        refine loop_seq (fun _ => (s, (0 : Int32))) 0 (by omega) (fun _ k hk => absurd hk (Nat.not_lt_zero k)) ?_
        intro K
        simp only [g3_takesRow_10]
        by_cases c2 : Int32.ofNat n ≤ 0
        · rw [if_pos c2, hS.1]
        · rw [if_neg c2, hS.1, if_neg c]
      rw [key]
      refine ⟨_, rfl, ⟨fun f hf => ?_, fun f h1 h2 => ?_, hF.2.2⟩, rfl, ?_, fun _ i hi => ?_⟩
      · rw [← hF.1 f hf]; simp [bI, hf]
      · rw [← hF.2.1 f h1 h2]; simp [bI]
      · simp [bI]
      · dsimp only
        rw [if_neg c, ← hS.2 c i hi]; rfl
end R

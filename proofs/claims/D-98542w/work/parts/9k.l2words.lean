/-! PLAIN LAW: the twelve words, the Model's -/
set_option maxRecDepth 100000
def two2 (i j : Nat) : Int32 := ((1 : Int32) <<< (Int32.ofNat i &&& 31)) ||| ((1 : Int32) <<< (Int32.ofNat j &&& 31))
def tcN (a : Ar) (i j n : Nat) : Nat := sumN n (fun r => if tch (two2 i j) (a 11 r, a 12 r, a 13 r) = true then 1 else 0)
noncomputable def wdV (a : Ar) (i j : Nat) : Nat → Int64
  | 0 => (Int32.ofNat i).toInt64
  | 1 => (Int32.ofNat j).toInt64
  | 2 => (a 7 i + a 7 j).toInt64
  | 3 => (a 6 i + a 6 j).toInt64
  | 4 => (a 8 i + a 8 j).toInt64
  | 5 => if a 5 i = a 5 j then 1 else 0
  | 6 => if bit (pc a (sRp a) i) j = true then 0 else 1
  | 7 => (Int32.ofNat (tcN a i j (cR a))).toInt64
  | 8 => (a 1 1).toInt64
  | 9 => (a 1 6).toInt64
  | 10 => (if a 2 (a 5 j).toNatClampNeg ≤ a 2 (a 5 i).toNatClampNeg then a 2 (a 5 j).toNatClampNeg else a 2 (a 5 i).toNatClampNeg).toInt64
  | _ => (Int32.ofNat (pop (sAf a))).toInt64
theorem tch_two {i j e f : Nat} {s : Int32} (hi : i < 8) (hj : j < 8) (he : e < 8) (hf : f < 8) : tch (two2 i j) (Int32.ofNat e, Int32.ofNat f, s) = (decide (e = i) || decide (f = i) || decide (e = j) || decide (f = j)) := by
  show (bit (two2 i j) (Int32.ofNat e).toNatClampNeg || bit (two2 i j) (Int32.ofNat f).toNatClampNeg) = _
  rw [zI_nat (by omega), zI_nat (by omega)]
  unfold two2
  rw [bit_or, bit_or, bit_shl (by omega) (by omega), bit_shl (by omega) (by omega), bit_shl (by omega) (by omega), bit_shl (by omega) (by omega)]
  cases decide (e = i) <;> cases decide (e = j) <;> cases decide (f = i) <;> cases decide (f = j) <;> rfl
/-- words at 49, nothing else -/
def W12 (M s : Bl) (w : Nat → Int64) : Prop := s.1 = M.1 ∧ s.2.1 = M.2.1 ∧ (∀ k, k < 12 → s.2.2 49 k = w k) ∧ ∀ f, f ≠ 49 → s.2.2 f = M.2.2 f
section W
variable {M : Bl}
theorem asks_199 (g : GR M.2.1) {s : Bl} (h1 : s.1 = M.1) (h2 : s.2.1 = M.2.1) (h3 : ∀ f, f ≠ 49 → s.2.2 f = M.2.2 f) {i j : Nat} (hi : i < cT M.2.1) (hj : j < cT M.2.1) {v3 : Int32} {z0 : Int64} (h7 : v3.toInt64 = wdV M.2.1 i j 7) (h6 : z0 = wdV M.2.1 i j 6) (hw : ∀ k, k < 6 → s.2.2 49 k = wdV M.2.1 i j k) : ∃ s', g3_asks_199 s (Int32.ofNat i) (Int32.ofNat j) v3 z0 = some s' ∧ W12 M s' (wdV M.2.1 i j) := by
  obtain ⟨s1, s2, s3⟩ := s
  dsimp only at h1 h2 h3 hw
  subst h1 h2
  have h8 := g.1.2.1.2
  have hO6 := g.1.1.2
  have hin : inB (Int32.ofNat i) 8 = true := zI_in (by omega) (by decide)
  have hjn : inB (Int32.ofNat j) 8 = true := zI_in (by omega) (by decide)
  have hki : (Int32.ofNat i).toNatClampNeg = i := zI_nat (by omega)
  have hkj : (Int32.ofNat j).toNatClampNeg = j := zI_nat (by omega)
  have own : ∀ t, t < cT M.2.1 → inB (M.2.1 5 t) 6 = true := fun t ht => by
    obtain ⟨q, hq, e⟩ := (isK_iff (by omega)).mp (g.2.2.1 t ht).2.2.2
    rw [e]; exact zI_in (by omega) (by decide)
  have oi := own i hi
  have oj := own j hj
  unfold g3_asks_199
  simp only [ltv_s, hin, hjn, chk_t, hki, hkj]
  have eA : ∀ (s : Bl) (f k : Nat) (v : Int64), (bL s f k v).2.1 = s.2.1 := fun _ _ _ _ => rfl
  have eI : ∀ (s : Bl) (f k : Nat) (v : Int64), (bL s f k v).1 = s.1 := fun _ _ _ _ => rfl
  simp only [eA, oi, oj, chk_t]
  have fin : ∀ (v : Int32), v.toInt64 = wdV M.2.1 i j 10 → W12 M (bL (bL (bL (bL (bL (bL (M.1, M.2.1, s3) 49 6 z0) 49 7 v3.toInt64) 49 8 (M.2.1 1 1).toInt64) 49 9 (M.2.1 1 6).toInt64) 49 10 v.toInt64) 49 11 (Int32.ofNat (pop (sAf M.2.1))).toInt64) (wdV M.2.1 i j) := by
    intro v hv
    refine ⟨rfl, rfl, fun k hk => ?_, fun f hf => ?_⟩
    · have hx : k < 6 ∨ k = 6 ∨ k = 7 ∨ k = 8 ∨ k = 9 ∨ k = 10 ∨ k = 11 := by omega
      rcases hx with hx | rfl | rfl | rfl | rfl | rfl | rfl
      · rw [← hw k hx]
        have n6 : ¬ k = 6 := by omega
        have n7 : ¬ k = 7 := by omega
        have n8 : ¬ k = 8 := by omega
        have n9 : ¬ k = 9 := by omega
        have n10 : ¬ k = 10 := by omega
        have n11 : ¬ k = 11 := by omega
        simp [bL, bT, vp_updL, n6, n7, n8, n9, n10, n11]
      · rw [← h6]; simp [bL, bT, vp_updL]
      · rw [← h7]; simp [bL, bT, vp_updL]
      · simp [bL, bT, vp_updL, wdV]
      · simp [bL, bT, vp_updL, wdV]
      · rw [← hv]; simp [bL, bT, vp_updL]
      · simp [bL, bT, vp_updL, wdV]
    · rw [← h3 f hf]; simp [bL, bT, hf]
  by_cases hle : M.2.1 2 (M.2.1 5 j).toNatClampNeg ≤ M.2.1 2 (M.2.1 5 i).toNatClampNeg
  · rw [if_pos hle]
    have ea : ∀ s : Bl, s.2.1 = M.2.1 → f3_afloat s = some (sAf M.2.1) := fun s e => by
      have := f3_afloat_eq (M := s) (by rw [e]; exact g.1); rw [this, e]
    rw [ea (bL (bL (bL (bL (bL (M.1, M.2.1, s3) 49 6 z0) 49 7 v3.toInt64) 49 8 (M.2.1 1 1).toInt64) 49 9 (M.2.1 1 6).toInt64) 49 10 (M.2.1 2 (M.2.1 5 j).toNatClampNeg).toInt64) rfl, bnd_s, f3_bits_eq, bnd_s]
    exact ⟨_, rfl, fin _ (by show _ = (if _ then _ else _ : Int32).toInt64; rw [if_pos hle])⟩
  · rw [if_neg hle]
    have ea : ∀ s : Bl, s.2.1 = M.2.1 → f3_afloat s = some (sAf M.2.1) := fun s e => by
      have := f3_afloat_eq (M := s) (by rw [e]; exact g.1); rw [this, e]
    rw [ea (bL (bL (bL (bL (bL (M.1, M.2.1, s3) 49 6 z0) 49 7 v3.toInt64) 49 8 (M.2.1 1 1).toInt64) 49 9 (M.2.1 1 6).toInt64) 49 10 (M.2.1 2 (M.2.1 5 i).toNatClampNeg).toInt64) rfl, bnd_s, f3_bits_eq, bnd_s]
    exact ⟨_, rfl, fin _ (by show _ = (if _ then _ else _ : Int32).toInt64; rw [if_neg hle])⟩
theorem asks_175 (g : GR M.2.1) {s : Bl} (h1 : s.1 = M.1) (h2 : s.2.1 = M.2.1) (h3 : ∀ f, f ≠ 49 → s.2.2 f = M.2.2 f) {i j : Nat} (hi : i < cT M.2.1) (hj : j < cT M.2.1) {v3 : Int32} {z0 : Int64} (h7 : v3.toInt64 = wdV M.2.1 i j 7) (h5 : z0 = wdV M.2.1 i j 5) (hw : ∀ k, k < 5 → s.2.2 49 k = wdV M.2.1 i j k) : ∃ s', g3_asks_175 s (Int32.ofNat i) (Int32.ofNat j) v3 z0 = some s' ∧ W12 M s' (wdV M.2.1 i j) := by
  have h8 := g.1.2.1.2
  have e2 : (bL s 49 5 z0).2.1 = M.2.1 := h2
  have hp := f3_pieceOf_eq (M := bL s 49 5 z0) (t := i) (by rw [e2]; exact g) (by omega)
  rw [e2] at hp
  have hw6 : ∀ k, k < 6 → (bL s 49 5 z0).2.2 49 k = wdV M.2.1 i j k := fun k hk => by
    by_cases e : k = 5
    · subst e; rw [← h5]; simp [bL, bT, vp_updL]
    · rw [← hw k (by omega)]; simp [bL, bT, vp_updL, e]
  have h3' : ∀ f, f ≠ 49 → (bL s 49 5 z0).2.2 f = M.2.2 f := fun f hf => by rw [← h3 f hf]; simp [bL, bT, hf]
  unfold g3_asks_175
  rw [hp, bnd_s, has_bit (by omega), bnd_s, if_bit]
  by_cases hb : bit (pc M.2.1 (sRp M.2.1) i) j = true
  · rw [if_pos hb]
    exact asks_199 (s := bL s 49 5 z0) g h1 e2 h3' hi hj h7 (by show (0 : Int64) = (if _ then _ else _); rw [if_pos hb]) hw6
  · rw [if_neg hb]
    exact asks_199 (s := bL s 49 5 z0) g h1 e2 h3' hi hj h7 (by show (1 : Int64) = (if _ then _ else _); rw [if_neg hb]) hw6
theorem f3_asks_eq (g : GR M.2.1) {i j : Nat} (hi : i < cT M.2.1) (hj : j < cT M.2.1) : ∃ s', f3_asks M (Int32.ofNat i) (Int32.ofNat j) = some s' ∧ W12 M s' (wdV M.2.1 i j) := by
  obtain ⟨hR, h12⟩ := g.1.2.2.1
  have h8 := g.1.2.1.2
  have hin : inB (Int32.ofNat i) 8 = true := zI_in (by omega) (by decide)
  have hjn : inB (Int32.ofNat j) 8 = true := zI_in (by omega) (by decide)
  have hki : (Int32.ofNat i).toNatClampNeg = i := zI_nat (by omega)
  have hkj : (Int32.ofNat j).toNatClampNeg = j := zI_nat (by omega)
  have last : ∀ K : Int32 × Int32 → Option Bl, ∃ s', g3_asks_5 M (Int32.ofNat i) (Int32.ofNat j) K (Int32.ofNat (tcN M.2.1 i j (cR M.2.1)), Int32.ofNat (cR M.2.1)) = some s' ∧ W12 M s' (wdV M.2.1 i j) := by
    intro K
    simp only [g3_asks_5]
    rw [hR, if_off]
    simp only [hin, hjn, chk_t, ltv_s, hki, hkj]
    have eA : ∀ (s : Bl) (f k : Nat) (v : Int64), (bL s f k v).2.1 = s.2.1 := fun _ _ _ _ => rfl
    simp only [eA]
    have hw5 : ∀ k, k < 5 → (bL (bL (bL (bL (bL M 49 0 (Int32.ofNat i).toInt64) 49 1 (Int32.ofNat j).toInt64) 49 2 (M.2.1 7 i + M.2.1 7 j).toInt64) 49 3 (M.2.1 6 i + M.2.1 6 j).toInt64) 49 4 (M.2.1 8 i + M.2.1 8 j).toInt64).2.2 49 k = wdV M.2.1 i j k := fun k hk => by
      have hx : k = 0 ∨ k = 1 ∨ k = 2 ∨ k = 3 ∨ k = 4 := by omega
      rcases hx with rfl | rfl | rfl | rfl | rfl <;> simp [bL, bT, vp_updL, wdV]
    have h3' : ∀ f, f ≠ 49 → (bL (bL (bL (bL (bL M 49 0 (Int32.ofNat i).toInt64) 49 1 (Int32.ofNat j).toInt64) 49 2 (M.2.1 7 i + M.2.1 7 j).toInt64) 49 3 (M.2.1 6 i + M.2.1 6 j).toInt64) 49 4 (M.2.1 8 i + M.2.1 8 j).toInt64).2.2 f = M.2.2 f := fun f hf => by simp [bL, bT, hf]
    by_cases ho : M.2.1 5 i = M.2.1 5 j
    · rw [if_pos ho]
      exact asks_175 (s := (bL (bL (bL (bL (bL M 49 0 (Int32.ofNat i).toInt64) 49 1 (Int32.ofNat j).toInt64) 49 2 (M.2.1 7 i + M.2.1 7 j).toInt64) 49 3 (M.2.1 6 i + M.2.1 6 j).toInt64) 49 4 (M.2.1 8 i + M.2.1 8 j).toInt64)) g rfl rfl h3' hi hj rfl (by show (1 : Int64) = (if _ then _ else _); rw [if_pos ho]) hw5
    · rw [if_neg ho]
      exact asks_175 (s := (bL (bL (bL (bL (bL M 49 0 (Int32.ofNat i).toInt64) 49 1 (Int32.ofNat j).toInt64) 49 2 (M.2.1 7 i + M.2.1 7 j).toInt64) 49 3 (M.2.1 6 i + M.2.1 6 j).toInt64) 49 4 (M.2.1 8 i + M.2.1 8 j).toInt64)) g rfl rfl h3' hi hj rfl (by show (0 : Int64) = (if _ then _ else _); rw [if_neg ho]) hw5
  obtain ⟨s', e, hs'⟩ := last (fun _ => none)
  refine ⟨s', ?_, hs'⟩
  unfold f3_asks
  refine loop_seq (fun k => (Int32.ofNat (tcN M.2.1 i j k), Int32.ofNat k)) (cR M.2.1) (by omega) ?_ ?_
  · intro K k hk
    obtain ⟨⟨a1, a2⟩, b1, b2⟩ := g.2.1.1 k hk
    have hkn : inB (Int32.ofNat k) 12 = true := zI_in (by omega) (by decide)
    have hkk : (Int32.ofNat k).toNatClampNeg = k := zI_nat (by omega)
    have ht : tch (two2 i j) (M.2.1 11 k, M.2.1 12 k, M.2.1 13 k) = (decide (eA M.2.1 k = i) || decide (eB M.2.1 k = i) || decide (eA M.2.1 k = j) || decide (eB M.2.1 k = j)) := by
      rw [a1, b1]; exact tch_two (by omega) (by omega) a2 b2
    have hst : tcN M.2.1 i j (k + 1) = tcN M.2.1 i j k + (if tch (two2 i j) (M.2.1 11 k, M.2.1 12 k, M.2.1 13 k) = true then 1 else 0) := rfl
    rw [hst, ht]
    simp only [g3_asks_5, g3_asks_61]
    rw [hR, if_on hk (by omega)]
    simp only [hkn, hkk, chk_t, a1, b1, zI_succ, Int32.add_zero]
    rw [zif_eq (by omega) (by omega), zif_eq (by omega) (by omega), zif_eq (by omega) (by omega), zif_eq (by omega) (by omega)]
    by_cases c1 : eA M.2.1 k = i
    · simp [c1]
    · by_cases c2 : eB M.2.1 k = i
      · simp [c1, c2]
      · by_cases c3 : eA M.2.1 k = j
        · simp [c1, c2, c3]
        · by_cases c4 : eB M.2.1 k = j
          · simp [c1, c2, c3, c4]
          · simp [c1, c2, c3, c4]
  · intro K
    obtain ⟨s2, e2, hs2⟩ := last K
    have : g3_asks_5 M (Int32.ofNat i) (Int32.ofNat j) K (Int32.ofNat (tcN M.2.1 i j (cR M.2.1)), Int32.ofNat (cR M.2.1)) = g3_asks_5 M (Int32.ofNat i) (Int32.ofNat j) (fun _ => none) (Int32.ofNat (tcN M.2.1 i j (cR M.2.1)), Int32.ofNat (cR M.2.1)) := by
      simp only [g3_asks_5]
      rw [hR, if_off, if_off]
    rw [this]; exact e
end W

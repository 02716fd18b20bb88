/-! PLAIN LAW: the twelve words, the raft's -/
set_option maxRecDepth 100000
/-- n words at 14, nothing else -/
def Wx (x : Nat → Bl) (w : Nat → Int64) (y : Nat → Bl) (n : Nat) : Prop := (y 0).1 = (x 0).1 ∧ (y 0).2.1 = (x 0).2.1 ∧ (∀ k, k < n → (y 0).2.2 14 k = w k) ∧ ∀ j, j ≠ 0 → y j = x j
theorem Wx.put {x y : Nat → Bl} {w : Nat → Int64} {n : Nat} {v : Int64} (h : Wx x w y n) (e : v = w n) : Wx x w (upX y 0 (bL (y 0) 14 n v)) (n + 1) := by
  refine ⟨by rw [upX_self]; exact h.1, by rw [upX_self]; exact h.2.1, fun k hk => ?_, fun j hj => by rw [upX_ne hj]; exact h.2.2.2 j hj⟩
  rw [upX_self]
  show (vp_updL ((y 0).2.2 14) n v) k = w k
  unfold vp_updL
  by_cases c : k = n
  · subst c; rw [if_pos rfl, e]
  · rw [if_neg c]; exact h.2.2.1 k (by omega)
theorem Wx.nz {x y : Nat → Bl} {w : Nat → Int64} {n : Nat} (h : Wx x w y n) (hz : ¬ (x 0).1 0 = 0) : decide (¬ (y 0).1 0 = 0) = true := by
  rw [h.1]; exact decide_eq_true hz
section W
variable {x y : Nat → Bl} {M : Bl}
theorem w152 (hz : ¬ (x 0).1 0 = 0) (hv : RVa (x 1) M.2.1 (M.1 55)) {i j : Nat} (hi : i < cT M.2.1) (hj : j < cT M.2.1) {z0 : Int64} (W6 : Wx x (wdV M.2.1 i j) y 6) (h6 : z0 = wdV M.2.1 i j 6) : ∃ s', g0_wordsOf_152 y (Int32.ofNat i) (Int32.ofNat j) z0 = some s' ∧ Wx x (wdV M.2.1 i j) s' 12 := by
  have h8 := hv.2.1.1.2.1.2
  have hO6 := hv.2.1.1.1.2
  have h12 := hv.2.1.1.2.2.1.2
  have hin : inB (Int32.ofNat i) 8 = true := zI_in (by omega) (by decide)
  have hjn : inB (Int32.ofNat j) 8 = true := zI_in (by omega) (by decide)
  have hki : (Int32.ofNat i).toNatClampNeg = i := zI_nat (by omega)
  have hkj : (Int32.ofNat j).toNatClampNeg = j := zI_nat (by omega)
  obtain ⟨qi, hqi, ei⟩ := (isK_iff (by omega)).mp (hv.2.1.2.2.1 i hi).2.2.2
  obtain ⟨qj, hqj, ej⟩ := (isK_iff (by omega)).mp (hv.2.1.2.2.1 j hj).2.2.2
  have nqi : (Int32.ofNat qi).toNatClampNeg = qi := zI_nat (by omega)
  have nqj : (Int32.ofNat qj).toNatClampNeg = qj := zI_nat (by omega)
  have bqi : inB (Int32.ofNat qi) 6 = true := zI_in (by omega) (by decide)
  have bqj : inB (Int32.ofNat qj) 6 = true := zI_in (by omega) (by decide)
  unfold g0_wordsOf_152
  have W7 := W6.put h6
  generalize upX y 0 (bL (y 0) 14 6 z0) = y7 at W7 ⊢
  have hboth : f0_ropesAtBoth y7 (Int32.ofNat i) (Int32.ofNat j) = some (Int32.ofNat (tcN M.2.1 i j (cR M.2.1))) := by
    unfold f0_ropesAtBoth
    rw [chk_h (W7.nz hz), W7.2.2.2 1 (by decide), f1_ropesAt_eq hv.2.1.1 hv.2.1.2.1 hv.1, bnd_s, bitCount_eq (fun r h1 h2 => by rw [bit_mkS (by omega)]; simp; intro; omega), bnd_s, pop_mkS (by omega)]
    rfl
  rw [hboth, bnd_s]
  have W8 := W7.put (v := (Int32.ofNat (tcN M.2.1 i j (cR M.2.1))).toInt64) rfl
  generalize upX y7 0 (bL (y7 0) 14 7 (Int32.ofNat (tcN M.2.1 i j (cR M.2.1))).toInt64) = y8 at W8 ⊢
  rw [chk_h (W8.nz hz), ltv_s, W8.2.2.2 1 (by decide), hv.1.store]
  have W9 := W8.put (v := (M.2.1 1 1).toInt64) rfl
  generalize upX y8 0 (bL (y8 0) 14 8 (M.2.1 1 1).toInt64) = y9 at W9 ⊢
  rw [chk_h (W9.nz hz), W9.2.2.2 1 (by decide), hv.1.now]
  have W10 := W9.put (v := (M.2.1 1 6).toInt64) rfl
  generalize upX y9 0 (bL (y9 0) 14 9 (M.2.1 1 6).toInt64) = y10 at W10 ⊢
  rw [W10.2.2.2 1 (by decide)]
  have o1 : ∀ t q, t < cT M.2.1 → M.2.1 5 t = Int32.ofNat q → (x 1).2.1 12 t = Int32.ofNat q := fun t q ht e => (hv.1.owner ht).trans e
  rw [chk_h (W10.nz hz), chk_h (W10.nz hz), chk_h hin, hki, hkj, o1 i qi hi ei, o1 j qj hj ej, chk_h bqi, chk_h (W10.nz hz), chk_h (W10.nz hz), chk_h hjn, chk_h bqj, nqi, nqj, hv.1.landing hqi, hv.1.landing hqj, ltv_s]
  have e10 : (if M.2.1 2 qj < M.2.1 2 qi then M.2.1 2 qj else M.2.1 2 qi).toInt64 = wdV M.2.1 i j 10 := by
    show _ = (if _ then _ else _ : Int32).toInt64
    rw [ei, ej, nqi, nqj]
    congr 1
    by_cases c : M.2.1 2 qj < M.2.1 2 qi
    · rw [if_pos c, if_pos (Int32.le_of_lt c)]
    · rw [if_neg c]
      by_cases d : M.2.1 2 qj ≤ M.2.1 2 qi
      · rw [if_pos d]; exact Int32.le_antisymm (Int32.not_lt.mp c) d
      · rw [if_neg d]
  have W11 := W10.put (v := _) e10
  generalize upX y10 0 (bL (y10 0) 14 10 (if M.2.1 2 qj < M.2.1 2 qi then M.2.1 2 qj else M.2.1 2 qi).toInt64) = y11 at W11 ⊢
  have hbits : fJ8_bitCount (sAf M.2.1) = some (Int32.ofNat (pop (sAf M.2.1))) := bitCount_eq (fun k h1 h2 => by rw [bit_af h2, decide_eq_false (by omega)]; rfl)
  rw [chk_h (W11.nz hz), W11.2.2.2 1 (by decide), f1_afloat_eq hv.2.1.1 hv.1, bnd_s, hbits, bnd_s]
  exact ⟨_, rfl, W11.put (v := (Int32.ofNat (pop (sAf M.2.1))).toInt64) rfl⟩
theorem w125 (hz : ¬ (x 0).1 0 = 0) (hv : RVa (x 1) M.2.1 (M.1 55)) {i j : Nat} (hi : i < cT M.2.1) (hj : j < cT M.2.1) {z0 : Int64} (W5 : Wx x (wdV M.2.1 i j) y 5) (h5 : z0 = wdV M.2.1 i j 5) : ∃ s', g0_wordsOf_125 y (Int32.ofNat i) (Int32.ofNat j) z0 = some s' ∧ Wx x (wdV M.2.1 i j) s' 12 := by
  have h8 := hv.2.1.1.2.1.2
  unfold g0_wordsOf_125
  have W6 := W5.put h5
  generalize upX y 0 (bL (y 0) 14 5 z0) = y6 at W6 ⊢
  rw [chk_h (W6.nz hz), W6.2.2.2 1 (by decide), f1_pieceOf_eq hv.2.1 hv.1 (by omega), bnd_s, has_bit0 (by omega), bnd_s, if_bit]
  by_cases hb : bit (pc M.2.1 (sRp M.2.1) i) j = true
  · rw [if_pos hb]
    exact w152 hz hv hi hj W6 (by show (0 : Int64) = (if _ then _ else _); rw [if_pos hb])
  · rw [if_neg hb]
    exact w152 hz hv hi hj W6 (by show (1 : Int64) = (if _ then _ else _); rw [if_neg hb])
theorem f0_wordsOf_eq (hz : ¬ (x 0).1 0 = 0) (hv : RVa (x 1) M.2.1 (M.1 55)) {i j : Nat} (hi : i < cT M.2.1) (hj : j < cT M.2.1) : ∃ s', f0_wordsOf x (Int32.ofNat i) (Int32.ofNat j) = some s' ∧ Wx x (wdV M.2.1 i j) s' 12 := by
  have h8 := hv.2.1.1.2.1.2
  have hin : inB (Int32.ofNat i) 8 = true := zI_in (by omega) (by decide)
  have hjn : inB (Int32.ofNat j) 8 = true := zI_in (by omega) (by decide)
  have hki : (Int32.ofNat i).toNatClampNeg = i := zI_nat (by omega)
  have hkj : (Int32.ofNat j).toNatClampNeg = j := zI_nat (by omega)
  have W0 : Wx x (wdV M.2.1 i j) x 0 := ⟨rfl, rfl, fun k hk => absurd hk (Nat.not_lt_zero k), fun _ _ => rfl⟩
  unfold f0_wordsOf
  have W1 := W0.put (v := (Int32.ofNat i).toInt64) rfl
  generalize upX x 0 (bL (x 0) 14 0 (Int32.ofNat i).toInt64) = y1 at W1 ⊢
  have W2 := W1.put (v := (Int32.ofNat j).toInt64) rfl
  generalize upX y1 0 (bL (y1 0) 14 1 (Int32.ofNat j).toInt64) = y2 at W2 ⊢
  rw [chk_h (W2.nz hz), chk_h hin, chk_h (W2.nz hz), chk_h hjn, ltv_s, W2.2.2.2 1 (by decide), hki, hkj, hv.1.bears hi, hv.1.bears hj]
  have W3 := W2.put (v := (M.2.1 7 i + M.2.1 7 j).toInt64) rfl
  generalize upX y2 0 (bL (y2 0) 14 2 (M.2.1 7 i + M.2.1 7 j).toInt64) = y3 at W3 ⊢
  rw [chk_h (W3.nz hz), chk_h hin, chk_h (W3.nz hz), chk_h hjn, W3.2.2.2 1 (by decide), hv.1.weight hi, hv.1.weight hj]
  have W4 := W3.put (v := (M.2.1 6 i + M.2.1 6 j).toInt64) rfl
  generalize upX y3 0 (bL (y3 0) 14 3 (M.2.1 6 i + M.2.1 6 j).toInt64) = y4 at W4 ⊢
  rw [chk_h (W4.nz hz), chk_h hin, chk_h (W4.nz hz), chk_h hjn, ltv_s, W4.2.2.2 1 (by decide), hv.1.soak hi, hv.1.soak hj]
  have W5 := W4.put (v := (M.2.1 8 i + M.2.1 8 j).toInt64) rfl
  generalize upX y4 0 (bL (y4 0) 14 4 (M.2.1 8 i + M.2.1 8 j).toInt64) = y5 at W5 ⊢
  rw [chk_h (W5.nz hz), chk_h hin, chk_h (W5.nz hz), chk_h hjn, W5.2.2.2 1 (by decide), hv.1.owner hi, hv.1.owner hj]
  by_cases ho : M.2.1 5 i = M.2.1 5 j
  · rw [if_pos ho]
    exact w125 hz hv hi hj W5 (by show (1 : Int64) = (if _ then _ else _); rw [if_pos ho])
  · rw [if_neg ho]
    exact w125 hz hv hi hj W5 (by show (0 : Int64) = (if _ then _ else _); rw [if_neg ho])
end W

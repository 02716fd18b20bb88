/-! PLAIN LAW: bearers, sawn -/
set_option maxRecDepth 100000
theorem nat_bits {m : Nat} {p : Nat} (h : m < 2 ^ p) : ∀ k, p ≤ k → k < 32 → bit (Int32.ofNat m) k = false := fun k h1 h2 => by
  rw [bit_nI h2]; exact Nat.testBit_lt_two_pow (Nat.lt_of_lt_of_le h (Nat.pow_le_pow_right (by decide) h1))
section P
variable {x : Nat → Bl} {M : Bl} {v v1 v2 v3 : Int32}
theorem f0_areAfloat_eq (hz : ¬ (x 0).1 0 = 0) (hv : RVa (x 1) M.2.1 (M.1 55)) : f0_areAfloat x v = if v < 0 then some 0 else if (v &&& (sAf M.2.1 ^^^ (-1 : Int32))) = 0 then some 1 else some 0 := by
  unfold f0_areAfloat
  rw [if_neg hz, chk_h (decide_eq_true hz), f1_afloat_eq hv.2.1.1 hv.1, bnd_s]
theorem sums_bd (g : GR M.2.1) (S : Int32) : (0 ≤ (sFl M.2.1 S).toInt ∧ (sFl M.2.1 S).toInt ≤ 800) ∧ 0 ≤ (sWt M.2.1 S).toInt ∧ (sWt M.2.1 S).toInt ≤ 800 := by
  have h8 := g.1.2.1.2
  have key : ∀ f : Nat → Int32, (∀ t, t < cT M.2.1 → 0 ≤ (f t).toInt ∧ (f t).toInt ≤ 99) → 0 ≤ (sumI (cT M.2.1) (fun t => if bit S t = true then f t else 0)).toInt ∧ (sumI (cT M.2.1) (fun t => if bit S t = true then f t else 0)).toInt ≤ 800 := by
    intro f hf
    have e : ∀ n, n ≤ cT M.2.1 → 0 ≤ (sumI n (fun t => if bit S t = true then f t else 0)).toInt ∧ (sumI n (fun t => if bit S t = true then f t else 0)).toInt ≤ 99 * n := by
      intro n
      induction n with
      | zero => intro _; exact ⟨Int.le_refl _, by show (0 : Int) ≤ _; omega⟩
      | succ n ih =>
        intro hn
        have ih := ih (by omega)
        have h1 : 0 ≤ (if bit S n = true then f n else 0).toInt ∧ (if bit S n = true then f n else 0).toInt ≤ 99 := by
          split
          · exact hf n (by omega)
          · exact ⟨Int.le_refl _, by show (0 : Int) ≤ _; omega⟩
        simp only [sumI]
        rw [tI_add (by omega) (by omega)]; omega
    have := e _ (Nat.le_refl _); omega
  exact ⟨key _ (fun t ht => (g.2.2.1 t ht).2.1), key _ (fun t ht => by have := (g.2.2.1 t ht).1; omega)⟩
def brn (a : Ar) (S : Int32) : Bool := decide (¬ sFl a S < sWt a S)
theorem f3_isBorne_eq (g : GR M.2.1) {S : Int32} : f3_isBorne M S = some (b2 (brn M.2.1 S)) := by
  unfold f3_isBorne brn
  rw [f3_floatOf_eq g.1, f3_weightOf_eq g.1, bnd_s, bnd_s]
  by_cases h : sFl M.2.1 S < sWt M.2.1 S
  · rw [if_pos h]; simp [h, b2]
  · rw [if_neg h]; simp [h, b2]
theorem bears_neg (g : GR M.2.1) {S : Int32} : (sFl M.2.1 S - sWt M.2.1 S < 0) = (sFl M.2.1 S < sWt M.2.1 S) := by
  obtain ⟨⟨a1, a2⟩, b1, b2⟩ := sums_bd g S
  rw [Int32.lt_iff_toInt_lt, Int32.lt_iff_toInt_lt, tI_sub (by omega) (by omega)]
  show (_ < (0 : Int)) = _
  refine propext ?_
  omega
theorem bearers_sim (h : RL x M) : ∃ r, f0_bearers x v1 v2 = some r ∧ f3_bearers M v1 v2 = some r := by
  unfold f0_bearers f3_bearers
  rcases h.1 with ⟨hz, hn⟩ | ⟨hz, hv⟩
  · have e : f0_areAfloat x v1 = some 0 := by unfold f0_areAfloat; rw [if_pos hz]
    rw [e, bnd_s, if_pos rfl, isRiver_no hn, bnd_s]; exact ⟨_, rfl, rfl⟩
  · have hcf : decide (¬ (x 0).1 0 = 0) = true := decide_eq_true hz
    have h8 := hv.2.1.1.2.1.2
    rw [f0_areAfloat_eq hz hv, isRiver_yes hv.2.1, bnd_s, if_neg (show ¬ (1 : Int32) = 0 by decide), f3_afloat_eq hv.2.1.1]
    simp only [bnd_s]
    by_cases hneg : v1 < 0
    · rw [if_pos hneg, if_pos hneg, bnd_s]; exact ⟨_, rfl, rfl⟩
    rw [if_neg hneg, if_neg hneg]
    by_cases hsub : ¬ (v1 &&& (sAf M.2.1 ^^^ (-1 : Int32))) = 0
    · rw [if_neg hsub, if_neg hsub, bnd_s]; exact ⟨_, rfl, rfl⟩
    have hsub := Classical.not_not.mp hsub
    rw [if_pos hsub, if_pos hsub, bnd_s, if_neg (show ¬ (1 : Int32) = 0 by decide)]
    have e0 := f0_in32 v2 0 1
    have e3 := f3_in32 v2 0 1
    change f0_in v2.toInt64 (0 : Int64) (1 : Int64) = _ at e0
    change f3_in v2.toInt64 (0 : Int64) (1 : Int64) = _ at e3
    rw [e0, e3, bnd_s, bnd_s, if_bit, if_bit]
    cases hc : (decide (0 ≤ v2) && decide (v2 ≤ 1)) with
    | false => exact ⟨_, rfl, rfl⟩
    | true =>
      simp only [if_true]
      rw [hcf, chk_t, f1_afloat_eq hv.2.1.1 hv.1, bnd_s]
      obtain ⟨n, hn, en⟩ : ∃ m : Nat, m < 2 ^ 8 ∧ sAf M.2.1 &&& (v1 ^^^ (-1 : Int32)) = Int32.ofNat m := by
        refine mkS_nat (fun k h1 h2 => ?_)
        rw [bit_and, bit_af h2, decide_eq_false (by omega)]; rfl
      have hn : n < 256 := hn
      rw [en]
      have key : Bo (fun a b => a = b) (loop (g0_bearers_39 x v1 v2 (Int32.ofNat n)) FU ((-2 : Int32), (0 : Int32))) (loop (g3_bearers_50 M v1 v2 (Int32.ofNat n)) FU ((-2 : Int32), (0 : Int32))) := by
        refine loop_sim (fun a b => a = b ∧ ∃ k, k ≤ 256 ∧ a.2 = Int32.ofNat k ∧ (a.1 = -2 ∨ ∃ j, j < 256 ∧ a.1 = Int32.ofNat j)) (fun b => 257 - b.2.toNatClampNeg) _ ?_ ⟨rfl, 0, by omega, rfl, Or.inl rfl⟩ (by show 257 - _ < _; omega)
        rintro K1 K2 ⟨b, w⟩ s2 ⟨rfl, k, hk, ew, hb⟩ hK
        dsimp only at ew hb
        subst ew
        have bc : ∀ j, j < 256 → fJ8_bitCount (Int32.ofNat j) = some (Int32.ofNat (pop (Int32.ofNat j))) := fun j hj => bitCount_eq (nat_bits (p := 12) (by show j < 4096; omega))
        have pl : ∀ s, pop s < 2147483648 := fun s => by
          have : pop s ≤ 16 * 1 := sumN_le 16 (fun k _ => by split <;> omega)
          omega
        simp only [g0_bearers_39, g3_bearers_50, g0_bearers_77]
        rw [zif_lt (by omega) (by omega), zif_lt (by omega) (by omega)]
        have nxt : ∀ w, (w = b ∨ (w = Int32.ofNat k ∧ k < 256)) → ¬ n < k → Bo (fun a b => a = b) (K1 (w, Int32.ofNat k + 1)) (K2 (w, Int32.ofNat k + 1)) := by
          intro w hw hnk
          rw [zI_succ]
          refine hK _ _ ⟨rfl, k + 1, by omega, rfl, ?_⟩ ?_
          · rcases hw with rfl | ⟨rfl, hk2⟩
            · exact hb
            · exact Or.inr ⟨k, hk2, rfl⟩
          · show 257 - (Int32.ofNat (k + 1)).toNatClampNeg < 257 - (Int32.ofNat k).toNatClampNeg
            rw [zI_nat (by omega), zI_nat (by omega)]; omega
        by_cases hend : n < k
        · rw [if_pos hend, if_pos hend]
          by_cases hb2 : b = -2
          · rw [if_pos hb2, if_pos hb2]; exact Bo.some rfl
          · rw [if_neg hb2, if_neg hb2]
            by_cases hm : v2 = 1
            · rw [if_pos hm, if_pos hm]; exact Bo.some rfl
            · rw [if_neg hm, if_neg hm]
              rcases hb with rfl | ⟨j, hj, rfl⟩
              · exact absurd rfl hb2
              · rw [bc j hj, f3_bits_eq, bnd_s]; exact Bo.some rfl
        · rw [if_neg hend, if_neg hend]
          by_cases hs : (Int32.ofNat k &&& (Int32.ofNat n ^^^ (-1 : Int32))) = 0
          · rw [if_pos hs, if_pos hs]
            have hbear : Bo (fun a b => a = b) (chk (decide (¬ (x 0).1 0 = 0)) (bnd (f1_bearsOf (x 1) (v1 ||| Int32.ofNat k)) (fun r5 => if r5 < 0 then K1 (b, Int32.ofNat k + 1) else K1 (Int32.ofNat k, Int32.ofNat k + 1)))) (bnd (f3_isBorne M (v1 ||| Int32.ofNat k)) (fun r6 => if r6 = 0 then K2 (b, Int32.ofNat k + 1) else K2 (Int32.ofNat k, Int32.ofNat k + 1))) := by
              rw [hcf, chk_t, f1_bearsOf_eq hv.2.1.1 hv.1, bnd_s, f3_isBorne_eq hv.2.1, bnd_s, if_bit]
              have en := bears_neg hv.2.1 (S := v1 ||| Int32.ofNat k)
              unfold brn
              by_cases hl : sFl M.2.1 (v1 ||| Int32.ofNat k) < sWt M.2.1 (v1 ||| Int32.ofNat k)
              · rw [if_pos (by rw [en]; exact hl), if_neg (by simpa using hl)]; exact nxt _ (Or.inl rfl) hend
              · rw [if_neg (by rw [en]; exact hl), if_pos (decide_eq_true hl)]; exact nxt _ (Or.inr ⟨rfl, by omega⟩) hend
            by_cases hb2 : b = -2
            · rw [if_pos hb2, if_pos hb2]; exact hbear
            · rw [if_neg hb2, if_neg hb2]
              rcases hb with rfl | ⟨j, hj, rfl⟩
              · exact absurd rfl hb2
              · rw [bc j hj, bc k (by omega), f3_bits_eq, f3_bits_eq]
                simp only [bnd_s]
                rw [zif_lt (pl _) (pl _), zif_le (pl _) (pl _)]
                by_cases hq : pop (Int32.ofNat k) < pop (Int32.ofNat j)
                · rw [if_pos hq, if_neg (by omega)]; exact hbear
                · rw [if_neg hq, if_pos (by omega)]; exact nxt _ (Or.inl rfl) hend
          · rw [if_neg hs, if_neg hs]; exact nxt _ (Or.inl rfl) hend
      obtain ⟨a, b, e1, e2, e3⟩ := key
      exact ⟨a, e1, by rw [e3]; exact e2⟩
theorem sawn_sim (h : RL x M) : ∃ r x', f0_sawn x v1 v2 = some (r, x') ∧ f3_sawn M v1 v2 = some r ∧ RL x' M ∧ Kx x x' := by
  unfold f0_sawn f3_sawn
  rcases h.1 with ⟨hz, hn⟩ | ⟨hz, hv⟩
  · have e : f0_areAfloat x v1 = some 0 := by unfold f0_areAfloat; rw [if_pos hz]
    rw [e, bnd_s, if_pos rfl, isRiver_no hn, bnd_s]; exact ⟨_, x, rfl, rfl, h, Kx.refl⟩
  · have hcf : decide (¬ (x 0).1 0 = 0) = true := decide_eq_true hz
    rw [f0_areAfloat_eq hz hv, isRiver_yes hv.2.1, bnd_s, if_neg (show ¬ (1 : Int32) = 0 by decide), f3_afloat_eq hv.2.1.1]
    simp only [bnd_s]
    by_cases hneg : v1 < 0
    · rw [if_pos hneg, if_pos hneg, bnd_s]; exact ⟨_, x, rfl, rfl, h, Kx.refl⟩
    rw [if_neg hneg, if_neg hneg]
    by_cases hsub : ¬ (v1 &&& (sAf M.2.1 ^^^ (-1 : Int32))) = 0
    · rw [if_neg hsub, if_neg hsub, bnd_s]; exact ⟨_, x, rfl, rfl, h, Kx.refl⟩
    have hsub := Classical.not_not.mp hsub
    rw [if_pos hsub, if_pos hsub, bnd_s, if_neg (show ¬ (1 : Int32) = 0 by decide)]
    have e0 := f0_in32 v2 0 2
    have e3 := f3_in32 v2 0 2
    change f0_in v2.toInt64 (0 : Int64) (2 : Int64) = _ at e0
    change f3_in v2.toInt64 (0 : Int64) (2 : Int64) = _ at e3
    rw [e0, e3, bnd_s, bnd_s, if_bit, if_bit]
    cases hc : (decide (0 ≤ v2) && decide (v2 ≤ 2)) with
    | false => exact ⟨_, x, rfl, rfl, h, Kx.refl⟩
    | true =>
      simp only [if_true]
      have h12 := hv.2.1.1.2.2.1.2
      obtain ⟨n, hn, en⟩ : ∃ m : Nat, m < 2 ^ 12 ∧ sRp M.2.1 = Int32.ofNat m := by
        refine mkS_nat (fun k h1 h2 => ?_)
        rw [sRp, bit_mkS h2, decide_eq_false (by omega)]; rfl
      have hn : n < 4096 := hn
      have key : Bo (fun a b => a.1 = b ∧ Kx x a.2 ∧ RVa (a.2 1) M.2.1 (M.1 55)) (loop (g0_sawn_31 v1 v2) FU (x, (-2 : Int32), (0 : Int32), (0 : Int32))) (loop (g3_sawn_45 M v1 v2) FU ((0 : Int32), (-2 : Int32), (0 : Int32))) := by
        refine loop_sim (fun a b => ∃ k, k ≤ 4096 ∧ a.2.2.2 = Int32.ofNat k ∧ b.2.2 = Int32.ofNat k ∧ a.2.1 = b.2.1 ∧ a.2.2.1 = b.1 ∧ (b.2.1 = -2 ∨ ∃ j, j < 4096 ∧ b.2.1 = Int32.ofNat j) ∧ Kx x a.1 ∧ RVa (a.1 1) M.2.1 (M.1 55)) (fun b => 4097 - b.2.2.toNatClampNeg) _ ?_ ⟨0, by omega, rfl, rfl, rfl, rfl, Or.inl rfl, Kx.refl, hv⟩ (by show 4097 - _ < _; omega)
        rintro K1 K2 ⟨x1, b, c, w⟩ ⟨c', b', w'⟩ ⟨k, hk, ew, ew', eb, ec, hb, kx, hv1⟩ hK
        dsimp only at ew ew' eb ec hb kx hv1
        subst ew ew' eb ec
        have bc : ∀ j, j < 4096 → fJ8_bitCount (Int32.ofNat j) = some (Int32.ofNat (pop (Int32.ofNat j))) := fun j hj => bitCount_eq (nat_bits (p := 12) hj)
        have pl : ∀ s, pop s < 2147483648 := fun s => by
          have : pop s ≤ 16 * 1 := sumN_le 16 (fun k _ => by split <;> omega)
          omega
        have hcf1 : decide (¬ (x1 0).1 0 = 0) = true := by rw [kx.1 0 (by decide)]; exact hcf
        simp only [g0_sawn_31, g3_sawn_45, hcf1, chk_t]
        rw [f1_allRopes_eq hv1.2.1.1 hv1.1, f3_allRopes_eq hv1.2.1.1]
        simp only [bnd_s]
        rw [en, zif_lt (by omega) (by omega), zif_lt (by omega) (by omega)]
        by_cases hend : n < k
        · rw [if_pos hend, if_pos hend]
          by_cases h2 : v2 = 2
          · rw [if_pos h2, if_pos h2]; exact Bo.some ⟨rfl, kx, hv1⟩
          · rw [if_neg h2, if_neg h2]
            by_cases hb2 : b = -2
            · rw [if_pos hb2, if_pos hb2]; exact Bo.some ⟨rfl, kx, hv1⟩
            · rw [if_neg hb2, if_neg hb2]
              by_cases hm : v2 = 1
              · rw [if_pos hm, if_pos hm]; exact Bo.some ⟨rfl, kx, hv1⟩
              · rw [if_neg hm, if_neg hm]
                rcases hb with rfl | ⟨j, hj, rfl⟩
                · exact absurd rfl hb2
                · rw [bc j hj, f3_bits_eq, bnd_s, bnd_s]; exact Bo.some ⟨rfl, kx, hv1⟩
        · rw [if_neg hend, if_neg hend, f1_sinkingBy_eq hv1.2.1.1 hv1.2.1.2.1 hv1.1, f3_sinking_eq hv1.2.1.1 hv1.2.1.2.1, bnd2_s, bnd_s]
          have nxt : ∀ w c2, (w = b ∨ w = Int32.ofNat k) → Bo (fun a b => a.1 = b ∧ Kx x a.2 ∧ RVa (a.2 1) M.2.1 (M.1 55)) (K1 (upX x1 1 (bS (x1 1) 28 (paV (x1 1) M.2.1 (Int32.ofNat n &&& (Int32.ofNat k ^^^ (-1 : Int32))) (cT M.2.1))), w, c2, Int32.ofNat k + 1)) (K2 (c2, w, Int32.ofNat k + 1)) := by
            intro w c2 hw
            rw [zI_succ]
            refine hK _ _ ⟨k + 1, by omega, rfl, rfl, rfl, rfl, ?_, kx.trans Kx.up1, by (try dsimp only); rw [upX_self]; exact hv1.part⟩ ?_
            · rcases hw with rfl | rfl
              · exact hb
              · exact Or.inr ⟨k, by omega, rfl⟩
            · show 4097 - (Int32.ofNat (k + 1)).toNatClampNeg < 4097 - (Int32.ofNat k).toNatClampNeg
              rw [zI_nat (by omega), zI_nat (by omega)]; omega
          by_cases hs : sSk M.2.1 (Int32.ofNat n &&& (Int32.ofNat k ^^^ (-1 : Int32))) = v1
          · rw [if_pos hs, if_pos hs]
            by_cases hb2 : b = -2
            · rw [if_pos hb2, if_pos hb2]; exact nxt _ _ (Or.inr rfl)
            · rw [if_neg hb2, if_neg hb2]
              rcases hb with rfl | ⟨j, hj, rfl⟩
              · exact absurd rfl hb2
              · rw [bc j hj, bc k (by omega), f3_bits_eq, f3_bits_eq]
                simp only [bnd_s]
                rw [zif_le (pl _) (pl _), zif_le (pl _) (pl _)]
                by_cases hq : pop (Int32.ofNat j) ≤ pop (Int32.ofNat k)
                · rw [if_pos hq, if_pos hq]; exact nxt _ _ (Or.inl rfl)
                · rw [if_neg hq, if_neg hq]; exact nxt _ _ (Or.inr rfl)
          · rw [if_neg hs, if_neg hs]; exact nxt _ _ (Or.inl rfl)
      obtain ⟨⟨r, x'⟩, b, e1, e2, e3, e4, e5⟩ := key
      dsimp only at e3 e4 e5
      subst e3
      exact ⟨r, x', e1, e2, h.keep e4 Km.refl (Or.inr ⟨by rw [e4.1 0 (by decide)]; exact hz, e5⟩), e4⟩
end P

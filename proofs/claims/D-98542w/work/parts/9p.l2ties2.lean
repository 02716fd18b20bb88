/-! PLAIN LAW: ties by a rule, both sides -/
set_option maxRecDepth 100000
section T
variable {x : Nat → Bl} {M : Bl} {v v1 v2 v3 : Int32}
def TQ (x : Nat → Bl) (M : Bl) (x' : Nat → Bl) (M' : Bl) : Prop := RVa (x' 1) M'.2.1 (M'.1 55) ∧ Kx x x' ∧ Km M M' ∧ M'.2.1 1 0 = M.2.1 1 0 ∧ M'.2.1 1 6 = M.2.1 1 6
/-- the best two so far -/
def TB (a : Ar) (b one other : Int32) : Prop := (b = -1 ∧ one = -1) ∨ ∃ p q, p < q ∧ q < cT a ∧ isAf a (Int32.ofNat p) = true ∧ isAf a (Int32.ofNat q) = true ∧ b = Int32.ofNat (8 * p + q) ∧ one = Int32.ofNat p ∧ other = Int32.ofNat q
theorem div8 {p q : Nat} (hp : p < 8) (hq : q < 8) : Int32.ofNat (8 * p + q) / (8 : Int32) = Int32.ofNat p ∧ Int32.ofNat (8 * p + q) - Int32.ofNat (8 * p + q) / (8 : Int32) * (8 : Int32) = Int32.ofNat q ∧ ¬ Int32.ofNat (8 * p + q) = (-1 : Int32) ∧ ¬ Int32.ofNat p = (-1 : Int32) :=
  (by decide +kernel : ∀ p, p < 8 → ∀ q, q < 8 → Int32.ofNat (8 * p + q) / (8 : Int32) = Int32.ofNat p ∧ Int32.ofNat (8 * p + q) - Int32.ofNat (8 * p + q) / (8 : Int32) * (8 : Int32) = Int32.ofNat q ∧ ¬ Int32.ofNat (8 * p + q) = (-1 : Int32) ∧ ¬ Int32.ofNat p = (-1 : Int32)) p hp q hq
theorem nat_m1 {n : Nat} (h : n < 2147483648) : ¬ Int32.ofNat n = (-1 : Int32) := fun z => by
  have := congrArg Int32.toInt z
  rw [zI_int h] at this
  have e : Int32.toInt (-1) = -1 := rfl
  omega
theorem tiesBy_sim (hz : ¬ (x 0).1 0 = 0) (hv : RVa (x 1) M.2.1 (M.1 55)) {r : Nat} {cs : List Cls} (hr : r < 6) (hu : RU cs M.2.1 r) (h19 : (decide (1 ≤ v) && decide (v ≤ 9)) = true) (hs : ¬ M.2.1 1 1 < v) (h12 : cR M.2.1 < 12) : Bo (TQ x M) (f0_tiesBy x cs v) (f3_tiesBy M (Int32.ofNat r) v) := by
  have g := hv.2.1.1
  have h8 := g.2.1.2
  have h3 := g.2.1.1
  have hnz : ∀ y, Kv x y → decide (¬ (y 0).1 0 = 0) = true := fun y hy => by rw [hy.1]; exact decide_eq_true hz
  have hy1 : ∀ y, Kv x y → y 1 = x 1 := fun y hy => hy.2.2 1 (by decide)
  have hnT := hv.1.nT g
  unfold f0_tiesBy f3_tiesBy
  refine loop_sim (fun (a : (Nat → Bl) × Int32 × Int64 × Int32) (b : Bl × Int32 × Int32 × Int64 × Int32) => ∃ i, i ≤ cT M.2.1 ∧ a.2.2.2 = Int32.ofNat i ∧ b.2.2.2.2 = Int32.ofNat i ∧ Kv x a.1 ∧ Kw M b.1 ∧ a.2.2.1 = b.2.2.2.1 ∧ TB M.2.1 a.2.1 b.2.1 b.2.2.1) (fun b => 100 - b.2.2.2.2.toNatClampNeg) _ ?_ ⟨0, Nat.zero_le _, rfl, rfl, ⟨rfl, rfl, fun _ _ => rfl⟩, ⟨rfl, rfl⟩, rfl, Or.inl ⟨rfl, rfl⟩⟩ (by omega)
  rintro K1 K2 ⟨y, b3, b4, b6⟩ ⟨s, c3, c4, c5, c7⟩ ⟨i, hi, e1, e2, hy, hw, e5, hb⟩ IH
  dsimp only at e1 e2 hy hw e5 hb
  subst e1 e2 e5
  simp only [g0_tiesBy_8, g3_tiesBy_11]
  rw [chk_h (hnz y hy), hy1 y hy, hnT, hw.2, h3, zif_le (by omega) (by omega), zif_le (by omega) (by omega)]
  by_cases hend : cT M.2.1 ≤ i
  · rw [if_pos hend, if_pos hend]
    rcases hb with ⟨hb1, hb2⟩ | ⟨p, q, hpq, hq, ap, aq, hb1, hb2, hb3⟩
    · rw [if_pos hb1, if_pos hb2]
      refine Bo.some ⟨?_, hy.kx, hw.km, by rw [hw.2], by rw [hw.2]⟩
      rw [hy1 y hy, hw.1, hw.2]; exact hv
    · obtain ⟨d1, d2, d3, d4⟩ := div8 (p := p) (q := q) (by omega) (by omega)
      subst hb1 hb2 hb3
      rw [if_neg d3, if_neg d4, d2, d1]
      have hv2 : RVa (x 1) s.2.1 (M.1 55) := by rw [hw.2]; exact hv
      obtain ⟨Fa, M2, k1, k2, k3, k4⟩ := binds_act (v3 := v) (i := p) (j := q) hv2 (by rw [hw.2]) h12 (by rw [hw.2]; omega) (by rw [hw.2]; omega) (by omega) (by rw [hw.2]; exact ap) (by rw [hw.2]; exact aq)
      rw [k1, k2, bnd_s, bnd2_s]
      have hnz1 : decide (¬ ((upX y 1 Fa) 0).1 0 = 0) = true := by rw [upX_10]; exact hnz y hy
      have hu1 : (upX y 1 Fa) 1 = Fa := upX_self _ _ _
      rw [chk_h (hnz y hy), chk_h hnz1, hu1, upX_upX]
      refine Bo.some ⟨?_, hy.kx.trans Kx.up1, hw.km.trans (Km.of k4), ?_, ?_⟩
      · rw [upX_self, k4.fld 55, hw.1]; exact k3
      · rw [k4.sc 0 (by decide), hw.2]
      · rw [k4.sc 6 (by decide), hw.2]
  · rw [if_neg hend, if_neg hend]
    have hlt : i < cT M.2.1 := by omega
    rw [zI_succ]
    refine loop_sim (fun (a : (Nat → Bl) × Int32 × Int64 × Int32) (b : Bl × Int32 × Int32 × Int64 × Int32) => ∃ j, i < j ∧ j ≤ cT M.2.1 ∧ a.2.2.2 = Int32.ofNat j ∧ b.2.2.2.2 = Int32.ofNat j ∧ Kv x a.1 ∧ Kw M b.1 ∧ a.2.2.1 = b.2.2.2.1 ∧ TB M.2.1 a.2.1 b.2.1 b.2.2.1) (fun b => 100 - b.2.2.2.2.toNatClampNeg) _ ?_ ⟨i + 1, by omega, by omega, rfl, rfl, hy, hw, rfl, hb⟩ (by omega)
    dsimp only at IH
    clear hy hw hb
    rintro L1 L2 ⟨y, b3, b4, b7⟩ ⟨s, c3, c4, c5, c8⟩ ⟨j, hij, hj, e1, e2, hy, hw, e5, hb⟩ IH2
    dsimp only at e1 e2 hy hw e5 hb
    subst e1 e2 e5
    simp only [g0_tiesBy_26, g3_tiesBy_28]
    rw [chk_h (hnz y hy), hy1 y hy, hnT, hw.2, h3, zif_le (by omega) (by omega), zif_le (by omega) (by omega)]
    by_cases hend2 : cT M.2.1 ≤ j
    · rw [if_pos hend2, if_pos hend2, zI_succ]
      refine IH _ _ ⟨i + 1, by omega, rfl, rfl, hy, hw, rfl, hb⟩ ?_
      dsimp only
      rw [zI_nat (by omega), zI_nat (by omega)]; omega
    · rw [if_neg hend2, if_neg hend2]
      have hjt : j < cT M.2.1 := by omega
      have gs : GC s.2.1 := by rw [hw.2]; exact g
      have hV : RV y s := Or.inr ⟨by rw [hy.1]; exact hz, by rw [hy1 y hy, hw.2, hw.1]; exact hv⟩
      have hcb := f3_canBind_eq (v := v) gs (i := i) (j := j) (by rw [hw.2]; exact hlt) (by rw [hw.2]; exact hjt) (by omega)
      have e1 := f0_isAfloat_eq (v := Int32.ofNat i) hV
      have e2 := f0_isAfloat_eq (v := Int32.ofNat j) hV
      rw [hw.2] at hcb e1 e2
      rw [hcb, e1, e2, bnd_s, bnd_s, if_bit, if_bit, zI_succ]
      have skip : ∀ (a3 d3 d4 : Int32) (m : Int64) (y' : Nat → Bl) (s' : Bl), Kv x y' → Kw M s' → TB M.2.1 a3 d3 d4 → Bo (TQ x M) (L1 (y', a3, m, Int32.ofNat (j + 1))) (L2 (s', d3, d4, m, Int32.ofNat (j + 1))) := by
        intro a3 d3 d4 m y' s' h1 h2 h4
        refine IH2 _ _ ⟨j + 1, by omega, by omega, rfl, rfl, h1, h2, rfl, h4⟩ ?_
        dsimp only
        rw [zI_nat (by omega), zI_nat (by omega)]; omega
      cases hk1 : isAf M.2.1 (Int32.ofNat i) with
      | false => exact skip _ _ _ _ _ _ hy hw hb
      | true =>
        cases hk2 : isAf M.2.1 (Int32.ofNat j) with
        | false => exact skip _ _ _ _ _ _ hy hw hb
        | true =>
          rw [if_pos rfl, h19, decide_eq_true hs, decide_eq_true h12, bnd_s, if_bit, if_pos rfl, chk_h (hnz y hy), f1_ropeOf_eq g hv.2.1.2.1 hv.1 (by omega) (by omega) (by omega), bnd_s]
          have hl := fsN_le (bdP M.2.1 (Int32.ofNat i) (Int32.ofNat j)) (cR M.2.1)
          by_cases hbd : fsN (bdP M.2.1 (Int32.ofNat i) (Int32.ofNat j)) (cR M.2.1) < cR M.2.1
          · rw [if_pos hbd, decide_eq_true hbd, if_neg (nat_m1 (by omega))]
            exact skip _ _ _ _ _ _ hy hw hb
          · rw [if_neg hbd, decide_eq_false hbd, if_pos rfl]
            simp only [Bool.not_false, Bool.and_self, if_true]
            have hzy : ¬ (y 0).1 0 = 0 := by rw [hy.1]; exact hz
            have hvy : RVa (y 1) s.2.1 (s.1 55) := by rw [hy1 y hy, hw.2, hw.1]; exact hv
            obtain ⟨y5, w1, w2⟩ := f0_wordsOf_eq hzy hvy (i := i) (j := j) (by rw [hw.2]; exact hlt) (by rw [hw.2]; exact hjt)
            obtain ⟨s5, w3, w4⟩ := f3_asks_eq hvy.2.1 (i := i) (j := j) (by rw [hw.2]; exact hlt) (by rw [hw.2]; exact hjt)
            have hu5 : RU cs s5.2.1 r := by rw [w4.2.1, hw.2]; exact hu
            obtain ⟨s6, w5, w6⟩ := f3_wanted_eq hr hu5
            have hsum : sumV ((y5 0).2.2 14) cs = sumV (s5.2.2 49) cs := hu5.w (fun k hk => by rw [w2.2.2.1 k hk, w4.2.2.1 k hk])
            rw [w1, w3, bnd_s, bnd_s, w5, bnd2_s, hsum]
            have hy5 : Kv x y5 := ⟨w2.1.trans hy.1, w2.2.1.trans hy.2.1, fun k hk => (w2.2.2.2 k hk).trans (hy.2.2 k hk)⟩
            have hs6 : Kw M s6 := ⟨(w6.1.trans w4.1).trans hw.1, (w6.2.1.trans w4.2.1).trans hw.2⟩
            by_cases hgt : b4 < sumV (s5.2.2 49) cs
            · rw [if_pos ((lg_cmp_gt _ _).mpr hgt), if_neg (fun z => absurd ((lg_cmp_le _ _).mp z) (Int64.not_le.mpr hgt))]
              have e8 : (8 : Int32) * Int32.ofNat i + Int32.ofNat j = Int32.ofNat (8 * i + j) := by
                rw [show (8 : Int32) = Int32.ofNat 8 from rfl, ← Int32.ofNat_mul, ← Int32.ofNat_add]
              rw [e8]
              exact skip _ _ _ _ _ _ hy5 hs6 (Or.inr ⟨i, j, hij, hjt, hk1, hk2, rfl, rfl, rfl⟩)
            · rw [if_neg (fun z => hgt ((lg_cmp_gt _ _).mp z)), if_pos ((lg_cmp_le _ _).mpr (Int64.not_lt.mp hgt))]
              exact skip _ _ _ _ _ _ hy5 hs6 hb
end T

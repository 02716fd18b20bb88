/-! PLAIN LAW: run -/
set_option maxRecDepth 100000
section R
variable {x : Nat → Bl} {M : Bl} {v v1 v2 v3 : Int32}
theorem run_sim (h : RL x M) {nR : Nat} {R : Nat → List Cls} (hR : (M.1 35).toNatClampNeg ≤ nR) (hu : ∀ r, r < (M.1 35).toNatClampNeg → RU (R r) M.2.1 r) : Sim x M (f0_run x nR R v1 v2 v3) (f3_run M v1 v2 v3) := by
  obtain ⟨n6, r1, r2, r3, r4⟩ := h.2.2.2.1
  by_cases hk : (x 0).1 0 = 0 ∨ isK (M.1 35).toNatClampNeg v1 = false
  · exact run_none h hk
  rw [r3, zI_nat (by omega)] at hk hR hu
  rcases h.1 with ⟨hz, hn⟩ | ⟨hz, hv⟩
  · exact absurd (Or.inl hz) hk
  have hk1 : isK n6 v1 = true := by
    cases c : isK n6 v1 with
    | true => rfl
    | false => exact absurd (Or.inr c) hk
  obtain ⟨r, hr, rfl⟩ := (isK_iff (by omega)).mp hk1
  have hcf : decide (¬ (x 0).1 0 = 0) = true := decide_eq_true hz
  unfold f0_run f3_run f3_milesLeft
  rw [if_neg hz, isRiver_yes hv.2.1, bnd_s, if_neg (show ¬ (1 : Int32) = 0 by decide), f0_isRule_eq r1 r2, f3_isRule_eq r1 r3, bnd_s, bnd_s, if_bit, if_bit, hk1]
  simp only [hcf, chk_t, bnd_s, hv.1.now, hv.1.miles, if_true]
  have e0 := f0_in32 v2 1 (M.2.1 1 0 - M.2.1 1 6)
  have e3 := f3_in32 v2 1 (M.2.1 1 0 - M.2.1 1 6)
  change f0_in v2.toInt64 (1 : Int64) (M.2.1 1 0 - M.2.1 1 6).toInt64 = _ at e0
  change f3_in v2.toInt64 (1 : Int64) (M.2.1 1 0 - M.2.1 1 6).toInt64 = _ at e3
  have e02 := f0_in32 v3 1 9
  have e32 := f3_in32 v3 1 9
  change f0_in v3.toInt64 (1 : Int64) (9 : Int64) = _ at e02
  change f3_in v3.toInt64 (1 : Int64) (9 : Int64) = _ at e32
  rw [e0, e3, e02, e32]
  simp only [bnd_s, if_bit]
  cases hc1 : (decide (1 ≤ v2) && decide (v2 ≤ M.2.1 1 0 - M.2.1 1 6)) with
  | false => exact Sim.same h _
  | true =>
    cases hc2 : (decide (1 ≤ v3) && decide (v3 ≤ 9)) with
    | false => exact Sim.same h _
    | true =>
      simp only [if_true]
      rw [Bool.and_eq_true, decide_eq_true_eq, decide_eq_true_eq] at hc1
      obtain ⟨n, rfl, hnle, hn31⟩ := nn_le (Int32.le_trans (by decide : (0 : Int32) ≤ 1) hc1.1) hc1.2
      rw [left_eq hv.2.1] at hnle
      have hgo := hv.2.1.2.2.2.2
      have hv0 : RVa (bI (x 1) 7 0) M.2.1 0 := ⟨hv.1.ff Ff.bi (by decide) (by simp), hv.2.1, hv.2.2.1.ff Ff.bi (by decide) (by simp), bI_v, 0, by omega, rfl, fun k hk => absurd hk (Nat.not_lt_zero k)⟩
      have hcf2 : ∀ y, Kx x y → decide (¬ (y 0).1 0 = 0) = true := fun y hy => by rw [hy.1 0 (by decide)]; exact hcf
      refine Sim.ofBo (loop_sim (fun (a : (Nat → Bl) × Int32 × Int32) (b : Bl × Int32 × Int32) => ∃ k, k ≤ n ∧ a.2.2 = Int32.ofNat k ∧ b.2.2 = Int32.ofNat k ∧ a.2.1 = b.2.1 ∧ RVa (a.1 1) b.1.2.1 (b.1.1 55) ∧ Kx x a.1 ∧ Km M b.1 ∧ b.1.2.1 1 0 = M.2.1 1 0 ∧ (b.1.2.1 1 6).toInt = (M.2.1 1 6).toInt + k) (fun b => n - b.2.2.toNatClampNeg) _ ?_ (s1 := (upX x 1 (bI (x 1) 7 0), (0 : Int32), (0 : Int32))) (s2 := (bI M 55 0, (0 : Int32), (0 : Int32))) ⟨0, by omega, rfl, rfl, rfl, by dsimp only; rw [upX_self, bI_v]; exact hv0, Kx.up1, Km.ff Ff.bi (by decide) rfl (by decide), rfl, by show (M.2.1 1 6).toInt = _; omega⟩ (by show n - _ < _; omega))
      rintro K1 K2 ⟨y, w0, w1⟩ ⟨s, u0, u1⟩ ⟨k, hkn, ew1, ew2, ew3, hvy, kx, km, hm0, hnow⟩ IH
      dsimp only at ew1 ew2 ew3 hvy kx km hm0 hnow
      subst ew1 ew2 ew3
      have hzy : ¬ (y 0).1 0 = 0 := of_decide_eq_true (hcf2 y kx)
      simp only [g0_run_68, g3_run_54]
      rw [zif_le hn31 (by omega), zif_le hn31 (by omega)]
      by_cases hend : n ≤ k
      · rw [if_pos hend, if_pos hend]
        exact Bo.some ⟨rfl, h.keep kx km (Or.inr ⟨hzy, hvy⟩), kx, km⟩
      · rw [if_neg hend, if_neg hend, chk_h (hcf2 y kx), hvy.1.store]
        have mile : ∀ (y' : Nat → Bl) (s' : Bl), TQ y s y' s' → Bo (fun a b => a.1 = b.1 ∧ RL a.2 b.2 ∧ Kx x a.2 ∧ Km M b.2) (g0_run_108 nR R K1 y' (Int32.ofNat r) (Int32.ofNat n) v3 w0 (Int32.ofNat k)) (bnd2 (f3_goesMile s') (fun r7 s7 => K2 (s7, w0 + r7, Int32.ofNat k + (1 : Int32)))) := by
          rintro y' s' ⟨t1, t2, t3, t4, t5⟩
          unfold g0_run_108
          obtain ⟨r7, F', M', m1, m2, m3, m4, m5, m6, m7⟩ := goesOn_sim t1.2.1 t1.1 (by rw [t5, t4, hnow, hm0]; omega)
          rw [chk_h (hcf2 y' (kx.trans t2)), m1, m2, bnd2_s, bnd2_s, zI_succ]
          refine IH _ _ ⟨k + 1, by omega, rfl, rfl, rfl, ?_, (kx.trans t2).trans Kx.up1, (km.trans t3).trans (Km.of m6), ?_, ?_⟩ ?_
          · dsimp only; rw [upX_self, m6.fld 55]; exact t1.mile m3 m4 m5 m6
          · dsimp only; rw [m6.sc 0 (by decide), t4, hm0]
          · dsimp only
            have e1 : (1 : Int32).toInt = 1 := rfl
            rw [m7, t5, tI_add (by rw [hnow, e1]; omega) (by rw [hnow, e1]; omega), hnow, e1]; omega
          · show n - (Int32.ofNat (k + 1)).toNatClampNeg < n - (Int32.ofNat k).toNatClampNeg
            rw [zI_nat (by omega), zI_nat (by omega)]; omega
        have same : TQ y s y s := ⟨hvy, Kx.refl, Km.refl, rfl, rfl⟩
        have h12 := hvy.2.1.1.2.2.1.2
        by_cases c1 : s.2.1 1 1 < v3
        · rw [if_pos c1, f3_tiesBy_no hvy.2.1.1 (Or.inl c1), bnd_s]
          exact mile _ _ same
        · rw [if_neg c1, chk_h (hcf2 y kx), hvy.1.nR hvy.2.1.1, show (12 : Int32) = Int32.ofNat 12 from rfl, zif_le (by omega) (by omega)]
          by_cases c2 : 12 ≤ cR s.2.1
          · rw [if_pos c2, f3_tiesBy_no hvy.2.1.1 (Or.inr c2), bnd_s]
            exact mile _ _ same
          · have hrn : (Int32.ofNat r).toNatClampNeg = r := zI_nat (by omega)
            have hri : inB (Int32.ofNat r) 6 = true := zI_in (by omega) (by decide)
            have hn0 : ¬ (y 0).2.1 12 r = 0 := by
              rw [kx.2.1 12 (by decide)]
              exact fun z => absurd ((r4 r (by omega)).mp z) (by omega)
            rw [if_neg c2, hrn, hri, decide_eq_true hn0, decide_eq_true (show r < nR by omega)]
            have hur : RU (R r) s.2.1 r := (hu r hr).km km
            obtain ⟨y', s', q1, q2, q3⟩ := tiesBy_sim hzy hvy (show r < 6 by omega) hur hc2 c1 (by omega)
            rw [q1, q2]
            simp only [Bool.and_self, chk_t, bnd_s]
            exact mile _ _ q3
end R

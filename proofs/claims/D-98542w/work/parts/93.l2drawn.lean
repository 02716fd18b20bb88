/-! PLAIN LAW: drawn miles -/
set_option maxRecDepth 100000
def nxD (d : Int32) : Int32 := (((d.toInt64 * (1103515245 : Int64)) + (12345 : Int64)) - ((d.toInt64 * (1103515245 : Int64)) + (12345 : Int64)) / (2147483648 : Int64) * (2147483648 : Int64)).toInt32
def vD (d : Int32) : Int32 := (d / (65536 : Int32)) - (d / (65536 : Int32)) / 10 * 10
theorem f0_draw_eq (x : Nat → Bl) : f0_draw x (10 : Int32) = some (vD (nxD ((x 0).1 27)), upX x 0 (bI (x 0) 27 (nxD ((x 0).1 27)))) := by
  unfold f0_draw
  rw [ltv_s, upX_self, bI_v]
  rfl
theorem f3_draws_eq (M : Bl) : f3_draws M (10 : Int32) = some (vD (nxD (M.2.1 1 8)), bA M 1 8 (nxD (M.2.1 1 8))) := by
  have e : (bA M 1 8 (nxD (M.2.1 1 8))).2.1 1 8 = nxD (M.2.1 1 8) := by simp [bA, bS, upd]
  unfold f3_draws
  show ltv (bA M 1 8 (nxD (M.2.1 1 8))) _ = _
  rw [ltv_s, e]
  rfl
theorem FR.d8 {F M : Bl} {v : Int32} (h : FR F M.2.1) : FR F (bA M 1 8 v).2.1 := h
theorem GR.d8 {M : Bl} {v : Int32} (h : GR M.2.1) : GR (bA M 1 8 v).2.1 := h
theorem FC.ff {F F' : Bl} {a : Ar} {As Is : List Nat} (h : FC F a) (k : Ff As Is F F') (hI : 0 ∉ Is ∧ 1 ∉ Is ∧ 2 ∉ Is ∧ 3 ∉ Is := by decide) (hA : 9 ∉ As ∧ 10 ∉ As ∧ 13 ∉ As ∧ 15 ∉ As ∧ 21 ∉ As ∧ 22 ∉ As := by decide) : FC F' a := by
  unfold FC
  rw [k.fld 0 hI.1, k.fld 1 hI.2.1, k.fld 2 hI.2.2.1, k.fld 3 hI.2.2.2, k.arr 9 hA.1, k.arr 10 hA.2.1, k.arr 13 hA.2.2.1, k.arr 15 hA.2.2.2.1, k.arr 21 hA.2.2.2.2.1, k.arr 22 hA.2.2.2.2.2]
  exact h
theorem Kx.d27 {x : Nat → Bl} {v : Int32} : Kx x (upX x 0 (bI (x 0) 27 v)) := ⟨fun f hf => by
    rw [upX_self]
    have : ¬ f = 27 := by intro e; subst e; revert hf; decide
    simp [bI, this], fun f _ => by rw [upX_self]; rfl, fun j hj => upX_ne (by intro e; subst e; revert hj; decide)⟩
def selV (v3 a b c : Int32) : Int32 := if v3 = 0 then a else if v3 = 1 then b else c
section D
variable {x : Nat → Bl} {M : Bl} {v v1 v2 v3 : Int32}
theorem drawn_sim (h : RL x M) : Sim x M (f0_drawn x v1 v2 v3) (f3_drawn M v1 v2 v3) := by
  unfold f0_drawn f3_drawn f3_milesLeft
  rcases h.1 with ⟨hz, hn⟩ | ⟨hz, hv⟩
  · rw [if_pos hz, isRiver_no hn, bnd_s]; exact Sim.same h _
  · have hcf : decide (¬ (x 0).1 0 = 0) = true := decide_eq_true hz
    rw [if_neg hz, isRiver_yes hv.2.1]
    simp only [hcf, chk_t, bnd_s, hv.1.now, hv.1.miles]
    rw [if_neg (show ¬ (1 : Int32) = 0 by decide)]
    have e0 := f0_in32 v1 1 20
    have e3 := f3_in32 v1 1 20
    change f0_in v1.toInt64 (1 : Int64) (20 : Int64) = _ at e0
    change f3_in v1.toInt64 (1 : Int64) (20 : Int64) = _ at e3
    have e02 := f0_in32 v2 1 (if M.2.1 1 0 - M.2.1 1 6 < (60 : Int32) then M.2.1 1 0 - M.2.1 1 6 else (60 : Int32))
    have e32 := f3_in32 v2 1 60
    change f0_in v2.toInt64 (1 : Int64) (if M.2.1 1 0 - M.2.1 1 6 < (60 : Int32) then M.2.1 1 0 - M.2.1 1 6 else (60 : Int32)).toInt64 = _ at e02
    change f3_in v2.toInt64 (1 : Int64) (60 : Int64) = _ at e32
    have e03 := f0_in32 v3 0 2
    have e33 := f3_in32 v3 0 2
    change f0_in v3.toInt64 (0 : Int64) (2 : Int64) = _ at e03
    change f3_in v3.toInt64 (0 : Int64) (2 : Int64) = _ at e33
    rw [e0, e3, e02, e32, e03, e33]
    simp only [bnd_s, if_bit]
    have hmin : (decide (1 ≤ v2) && decide (v2 ≤ (if M.2.1 1 0 - M.2.1 1 6 < (60 : Int32) then M.2.1 1 0 - M.2.1 1 6 else (60 : Int32)))) = ((decide (1 ≤ v2) && decide (v2 ≤ 60)) && decide (¬ M.2.1 1 0 - M.2.1 1 6 < v2)) := by
      rw [Bool.and_assoc]
      congr 1
      rw [Bool.eq_iff_iff, Bool.and_eq_true, decide_eq_true_eq, decide_eq_true_eq, decide_eq_true_eq]
      by_cases hc : M.2.1 1 0 - M.2.1 1 6 < (60 : Int32)
      · rw [if_pos hc]
        rw [Int32.lt_iff_toInt_lt] at hc
        rw [Int32.le_iff_toInt_le, Int32.le_iff_toInt_le, Int32.lt_iff_toInt_lt]; omega
      · rw [if_neg hc]
        rw [Int32.lt_iff_toInt_lt] at hc
        rw [Int32.le_iff_toInt_le, Int32.lt_iff_toInt_lt]; omega
    rw [hmin]
    cases hc1 : (decide (1 ≤ v1) && decide (v1 ≤ 20)) with
    | false => exact Sim.same h _
    | true =>
      cases hc2 : (decide (1 ≤ v2) && decide (v2 ≤ 60)) with
      | false => exact Sim.same h _
      | true =>
        simp only [if_true, Bool.true_and]
        by_cases hc4 : M.2.1 1 0 - M.2.1 1 6 < v2
        · rw [if_pos hc4, if_neg (by simpa using hc4)]; exact Sim.same h _
        rw [if_neg hc4, if_pos (decide_eq_true hc4)]
        cases hc3 : (decide (0 ≤ v3) && decide (v3 ≤ 2)) with
        | false => exact Sim.same h _
        | true =>
          simp only [if_true]
          rw [Bool.and_eq_true, decide_eq_true_eq, decide_eq_true_eq] at hc1 hc2
          have one0 : ∀ w : Int32, 1 ≤ w → 0 ≤ w := fun w h1 => by
            rw [Int32.le_iff_toInt_le] at h1 ⊢
            have z1 : (1 : Int32).toInt = 1 := rfl
            have z0 : (0 : Int32).toInt = 0 := rfl
            omega
          obtain ⟨n1, rfl, hn1, hn131⟩ := nn_le (one0 _ hc1.1) hc1.2
          obtain ⟨n2, rfl, hn2, hn231⟩ := nn_le (one0 _ hc2.1) hc2.2
          have hleft : (n2 : Int) ≤ (M.2.1 1 0).toInt - (M.2.1 1 6).toInt := by
            rw [Int32.lt_iff_toInt_lt, left_eq hv.2.1, zI_int hn231] at hc4; omega
          have z20 : (20 : Int32).toInt = 20 := rfl
          have z60 : (60 : Int32).toInt = 60 := rfl
          obtain ⟨s, ks, hs, kf, h55, hag⟩ := keepsAll_sv M
          have h53 : ∀ i, i < 1540 → s.2.1 53 i = M.2.1 53 i := fun i _ => by rw [kf.arr 53]
          have u00 : ∀ w : Bl, (upX x 0 w) 1 = x 1 := fun w => upX_ne (by decide)
          have u02 : ∀ w : Bl, (upX x 0 w) 2 = x 2 := fun w => upX_ne (by decide)
          rw [u00, u02, f1_copies_def, bnd_s, ks, bnd_s]
          have hcf2 : decide (¬ ((upX x 0 (bI (x 0) 27 ((x 0).1 5))) 0).1 0 = 0) = true := by
            rw [(Kx.d27 (x := x)).1 0 (by decide)]; exact hcf
          rw [hcf2, chk_t]
          have hx5 : (x 0).1 5 = M.2.1 1 8 := h.2.2.2.2.1.1
          refine Sim.ofBo (loop_sim (fun a b => ∃ k, k ≤ n1 ∧ a.2.2.2.2 = Int32.ofNat k ∧ b.2.2.2 = Int32.ofNat k ∧ Kx x a.1 ∧ a.1 1 = x 1 ∧ FC (a.1 2) M.2.1 ∧ (a.1 0).1 27 = b.2.1 ∧ b.2.2.1 = selV v3 a.2.1 a.2.2.1 a.2.2.2.1 ∧ Sv M b.1 ∧ AG b.1.2.1 M.2.1 ∧ (∀ i, i < 1540 → b.1.2.1 53 i = M.2.1 53 i) ∧ b.1.1 55 = M.1 55) (fun b => n1 - b.2.2.2.toNatClampNeg) _ ?_ (s1 := (upX (upX x 0 (bI (x 0) 27 ((x 0).1 5))) 2 (cpsF (x 2) (x 1)), (0 : Int32), (0 : Int32), (0 : Int32), (0 : Int32))) (s2 := (s, M.2.1 1 8, (0 : Int32), (0 : Int32))) ⟨0, by omega, rfl, rfl, Kx.d27.trans Kx.up2, by (try dsimp only); rw [upX_ne (by decide), u00], by (try dsimp only); rw [upX_self]; exact hv.1.1.cps hv.2.1.1, by (try dsimp only); rw [upX_ne (by decide), upX_self, bI_v]; exact hx5, by (try dsimp only); unfold selV; simp, hs, hag, h53, h55⟩ (by show n1 - _ < _; omega))
          rintro K1 K2 ⟨x1, a4, a5, a6, w1⟩ ⟨s1, c, u, w2⟩ ⟨k, hk, ew1, ew2, kx, k1, hfc, h27, hu, hsv, hag1, hp53, hp55⟩ hK
          dsimp only at ew1 ew2 kx k1 hfc h27 hu hsv hag1 hp53 hp55
          subst ew1 ew2 hu
          simp only [g0_drawn_96, g3_drawn_76]
          rw [zif_le hn131 (by omega), zif_le hn131 (by omega)]
          by_cases hend : n1 ≤ k
          · rw [if_pos hend, if_pos hend]
            have hE : (if v3 = 0 then some (a4, x1) else if v3 = (1 : Int32) then some (a5, x1) else some (a6, x1)) = some (selV v3 a4 a5 a6, x1) := by
              unfold selV
              by_cases q0 : v3 = 0
              · rw [if_pos q0, if_pos q0]
              · rw [if_neg q0, if_neg q0]
                by_cases q1 : v3 = 1
                · rw [if_pos q1, if_pos q1]
                · rw [if_neg q1, if_neg q1]
            rw [hE]
            have e8 : bA s1 1 8 (M.2.1 1 8) = s1 := bA_id (hag1.1 8 (by omega))
            rw [e8]
            have km : Km M s1 := ⟨hsv.2.1, hsv.2.2.1, fun j hj i => by
              by_cases hi : i < 1900
              · exact Or.inl (hsv.2.2.2 j hj i hi)
              · exact Or.inr (by omega), hag1.1 8 (by omega)⟩
            refine Bo.some ⟨rfl, h.keep kx km (Or.inr ⟨by rw [kx.1 0 (by decide)]; exact hz, ?_⟩), kx, km⟩
            (try dsimp only); rw [k1, hp55]; exact hv.congr hag1 hp53 rfl
          · rw [if_neg hend, if_neg hend]
            have hcf3 : decide (¬ (x1 0).1 0 = 0) = true := by rw [kx.1 0 (by decide)]; exact hcf
            rw [hcf3, chk_t, f1_standsAs_def, bnd_s, k1]
            refine loop_sim (fun a b => ∃ j, j ≤ n2 ∧ a.2.2.2.2 = Int32.ofNat j ∧ b.2.2 = Int32.ofNat j ∧ Kx x a.1 ∧ a.1 1 = x 1 ∧ FC (a.1 2) M.2.1 ∧ (a.1 0).1 27 = b.1.2.1 1 8 ∧ b.2.1 = selV v3 a.2.1 a.2.2.1 a.2.2.2.1 ∧ Sv M b.1 ∧ FR (a.1 2) b.1.2.1 ∧ GR b.1.2.1 ∧ b.1.2.1 1 0 = M.2.1 1 0 ∧ (b.1.2.1 1 6).toInt = (M.2.1 1 6).toInt + j) (fun b => n2 - b.2.2.toNatClampNeg) _ ?_ (s1 := (upX x1 2 (stdF (x1 2) (x 1)), a4, a5, a6, (0 : Int32))) (s2 := (bA s1 1 8 c, selV v3 a4 a5 a6, (0 : Int32))) ⟨0, by omega, rfl, rfl, kx.trans Kx.up2, by (try dsimp only); rw [upX_ne (by decide)]; exact k1, by (try dsimp only); rw [upX_self]; exact hfc.ff (stdF_frame _ _), by (try dsimp only); rw [upX_ne (by decide), h27]; simp [bA, bS, upd], rfl, hsv.fm Fm.ba1, by (try dsimp only); rw [upX_self]; exact FR.d8 ((hv.1.std hv.2.1.1 hfc).congr hag1 hv.2.1.1), GR.d8 (hv.2.1.congr hag1), hag1.1 0 (by omega), by
              show (s1.2.1 1 6).toInt = _; rw [hag1.1 6 (by omega)]; omega⟩ (by show n2 - _ < _; omega)
            rintro L1 L2 ⟨x2, b4, b5, b6, y1⟩ ⟨s2, u2, y2⟩ ⟨j, hj, ey1, ey2, mx, m1, mfc, m27, mu2, msv, mfr, mgr, m0, mnow⟩ hL
            dsimp only at ey1 ey2 mx m1 mfc m27 mu2 msv mfr mgr m0 mnow
            subst ey1 ey2 mu2
            simp only [g0_drawn_115, g3_drawn_94]
            rw [zif_le hn231 (by omega), zif_le hn231 (by omega)]
            by_cases hend2 : n2 ≤ j
            · rw [if_pos hend2, if_pos hend2]
              obtain ⟨M9, q1, q2, q3, q4, q5, q6⟩ := msv.back
              rw [q1, bnd_s, zI_succ]
              refine hK _ _ ⟨k + 1, by omega, rfl, rfl, mx, m1, mfc, m27, rfl, q6, q2, q3, q4⟩ ?_
              show n1 - (Int32.ofNat (k + 1)).toNatClampNeg < n1 - (Int32.ofNat k).toNatClampNeg
              rw [zI_nat (by omega), zI_nat (by omega)]; omega
            · rw [if_neg hend2, if_neg hend2, f0_draw_eq, f3_draws_eq, bnd2_s, bnd2_s, m27]
              have v2e : (upX x2 0 (bI (x2 0) 27 (nxD (s2.2.1 1 8)))) 2 = x2 2 := upX_ne (by decide)
              have b6e : (bA s2 1 8 (nxD (s2.2.1 1 8))).2.1 1 6 = s2.2.1 1 6 := by simp [bA, bS, upd]
              have b0e : (bA s2 1 8 (nxD (s2.2.1 1 8))).2.1 1 0 = s2.2.1 1 0 := by simp [bA, bS, upd]
              have b8e : (bA s2 1 8 (nxD (s2.2.1 1 8))).2.1 1 8 = nxD (s2.2.1 1 8) := by simp [bA, bS, upd]
              have nfr : FR (x2 2) (bA s2 1 8 (nxD (s2.2.1 1 8))).2.1 := mfr.d8
              have ngr : GR (bA s2 1 8 (nxD (s2.2.1 1 8))).2.1 := mgr.d8
              have nsv : Sv M (bA s2 1 8 (nxD (s2.2.1 1 8))) := msv.fm Fm.ba1
              rw [v2e, nfr.now]
              generalize hs3 : bA s2 1 8 (nxD (s2.2.1 1 8)) = s3 at *
              have kx3 : Kx x (upX x2 0 (bI (x2 0) 27 (nxD (s2.2.1 1 8)))) := mx.trans Kx.d27
              have x31 : (upX x2 0 (bI (x2 0) 27 (nxD (s2.2.1 1 8)))) 1 = x 1 := by rw [upX_ne (by decide)]; exact m1
              have x30 : ((upX x2 0 (bI (x2 0) 27 (nxD (s2.2.1 1 8)))) 0).1 27 = s3.2.1 1 8 := by rw [upX_self, bI_v, b8e]
              generalize upX x2 0 (bI (x2 0) 27 (nxD (s2.2.1 1 8))) = x3 at kx3 x31 x30 v2e ⊢
              rw [f1_forceAt_eq ngr.1 nfr, f3_forceAt_eq ngr.1, bnd_s, bnd_s]
              have hby : ∀ (α : Type) (G : Int32 → α) (p q : Int32), (if q ≤ p then G p else G q) = G (if p < q then q else p) := fun α G p q => by
                by_cases hc : q ≤ p
                · rw [if_pos hc, if_neg (Int32.not_lt.mpr hc)]
                · rw [if_neg hc, if_pos (Int32.not_le.mp hc)]
              rw [hby (Option (Int32 × Bl)) (g3_drawn_138 K2 L2 s3 (Int32.ofNat n1) (Int32.ofNat n2) v3 (M.2.1 1 8) (selV v3 b4 b5 b6) (Int32.ofNat k) (Int32.ofNat j))]
              obtain ⟨r, F', s', g1, g2, g3, g4, g5, g6, g7, g8, g9⟩ := mile_sim (by9 := if vD (nxD (s2.2.1 1 8)) < sFo s3.2.1 (s3.2.1 1 6 + 1) then sFo s3.2.1 (s3.2.1 1 6 + 1) else vD (nxD (s2.2.1 1 8))) ngr nfr (by rw [b6e, b0e, mnow, m0]; omega)
              unfold g3_drawn_138
              rw [g1, g2, bnd2_s, bnd2_s, upX_self, zI_succ, g7, g8]
              have hnow' : (s'.2.1 1 6).toInt = (M.2.1 1 6).toInt + (j + 1 : Nat) := by
                have z1 : (1 : Int32).toInt = 1 := rfl
                have hg := ngr.2.2.2.2
                rw [g9, tI_add (by rw [z1]; omega) (by rw [z1]; omega), b6e, mnow, z1]; omega
              have step : ∀ w, w = selV v3 (b4 + r) (b5 + s'.1 51) (b6 + s'.1 52) → Bo (fun a b => a.1 = b.1 ∧ RL a.2 b.2 ∧ Kx x a.2 ∧ Km M b.2) (L1 (upX x3 2 F', b4 + r, b5 + s'.1 51, b6 + s'.1 52, Int32.ofNat (j + 1))) (L2 (s', w, Int32.ofNat (j + 1))) := by
                intro w hw
                refine hL _ _ ⟨j + 1, by omega, rfl, rfl, kx3.trans Kx.up2, by (try dsimp only); rw [upX_ne (by decide)]; exact x31, by (try dsimp only); rw [upX_self]; exact mfc.ff g5, by (try dsimp only); rw [upX_ne (by decide), x30, g6.sc 8], hw, nsv.fm g6, by (try dsimp only); rw [upX_self]; exact g3, g4, by (try dsimp only); rw [g6.sc 0, b0e]; exact m0, hnow'⟩ ?_
                show n2 - (Int32.ofNat (j + 1)).toNatClampNeg < n2 - (Int32.ofNat j).toNatClampNeg
                rw [zI_nat (by omega), zI_nat (by omega)]; omega
              by_cases q0 : v3 = 0
              · rw [if_pos q0]; exact step _ (by unfold selV; rw [if_pos q0, if_pos q0])
              · rw [if_neg q0]
                by_cases q1 : v3 = 1
                · rw [if_pos q1]; exact step _ (by unfold selV; rw [if_neg q0, if_neg q0, if_pos q1, if_pos q1])
                · rw [if_neg q1]; exact step _ (by unfold selV; rw [if_neg q0, if_neg q0, if_neg q1, if_neg q1])
end D

/-! PLAIN LAW: offer, count -/
set_option maxRecDepth 100000
section I
variable {x : Nat → Bl} {M : Bl} {v v1 v2 v3 v4 v5 : Int32}
theorem zr_le {n : Nat} (hn : n < 2147483648) (hc : (decide (0 ≤ v) && decide (v ≤ Int32.ofNat n)) = true) : 0 ≤ v.toInt ∧ v.toInt ≤ n := by
  rw [Bool.and_eq_true, decide_eq_true_eq, decide_eq_true_eq, Int32.le_iff_toInt_le, Int32.le_iff_toInt_le, zI_int hn] at hc
  exact hc
theorem offer_sim (h : RL x M) : Sim x M (f0_offer x v1 v2 v3) (f3_offer M v1 v2 v3) := by
  unfold f0_offer f3_offer
  have hmk : ∀ {F' : Bl} {M' : Bl}, ¬ (x 0).1 0 = 0 → RVa (x 1) M.2.1 (M.1 55) → Ff [23] [8] (x 1) F' → Fm [16, 17, 18] [7] [] M M' → FO F' M'.2.1 → (M'.2.1 1 7 = Int32.ofNat (cF M'.2.1) ∧ cF M'.2.1 ≤ 6) → ∀ r, Sim x M (some (r, upX x 1 F')) (some (r, M')) := by
    intro F' M' hz hv kf km hO hF7 r
    have cO' : cO M'.2.1 = cO M.2.1 := by unfold cO; rw [km.sc 2]
    have cT' : cT M'.2.1 = cT M.2.1 := by unfold cT; rw [km.sc 3]
    have cR' : cR M'.2.1 = cR M.2.1 := by unfold cR; rw [km.sc 4]
    have cX' : cX M'.2.1 = cX M.2.1 := by unfold cX; rw [km.sc 5]
    obtain ⟨hfr, hgr, -, hp⟩ := hv
    have hrl : rlM M'.2.1 = rlM M.2.1 := by unfold rlM; rw [cR', km.arr 11, km.arr 12, km.arr 13]
    have gput : ∀ g : Nat → Nat → Int32, GR (putM M.2.1 g) → GR (putM M'.2.1 g) := by
      intro g hg
      have c1 : cO (putM M'.2.1 g) = cO (putM M.2.1 g) := by
        show (M'.2.1 1 2).toNatClampNeg = (M.2.1 1 2).toNatClampNeg; rw [km.sc 2]
      have c2 : cT (putM M'.2.1 g) = cT (putM M.2.1 g) := by
        show (M'.2.1 1 3).toNatClampNeg = (M.2.1 1 3).toNatClampNeg; rw [km.sc 3]
      obtain ⟨⟨g1, g2, g3, g4, g5⟩, hra, gv1, gv2, gv3, gv4⟩ := hg
      refine ⟨⟨?_, ?_, g3, ?_, hF7⟩, ?_, ?_, ?_, ?_, ?_⟩
      · rw [c1]; show M'.2.1 1 2 = _ ∧ _; rw [km.sc 2]; exact g1
      · rw [c2]; show M'.2.1 1 3 = _ ∧ _; rw [km.sc 3]; exact g2
      · have c3 : cX (putM M'.2.1 g) = cX (putM M.2.1 g) := by
          show (M'.2.1 1 5).toNatClampNeg = (M.2.1 1 5).toNatClampNeg; rw [km.sc 5]
        rw [c3]; show M'.2.1 1 5 = _ ∧ _; rw [km.sc 5]; exact g4
      · rw [RA_iff, c2]; exact RA_iff.mp hra
      · rw [c1, c2]
        intro t ht
        have := gv1 t ht
        refine ⟨?_, this.2.1, ?_, this.2.2.2⟩
        · show 0 ≤ (M'.2.1 6 t).toInt ∧ (M'.2.1 6 t).toInt ≤ 50; rw [km.arr 6]; exact this.1
        · show 0 ≤ (M'.2.1 8 t).toInt ∧ (M'.2.1 8 t).toInt ≤ 9; rw [km.arr 8]; exact this.2.2.1
      · rw [c1]
        intro q hq
        have := gv2 q hq
        refine ⟨?_, ?_⟩
        · show 0 ≤ (M'.2.1 3 q).toInt ∧ (M'.2.1 3 q).toInt ≤ 20; rw [km.arr 3]; exact this.1
        · show 1 ≤ (M'.2.1 2 q).toInt ∧ (M'.2.1 2 q).toInt ≤ (M'.2.1 1 0).toInt; rw [km.arr 2, km.sc 0]; exact this.2
      · show 2 ≤ (M'.2.1 1 0).toInt ∧ (M'.2.1 1 0).toInt ≤ 99; rw [km.sc 0]; exact gv3
      · show 0 ≤ (g 0 0).toInt ∧ (g 0 0).toInt ≤ (M'.2.1 1 0).toInt; rw [km.sc 0]; exact gv4
    refine Sim.flow h hz ⟨?_, ?_, hO, ?_⟩ (Km.of km)
    · refine hfr.mk kf km (by decide) (by decide) (by decide) (by decide) (by rw [kf.fld 6, km.sc 6]; exact hfr.now) (by rw [kf.fld 4, km.sc 1]; exact hfr.store) ?_ (fun i hi => by rw [kf.arr 11, km.arr 4]; exact hfr.place hi) (fun i hi => ⟨?_, ?_, ?_, ?_, ?_⟩) ?_
      · rw [cR', kf.fld 5, km.sc 4]; exact ⟨hfr.nR hgr.1, hgr.1.2.2.1.1⟩
      · rw [kf.arr 12, km.arr 5]; exact hfr.owner hi
      · rw [kf.arr 14, km.arr 7]; exact hfr.bears hi
      · rw [kf.arr 16, km.arr 9]; exact hfr.state hi
      · intro h2; rw [km.arr 9] at h2; rw [kf.arr 17, km.arr 10]; exact hfr.sunkAt hi h2
      · intro h2; rw [km.arr 9] at h2; rw [km.arr 10]; exact hfr.notSunk hi h2
      · rw [cR', hrl, kf.arr 18, kf.arr 19, kf.arr 20]; exact hfr.rls
    · obtain ⟨⟨g1, g2, g3, g4, g5⟩, hra, gv1, gv2, gv3, gv4⟩ := hgr
      refine ⟨⟨?_, ?_, ?_, ?_, hF7⟩, ?_, ?_, ?_, ?_, ?_⟩
      · rw [cO', km.sc 2]; exact g1
      · rw [cT', km.sc 3]; exact g2
      · rw [cR', km.sc 4]; exact g3
      · rw [cX', km.sc 5]; exact g4
      · rw [RA_iff, hrl, km.arr 9, cT']; exact RA_iff.mp hra
      · rw [cT', cO', km.arr 6, km.arr 7, km.arr 8, km.arr 5]; exact gv1
      · rw [cO', km.arr 3, km.arr 2, km.sc 0]; exact gv2
      · rw [km.sc 0]; exact gv3
      · rw [km.sc 6, km.sc 0]; exact gv4
    · obtain ⟨e7, n, hn, e55, hrow⟩ := hp
      refine ⟨by rw [kf.fld 7, e7, km.fld 55], n, hn, by rw [km.fld 55]; exact e55, fun k hk => ?_⟩
      obtain ⟨q1, q2⟩ := hrow k hk
      have eP : mP M'.2.1 k = mP M.2.1 k := by funext j i; unfold mP; rw [km.arr 53]
      rw [eP, cO', cT']
      exact ⟨gput _ q1, q2.cg (fun j i => by unfold mU; rw [kf.arr 24]) (fun _ _ => rfl)⟩
  by_cases hm : v1 = (-1 : Int32)
  · rw [if_pos hm, if_pos hm]
    rcases h.1 with ⟨hz, hn⟩ | ⟨hz, hv⟩
    · rw [if_pos hz]
      have e : bA M 1 7 (0 : Int32) = M := bA_id (hn.1 7 (by omega))
      rw [e]; exact Sim.same h _
    · rw [if_neg hz, chk_h (decide_eq_true hz)]
      have e7 : (bA M 1 7 (0 : Int32)).2.1 1 7 = 0 := by simp [bA, bS, upd]
      have c0 : cF (bA M 1 7 (0 : Int32)).2.1 = 0 := by unfold cF; rw [e7]; rfl
      refine hmk hz hv (Ff.bi.weak) (Fm.ba1.weak) ⟨by rw [bI_v, e7], fun i hi => ?_⟩ ⟨by rw [e7, c0]; rfl, by omega⟩ _
      rw [c0] at hi; omega
  · rw [if_neg hm, if_neg hm]
    rcases h.1 with ⟨hz, hn⟩ | ⟨hz, hv⟩
    · rw [if_pos hz, isRiver_no hn, bnd_s]; exact Sim.same h _
    · have hcf : decide (¬ (x 0).1 0 = 0) = true := decide_eq_true hz
      rw [if_neg hz, isRiver_yes hv.2.1, bnd_s, if_neg (show ¬ (1 : Int32) = 0 by decide)]
      have a0 := f0_in32 v1 0 50
      have a3 := f3_in32 v1 0 50
      change f0_in v1.toInt64 (0 : Int64) (50 : Int64) = _ at a0
      change f3_in v1.toInt64 (0 : Int64) (50 : Int64) = _ at a3
      have b0 := f0_in32 v2 0 99
      have b3 := f3_in32 v2 0 99
      change f0_in v2.toInt64 (0 : Int64) (99 : Int64) = _ at b0
      change f3_in v2.toInt64 (0 : Int64) (99 : Int64) = _ at b3
      have d0 := f0_in32 v3 0 9
      have d3 := f3_in32 v3 0 9
      change f0_in v3.toInt64 (0 : Int64) (9 : Int64) = _ at d0
      change f3_in v3.toInt64 (0 : Int64) (9 : Int64) = _ at d3
      rw [a0, a3, b0, b3, d0, d3]
      simp only [bnd_s, if_bit]
      cases hc1 : (decide (0 ≤ v1) && decide (v1 ≤ 50)) with
      | false => exact Sim.same h _
      | true =>
        cases hc2 : (decide (0 ≤ v2) && decide (v2 ≤ 99)) with
        | false => exact Sim.same h _
        | true =>
          cases hc3 : (decide (0 ≤ v3) && decide (v3 ≤ 9)) with
          | false => exact Sim.same h _
          | true =>
            have z1 := zr_le (n := 50) (by omega) hc1
            have z2 := zr_le (n := 99) (by omega) hc2
            have z3 := zr_le (n := 9) (by omega) hc3
            obtain ⟨hF, h6⟩ := hv.2.1.1.2.2.2.2
            have h8 : (x 1).1 8 = Int32.ofNat (cF M.2.1) := hv.2.2.1.1.trans hF
            have hrow := hv.2.2.1.2
            simp only [if_true]
            rw [hcf, chk_t, h8, hF]
            have e6 : (6 : Int32) = Int32.ofNat 6 := rfl
            rw [e6, zif_eq (by omega) (by omega), zif_eq (by omega) (by omega)]
            generalize hcN : cF M.2.1 = c at *
            by_cases hc : c = 6
            · rw [if_pos hc, if_pos hc]; exact Sim.same h _
            · rw [if_neg hc, if_neg hc]
              have e3c : (3 : Int32) * Int32.ofNat c = Int32.ofNat (3 * c) := (Int32.ofNat_mul 3 c).symm
              have e3c1 : Int32.ofNat (3 * c) + (1 : Int32) = Int32.ofNat (3 * c + 1) := zI_succ _
              have e3c2 : Int32.ofNat (3 * c) + (2 : Int32) = Int32.ofNat (3 * c + 2) := (Int32.ofNat_add (3 * c) 2).symm
              have i0 : inB (Int32.ofNat (3 * c)) 18 = true := zI_in (by omega) (by decide)
              have i1 : inB (Int32.ofNat (3 * c + 1)) 18 = true := zI_in (by omega) (by decide)
              have i2 : inB (Int32.ofNat (3 * c + 2)) 18 = true := zI_in (by omega) (by decide)
              have i6 : inB (Int32.ofNat c) 6 = true := zI_in (by omega) (by decide)
              have n0 : (Int32.ofNat (3 * c)).toNatClampNeg = 3 * c := zI_nat (by omega)
              have n1 : (Int32.ofNat (3 * c + 1)).toNatClampNeg = 3 * c + 1 := zI_nat (by omega)
              have n2 : (Int32.ofNat (3 * c + 2)).toNatClampNeg = 3 * c + 2 := zI_nat (by omega)
              have n6 : (Int32.ofNat c).toNatClampNeg = c := zI_nat (by omega)
              have b8 : (bA (bA (bA (x 1) 23 (3 * c) v1) 23 (3 * c + 1) v2) 23 (3 * c + 2) v3).1 8 + 1 = Int32.ofNat (c + 1) := by rw [← zI_succ, ← h8]; rfl
              have b7 : (bA (bA (bA M 16 c v1) 17 c v2) 18 c v3).2.1 1 7 + 1 = Int32.ofNat (c + 1) := by rw [← zI_succ, ← hF]; simp [bA, bS]
              simp only [upX_upX, upX_10, upX_self, hcf, chk_t, ltv_s, e3c, e3c1, e3c2, i0, i1, i2, i6, n0, n1, n2, n6, b8, b7, zI_succ, bI_v]
              have m7 : (bA (bA (bA (bA M 16 c v1) 17 c v2) 18 c v3) 1 7 (Int32.ofNat (c + 1))).2.1 1 7 = Int32.ofNat (c + 1) := by simp [bA, bS, upd]
              have cF' : cF (bA (bA (bA (bA M 16 c v1) 17 c v2) 18 c v3) 1 7 (Int32.ofNat (c + 1))).2.1 = c + 1 := by unfold cF; rw [m7, zI_nat (by omega)]
              refine hmk hz hv ((((Ff.ba.trans Ff.ba).trans Ff.ba).trans Ff.bi).weak) (((((Fm.ba (by decide)).trans (Fm.ba (by decide))).trans (Fm.ba (by decide))).trans Fm.ba1).weak) ⟨by rw [bI_v, m7], fun i hi => ?_⟩ ⟨by rw [m7, cF'], by omega⟩ _
              rw [cF'] at hi
              have f23 : (bI (bA (bA (bA (x 1) 23 (3 * c) v1) 23 (3 * c + 1) v2) 23 (3 * c + 2) v3) 8 (Int32.ofNat (c + 1))).2.1 23 = upd (upd (upd ((x 1).2.1 23) (3 * c) v1) (3 * c + 1) v2) (3 * c + 2) v3 := by simp [bI, bA, bS]
              have m16 : (bA (bA (bA (bA M 16 c v1) 17 c v2) 18 c v3) 1 7 (Int32.ofNat (c + 1))).2.1 16 = upd (M.2.1 16) c v1 := by simp [bA, bS]
              have m17 : (bA (bA (bA (bA M 16 c v1) 17 c v2) 18 c v3) 1 7 (Int32.ofNat (c + 1))).2.1 17 = upd (M.2.1 17) c v2 := by simp [bA, bS]
              have m18 : (bA (bA (bA (bA M 16 c v1) 17 c v2) 18 c v3) 1 7 (Int32.ofNat (c + 1))).2.1 18 = upd (M.2.1 18) c v3 := by simp [bA, bS]
              rw [f23, m16, m17, m18]
              unfold upd
              by_cases e : i = c
              · subst e
                rw [if_pos rfl, if_pos rfl, if_pos rfl, if_neg (by omega), if_neg (by omega), if_pos rfl, if_neg (by omega), if_pos rfl, if_pos rfl]
                exact ⟨⟨rfl, rfl, rfl⟩, z1, z2, z3⟩
              · rw [if_neg e, if_neg e, if_neg e, if_neg (by omega), if_neg (by omega), if_neg (by omega), if_neg (by omega), if_neg (by omega), if_neg (by omega), if_neg (by omega), if_neg (by omega), if_neg (by omega)]
                exact hrow i (by omega)
end I

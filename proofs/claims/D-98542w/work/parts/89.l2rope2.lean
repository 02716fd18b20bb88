/-! PLAIN LAW: bind, cut, saw, push -/
set_option maxRecDepth 100000
/-- an act on ropes, owners, the store: all stays alike -/
theorem RVa.act {F F' M M' : Bl} {p : Int32} (hv : RVa F M.2.1 p) (kf : Ff [12, 18, 19, 20] [4, 5] F F') (km : Fm [5, 11, 12, 13] [1, 4] [] M M') (e2 : F'.1 4 = M'.2.1 1 1) (e3 : F'.1 5 = Int32.ofNat (cR M'.2.1) ∧ M'.2.1 1 4 = Int32.ofNat (cR M'.2.1)) (h12 : cR M'.2.1 ≤ 12) (e6 : rl (F'.2.1 18) (F'.2.1 19) (F'.2.1 20) (cR M'.2.1) = rlM M'.2.1) (hr : ∀ x ∈ rlM M'.2.1, okR (M.2.1 9) (cT M.2.1) x) (e5 : ∀ i, i < cT M.2.1 → F'.2.1 12 i = M'.2.1 5 i ∧ isK (cO M.2.1) (M'.2.1 5 i) = true) : RVa F' M'.2.1 p := by
  have cO' : cO M'.2.1 = cO M.2.1 := by unfold cO; rw [km.sc 2]
  have cT' : cT M'.2.1 = cT M.2.1 := by unfold cT; rw [km.sc 3]
  have cX' : cX M'.2.1 = cX M.2.1 := by unfold cX; rw [km.sc 5]
  have cF' : cF M'.2.1 = cF M.2.1 := by unfold cF; rw [km.sc 7]
  obtain ⟨h, ⟨⟨g1, g2, g3, g4, g5⟩, hra, gv1, gv2, gv3, gv4⟩, hO, hp⟩ := hv
  refine ⟨h.mk kf km (by decide) (by decide) (by decide) (by decide) (by rw [kf.fld 6, km.sc 6]; exact h.now) e2 e3 (fun i hi => by rw [kf.arr 11, km.arr 4]; exact h.place hi) (fun i hi => ⟨(e5 i hi).1, ?_, ?_, ?_, ?_⟩) e6, ⟨⟨?_, ?_, ⟨e3.2, h12⟩, ?_, ?_⟩, ?_, ?_, ?_, ?_, ?_⟩, hO.keep km kf (by decide) (by decide) (by decide) (by decide), hp.keep (kf.fld 7) (kf.arr 24) rfl (km.arr 53) (putM_Fm km (by decide) (by decide)) cO' cT'⟩
  · rw [kf.arr 14, km.arr 7]; exact h.bears hi
  · rw [kf.arr 16, km.arr 9]; exact h.state hi
  · intro h2; rw [km.arr 9] at h2; rw [kf.arr 17, km.arr 10]; exact h.sunkAt hi h2
  · intro h2; rw [km.arr 9] at h2; rw [km.arr 10]; exact h.notSunk hi h2
  · rw [cO', km.sc 2]; exact g1
  · rw [cT', km.sc 3]; exact g2
  · rw [cX', km.sc 5]; exact g4
  · rw [cF', km.sc 7]; exact g5
  · rw [RA_iff, km.arr 9, cT']; exact hr
  · rw [cT', cO', km.arr 6, km.arr 7, km.arr 8]
    exact fun t ht => ⟨(gv1 t ht).1, (gv1 t ht).2.1, (gv1 t ht).2.2.1, (e5 t ht).2⟩
  · rw [cO', km.arr 3, km.arr 2, km.sc 0]; exact gv2
  · rw [km.sc 0]; exact gv3
  · rw [km.sc 6, km.sc 0]; exact gv4
theorem RVa.own {F M : Bl} {p : Int32} (hv : RVa F M.2.1 p) {i : Nat} (hi : i < cT M.2.1) : F.2.1 12 i = M.2.1 5 i ∧ isK (cO M.2.1) (M.2.1 5 i) = true := ⟨hv.1.owner hi, (hv.2.1.2.2.1 i hi).2.2.2⟩
section B
variable {x : Nat → Bl} {M : Bl} {v v1 v2 v3 : Int32}
/-- rope k binds the two -/
def bdP (a : Ar) (v1 v2 : Int32) (k : Nat) : Bool := (decide (a 11 k = v1) && decide (a 12 k = v2)) || (decide (a 11 k = v2) && decide (a 12 k = v1))
theorem f3_isBound_eq (g : GC M.2.1) : f3_isBound M v1 v2 = some (b2 (decide (fsN (bdP M.2.1 v1 v2) (cR M.2.1) < cR M.2.1))) := by
  obtain ⟨hR, h12⟩ := g.2.2.1
  have hs := fsN_spec (bdP M.2.1 v1 v2) (cR M.2.1)
  have hl := fsN_le (bdP M.2.1 v1 v2) (cR M.2.1)
  unfold f3_isBound
  refine loop_seq (fun k => Int32.ofNat k) (fsN (bdP M.2.1 v1 v2) (cR M.2.1)) (by omega) ?_ ?_
  · intro K k hk
    have hp := hs.1 k hk
    unfold bdP at hp
    simp only [Bool.or_eq_false_iff, Bool.and_eq_false_iff, decide_eq_false_iff_not] at hp
    simp only [g3_isBound_2, g3_isBound_32]
    have hin : inB (Int32.ofNat k) 12 = true := zI_in (by omega) (by decide)
    have hkk : (Int32.ofNat k).toNatClampNeg = k := zI_nat (by omega)
    rw [hR, if_on (by omega) (by omega)]
    simp only [hin, hkk, chk_t, zI_succ]
    obtain ⟨p1, p2⟩ := hp
    rcases p1 with p1 | p1
    · rw [if_neg p1]
      rcases p2 with p2 | p2
      · rw [if_neg p2]
      · by_cases q : M.2.1 11 k = v2
        · rw [if_pos q, if_neg p2]
        · rw [if_neg q]
    · rw [if_neg p1]
      rcases p2 with p2 | p2
      · rw [if_neg p2, ite_self]
      · rw [if_neg p2, ite_self, ite_self]
  · intro K
    simp only [g3_isBound_2, g3_isBound_32]
    by_cases hc : fsN (bdP M.2.1 v1 v2) (cR M.2.1) < cR M.2.1
    · have hp := hs.2 hc
      have hin : inB (Int32.ofNat (fsN (bdP M.2.1 v1 v2) (cR M.2.1))) 12 = true := zI_in (by omega) (by decide)
      have hkk : (Int32.ofNat (fsN (bdP M.2.1 v1 v2) (cR M.2.1))).toNatClampNeg = fsN (bdP M.2.1 v1 v2) (cR M.2.1) := zI_nat (by omega)
      rw [hR, if_on hc (by omega), decide_eq_true hc]
      simp only [hin, hkk, chk_t]
      simp only [bdP, Bool.or_eq_true, Bool.and_eq_true, decide_eq_true_eq] at hp
      by_cases q : M.2.1 11 (fsN (bdP M.2.1 v1 v2) (cR M.2.1)) = v1 ∧ M.2.1 12 (fsN (bdP M.2.1 v1 v2) (cR M.2.1)) = v2
      · rw [if_pos q.1, if_pos q.2]; rfl
      · rcases hp with hp | hp
        · exact absurd hp q
        · rw [if_pos hp.1, if_pos hp.2]
          by_cases q1 : M.2.1 11 (fsN (bdP M.2.1 v1 v2) (cR M.2.1)) = v1
          · rw [if_pos q1, if_neg (fun z => q ⟨q1, z⟩)]; rfl
          · rw [if_neg q1]; rfl
    · rw [show fsN (bdP M.2.1 v1 v2) (cR M.2.1) = cR M.2.1 by omega, hR, if_off, decide_eq_false (by omega)]; rfl
theorem bdP_ord {a : Ar} {i j k : Nat} (hr : RA a) (hi : i < 8) (hj : j < 8) (hij : i ≠ j) (hk : k < cR a) : bdP a (Int32.ofNat i) (Int32.ofNat j) k = (decide (a 11 k = (if Int32.ofNat j < Int32.ofNat i then Int32.ofNat j else Int32.ofNat i)) && decide (a 12 k = (if Int32.ofNat i < Int32.ofNat j then Int32.ofNat j else Int32.ofNat i))) := by
  obtain ⟨⟨a1, a2⟩, b1, b2⟩ := hr.1 k hk
  have hlt := (hr.2 k hk).1
  unfold bdP
  rw [a1, b1, zif_lt (by omega) (by omega), zif_lt (by omega) (by omega)]
  by_cases hc : i < j
  · rw [if_pos hc, if_neg (show ¬ j < i by omega)]
    have : (decide (Int32.ofNat (eA a k) = Int32.ofNat j) && decide (Int32.ofNat (eB a k) = Int32.ofNat i)) = false := by
      simp only [Bool.and_eq_false_iff, decide_eq_false_iff_not]
      rw [zI_inj (by omega) (by omega), zI_inj (by omega) (by omega)]; omega
    rw [this, Bool.or_false]
  · rw [if_neg hc, if_pos (show j < i by omega)]
    have : (decide (Int32.ofNat (eA a k) = Int32.ofNat i) && decide (Int32.ofNat (eB a k) = Int32.ofNat j)) = false := by
      simp only [Bool.and_eq_false_iff, decide_eq_false_iff_not]
      rw [zI_inj (by omega) (by omega), zI_inj (by omega) (by omega)]; omega
    rw [this, Bool.false_or]
theorem f1_ropeOf_eq {F : Bl} {a : Ar} {i j : Nat} (g : GC a) (hr : RA a) (h : FR F a) (hi : i < 8) (hj : j < 8) (hij : i ≠ j) : f1_ropeOf F (Int32.ofNat i) (Int32.ofNat j) = some (if fsN (bdP a (Int32.ofNat i) (Int32.ofNat j)) (cR a) < cR a then Int32.ofNat (fsN (bdP a (Int32.ofNat i) (Int32.ofNat j)) (cR a)) else -1) := by
  have h12 := g.2.2.1.2
  have hs := fsN_spec (bdP a (Int32.ofNat i) (Int32.ofNat j)) (cR a)
  have hl := fsN_le (bdP a (Int32.ofNat i) (Int32.ofNat j)) (cR a)
  unfold f1_ropeOf
  refine loop_seq (fun k => Int32.ofNat k) (fsN (bdP a (Int32.ofNat i) (Int32.ofNat j)) (cR a)) (by omega) ?_ ?_
  · intro K k hk
    have hp := hs.1 k hk
    rw [bdP_ord hr hi hj hij (by omega)] at hp
    simp only [Bool.and_eq_false_iff, decide_eq_false_iff_not] at hp
    simp only [g1_ropeOf_2]
    have hin : inB (Int32.ofNat k) 12 = true := zI_in (by omega) (by decide)
    have hkk : (Int32.ofNat k).toNatClampNeg = k := zI_nat (by omega)
    rw [h.nR g, if_on (by omega) (by omega), hin, chk_t, chk_t, hkk, h.ropeA (by omega), h.ropeB (by omega), zI_succ]
    rcases hp with hp | hp
    · rw [if_neg hp]
    · rw [if_neg hp, ite_self]
  · intro K
    simp only [g1_ropeOf_2]
    by_cases hc : fsN (bdP a (Int32.ofNat i) (Int32.ofNat j)) (cR a) < cR a
    · have hp := hs.2 hc
      rw [bdP_ord hr hi hj hij hc] at hp
      simp only [Bool.and_eq_true, decide_eq_true_eq] at hp
      have hin : inB (Int32.ofNat (fsN (bdP a (Int32.ofNat i) (Int32.ofNat j)) (cR a))) 12 = true := zI_in (by omega) (by decide)
      have hkk : (Int32.ofNat (fsN (bdP a (Int32.ofNat i) (Int32.ofNat j)) (cR a))).toNatClampNeg = fsN (bdP a (Int32.ofNat i) (Int32.ofNat j)) (cR a) := zI_nat (by omega)
      rw [h.nR g, if_on hc (by omega), hin, chk_t, chk_t, hkk, h.ropeA hc, h.ropeB hc, if_pos hp.1, if_pos hp.2, if_pos hc]
    · rw [if_neg hc, show fsN (bdP a (Int32.ofNat i) (Int32.ofNat j)) (cR a) = cR a by omega, h.nR g, if_off]
def loI (i j : Nat) : Nat := if i < j then i else j
def hiI (i j : Nat) : Nat := if i < j then j else i
theorem f1_binds_eq {F : Bl} {n i j : Nat} (hi : i < 8) (hj : j < 8) (hn : F.1 5 = Int32.ofNat n) (h12 : n < 12) : f1_binds F (Int32.ofNat i) (Int32.ofNat j) v = some (bI (bA (bA (bA F 18 n (Int32.ofNat (loI i j))) 19 n (Int32.ofNat (hiI i j))) 20 n v) 5 (Int32.ofNat (n + 1))) := by
  have hin : inB (Int32.ofNat n) 12 = true := zI_in (by omega) (by decide)
  have hkk : (Int32.ofNat n).toNatClampNeg = n := zI_nat (by omega)
  have hlo : (if Int32.ofNat j < Int32.ofNat i then Int32.ofNat j else Int32.ofNat i) = Int32.ofNat (loI i j) := by
    rw [zif_lt (by omega) (by omega)]; unfold loI
    by_cases hc : i < j
    · rw [if_pos hc, if_neg (by omega)]
    · rw [if_neg hc]
      by_cases hd : j < i
      · rw [if_pos hd]
      · rw [if_neg hd, show i = j by omega]
  have hhi : (if Int32.ofNat i < Int32.ofNat j then Int32.ofNat j else Int32.ofNat i) = Int32.ofNat (hiI i j) := by
    rw [zif_lt (by omega) (by omega)]; unfold hiI
    by_cases hc : i < j
    · rw [if_pos hc, if_pos hc]
    · rw [if_neg hc, if_neg hc]
  unfold f1_binds
  have e5 : ∀ (s : Bl) (k m : Nat) (u : Int32), (bA s k m u).1 5 = s.1 5 := fun _ _ _ _ => rfl
  rw [hlo, hhi]
  simp only [e5, hn, hin, hkk, chk_t, ltv_s, zI_succ]
theorem f3_binds_eq {n i j : Nat} (hi : i < 8) (hj : j < 8) (hn : M.2.1 1 4 = Int32.ofNat n) (h12 : n < 12) : f3_binds M (Int32.ofNat i) (Int32.ofNat j) v = some (Int32.ofNat n, bA (bA (bA (bA (bA M 11 n (Int32.ofNat (loI i j))) 12 n (Int32.ofNat (hiI i j))) 13 n v) 1 1 (M.2.1 1 1 - v)) 1 4 (Int32.ofNat (n + 1))) := by
  have hin : inB (Int32.ofNat n) 12 = true := zI_in (by omega) (by decide)
  have hkk : (Int32.ofNat n).toNatClampNeg = n := zI_nat (by omega)
  unfold f3_binds
  rw [hn]
  simp only [hin, hkk, chk_t, g3_binds_41, ltv_s]
  have hz : Int32.ofNat j ≤ Int32.ofNat i ↔ j ≤ i := by rw [zI_le (by omega) (by omega)]
  have e1 : ∀ (u w : Int32), (bA (bA (bA (bA M 11 n u) 12 n w) 13 n v) 1 1 (M.2.1 1 1 - v)).2.1 1 4 + (1 : Int32) = Int32.ofNat (n + 1) := fun u w => by
    rw [← zI_succ, ← hn]; simp [bA, bS, upd]
  have e2 : ∀ (u w : Int32), (bA (bA (bA M 11 n u) 12 n w) 13 n v).2.1 1 1 = M.2.1 1 1 := fun u w => by simp [bA, bS]
  by_cases hc : i < j
  · have hz2 : ¬ Int32.ofNat j ≤ Int32.ofNat i := fun z => by have := hz.mp z; omega
    rw [if_neg hz2, if_neg hz2, e2, e1]
    unfold loI hiI; rw [if_pos hc, if_pos hc]
  · have hz2 : Int32.ofNat j ≤ Int32.ofNat i := hz.mpr (by omega)
    rw [if_pos hz2, if_pos hz2, e2, e1]
    unfold loI hiI; rw [if_neg hc, if_neg hc]
end B

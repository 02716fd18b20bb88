/-! PLAIN LAW: images; seed, end, feed, offer -/
set_option maxRecDepth 100000
/-- what an operation owes: the same answer, the relation -/
def Op (o0 : Option (Int32 × (Nat → Bl))) (o3 : Option (Int32 × Bl)) : Prop := ∃ (r : Int32) (x' : Nat → Bl) (M' : Bl), o0 = some (r, x') ∧ o3 = some (r, M') ∧ RL x' M'
theorem Sim.op {x : Nat → Bl} {M : Bl} {o0 : Option (Int32 × (Nat → Bl))} {o3 : Option (Int32 × Bl)} (h : Sim x M o0 o3) : Op o0 o3 := by
  obtain ⟨r, x', M', e1, e2, e3, -⟩ := h; exact ⟨r, x', M', e1, e2, e3⟩
theorem RL.rest {x x' : Nat → Bl} {M M' : Bl} (h : RL x M) (k0 : ∀ f, f ∈ [8, 13] → (x' 0).1 f = (x 0).1 f) (ka : ∀ f, f ∈ [7, 12] → (x' 0).2.1 f = (x 0).2.1 f) (k4 : x' 4 = x 4) (mi : ∀ f, f ∈ [31, 35, 40] → M'.1 f = M.1 f) (ma : M'.2.1 41 = M.2.1 41) (md : (x' 0).1 5 = M'.2.1 1 8 ∧ 0 ≤ (M'.2.1 1 8).toInt) (hv : RV x' M') (hi : RI x' M') : RL x' M' := by
  obtain ⟨-, -, ⟨T, t1, t2, t3, t4⟩, ⟨R, r1, r2, r3, r4⟩, -, h6, h7⟩ := h
  refine ⟨hv, hi, ⟨T, t1, by rw [k0 8 (by decide)]; exact t2, by rw [mi 31 (by decide)]; exact t3, by rw [ka 7 (by decide), ma]; exact t4⟩, ⟨R, r1, by rw [k0 13 (by decide)]; exact r2, by rw [mi 35 (by decide)]; exact r3, by rw [ka 12 (by decide)]; exact r4⟩, md, ?_, ?_⟩
  · rw [k4]; exact h6
  · rw [mi 40 (by decide)]; exact h7
/-- image j stays -/
def RIj (x : Nat → Bl) (M : Bl) (k : Nat) : Prop := ((x 0).2.1 28 k = 0 ∧ M.2.1 70 k = 0) ∨ (¬ (x 0).2.1 28 k = 0 ∧ ¬ M.2.1 70 k = 0 ∧ ((x (9 + k)).1 2 = imA M.2.1 k 1 8 ∧ 0 ≤ ((x (9 + k)).1 2).toInt) ∧ (((x (9 + k)).1 1 = 0 ∧ NR (imA M.2.1 k) (imP M.2.1 k)) ∨ (¬ (x (9 + k)).1 1 = 0 ∧ RVa (x (5 + k)) (imA M.2.1 k) (imP M.2.1 k))))
theorem RIj.same {x x' : Nat → Bl} {M M' : Bl} {k : Nat} (h : RIj x M k) (e28 : (x' 0).2.1 28 k = (x 0).2.1 28 k) (e70 : M'.2.1 70 k = M.2.1 70 k) (e9 : x' (9 + k) = x (9 + k)) (e5 : x' (5 + k) = x (5 + k)) (e69 : ∀ i, i < 1900 → M'.2.1 69 (1900 * k + i) = M.2.1 69 (1900 * k + i)) : RIj x' M' k := by
  have k2 : ∀ f i, imO f + i < 1900 → imA M'.2.1 k f i = imA M.2.1 k f i := fun f i hi => by
    unfold imA; rw [Nat.add_assoc]; exact e69 _ hi
  have hag : AG (imA M'.2.1 k) (imA M.2.1 k) := ⟨fun i hi => k2 1 i (by show 1 + i < 1900; omega), fun i hi => ⟨k2 2 i (by show 10 + i < 1900; omega), k2 3 i (by show 16 + i < 1900; omega), k2 4 i (by show 22 + i < 1900; omega), k2 14 i (by show 112 + i < 1900; omega), k2 15 i (by show 118 + i < 1900; omega), k2 16 i (by show 124 + i < 1900; omega), k2 17 i (by show 130 + i < 1900; omega), k2 18 i (by show 136 + i < 1900; omega)⟩, fun i hi => ⟨k2 5 i (by show 28 + i < 1900; omega), k2 6 i (by show 36 + i < 1900; omega), k2 7 i (by show 44 + i < 1900; omega), k2 8 i (by show 52 + i < 1900; omega), k2 9 i (by show 60 + i < 1900; omega), k2 10 i (by show 68 + i < 1900; omega)⟩, fun i hi => ⟨k2 11 i (by show 76 + i < 1900; omega), k2 12 i (by show 88 + i < 1900; omega), k2 13 i (by show 100 + i < 1900; omega)⟩⟩
  have h53 : ∀ y, y < 1540 → imA M'.2.1 k 53 y = imA M.2.1 k 53 y := fun y hy => k2 53 y (by show 142 + y < 1900; omega)
  have hp : imP M'.2.1 k = imP M.2.1 k := by unfold imP; exact e69 0 (by omega)
  unfold RIj
  rw [e28, e70, e9, e5]
  rcases h with g | ⟨g1, g2, ⟨g3, g4⟩, g5⟩
  · exact Or.inl g
  · refine Or.inr ⟨g1, g2, ⟨by rw [hag.1 8 (by omega)]; exact g3, g4⟩, ?_⟩
    rcases g5 with ⟨g5, g6⟩ | ⟨g5, g6⟩
    · exact Or.inl ⟨g5, g6.congr hag hp⟩
    · exact Or.inr ⟨g5, g6.congr hag h53 hp⟩
section I
variable {x : Nat → Bl} {M : Bl} {v v1 v2 v3 v4 v5 : Int32}
theorem k3_case (hc : (decide (0 ≤ v1) && decide (v1 ≤ 3)) = true) : ∃ k, k < 4 ∧ v1 = Int32.ofNat k := by
  rw [Bool.and_eq_true, decide_eq_true_eq, decide_eq_true_eq] at hc
  obtain ⟨n, e, hn, -⟩ := nn_le hc.1 hc.2
  have z : (3 : Int32).toInt = 3 := rfl
  exact ⟨n, by omega, e⟩
theorem imMk_ne {k j : Nat} (h0 : j ≠ 0) (h5 : j ≠ 5 + k) (h9 : j ≠ 9 + k) : imMk k x j = x j := by
  unfold imMk imN
  by_cases c : (x 0).2.1 28 k = 0
  · rw [if_pos c, upX_ne h0, upX_ne h9, upX_ne h5]
  · rw [if_neg c]
theorem imMk_0 {k : Nat} : (imMk k x 0).1 = (x 0).1 ∧ (∀ f, f ≠ 28 → (imMk k x 0).2.1 f = (x 0).2.1 f) ∧ (¬ (imMk k x 0).2.1 28 k = 0) ∧ ∀ j, j ≠ k → (imMk k x 0).2.1 28 j = (x 0).2.1 28 j := by
  unfold imMk
  by_cases c : (x 0).2.1 28 k = 0
  · rw [if_pos c, upX_self, imN0]
    refine ⟨rfl, fun f hf => by simp [bA, bS, hf], by simp [bA, bS, upd], fun j hj => by simp [bA, bS, upd, hj]⟩
  · rw [if_neg c]; exact ⟨rfl, fun _ _ => rfl, c, fun _ _ => rfl⟩
theorem image_sim (h : RL x M) : Op (f0_image x v1) (f3_image M v1) := by
  unfold f0_image f3_image
  have e0 := f0_in32 v1 0 3
  have e3 := f3_in32 v1 0 3
  change f0_in v1.toInt64 (0 : Int64) (3 : Int64) = _ at e0
  change f3_in v1.toInt64 (0 : Int64) (3 : Int64) = _ at e3
  rw [e0, e3, bnd_s, bnd_s, if_bit, if_bit]
  cases hc : (decide (0 ≤ v1) && decide (v1 ≤ 3)) with
  | false => exact ⟨_, x, M, rfl, rfl, h⟩
  | true =>
    obtain ⟨k, hk, rfl⟩ := k3_case hc
    simp only [if_true]
    have hin : inB (Int32.ofNat k) 4 = true := zI_in (by omega) (by decide)
    have hkk : (Int32.ofNat k).toNatClampNeg = k := zI_nat (by omega)
    rw [hin, chk_t, hkk]
    obtain ⟨M', c1, c2⟩ := f3_carriesAll_lay (M := bA M 70 k (vp_nar .boolean (1 : Int32))) (k := k) (by omega)
    have hag0 := LC_AG c2
    obtain ⟨kf, h55, -, -, -, hout, -⟩ := c2
    have eM : ∀ f, f ≠ 70 → (bA M 70 k (vp_nar .boolean (1 : Int32))).2.1 f = M.2.1 f := fun f hf => by simp [bA, bS, hf]
    have kf2 : Ff [70, 54, 69] [55, 71, 72] M M' := (Ff.ba.trans kf).weak
    have e55 : M'.1 55 = M.1 55 := h55
    have hag1 : AG M'.2.1 M.2.1 := AG_Ff kf2 (by simp; omega)
    have hag2 : AG (imA M'.2.1 k) M.2.1 := hag0.1.trans (AG_Ff (M := M) (M' := bA M 70 k (vp_nar .boolean (1 : Int32))) Ff.ba (by simp; omega))
    have hi53 : ∀ i, i < 1540 → imA M'.2.1 k 53 i = M.2.1 53 i := fun i hi => by rw [hag0.2.1 i hi, eM 53 (by decide)]
    have hip : imP M'.2.1 k = M.1 55 := hag0.2.2
    have m70k : ¬ M'.2.1 70 k = 0 := by
      rw [kf.arr 70]; simp [bA, bS, upd]; decide
    have m70j : ∀ j, j ≠ k → M'.2.1 70 j = M.2.1 70 j := fun j hj => by
      rw [kf.arr 70]; simp [bA, bS, upd, hj]
    have hout2 : ∀ j, j < 4 → j ≠ k → ∀ i, i < 1900 → M'.2.1 69 (1900 * j + i) = M.2.1 69 (1900 * j + i) := fun j hj hne i hi => by
      rw [hout _ (by omega), eM 69 (by decide)]
    rw [c1, bnd_s]
    obtain ⟨i1, i2, i3, i4⟩ := imMk_0 (x := x) (k := k)
    have hd := h.2.2.2.2.1
    unfold f0_im imX
    rw [ltv_s]
    -- the new state
    generalize hX : upX (imSt k (imMk k x)) (9 + k) (bI (imSt k (imMk k x) (9 + k)) 2 ((imSt k (imMk k x) 0).1 5)) = X
    have st0 : imSt k (imMk k x) 0 = imMk k x 0 := by unfold imSt; exact upX_ne (by omega)
    have X0 : X 0 = imMk k x 0 := by rw [← hX, upX_ne (by omega), st0]
    have Xo : ∀ j, j ≠ 0 → j ≠ 5 + k → j ≠ 9 + k → X j = x j := fun j a0 a5 a9 => by
      rw [← hX, upX_ne a9]; unfold imSt; rw [upX_ne a9, imMk_ne a0 a5 a9]
    have X92 : (X (9 + k)).1 2 = (x 0).1 5 := by rw [← hX, upX_self, bI_v, st0, i1]
    have X91 : (X (9 + k)).1 1 = if (x 0).1 0 = 0 then 0 else 1 := by
      rw [← hX, upX_self]
      show (imSt k (imMk k x) (9 + k)).1 1 = _
      unfold imSt; rw [upX_self, bI_v, i1]
    rw [X0, i1]
    have hRI : ∀ X' : Nat → Bl, (∀ j, j ≠ 5 + k → X' j = X j) → ∀ j, j < 4 → j ≠ k → RIj X' M' j := fun X' hX' j hj hne => by
      refine RIj.same (h.2.1 j hj) ?_ (m70j j hne) ?_ ?_ (hout2 j hj hne)
      · rw [hX' 0 (by omega), X0]; exact i4 j hne
      · rw [hX' _ (by omega), Xo _ (by omega) (by omega) (by omega)]
      · rw [hX' _ (by omega), Xo _ (by omega) (by omega) (by omega)]
    have hrest : ∀ X' : Nat → Bl, (∀ j, j ≠ 5 + k → X' j = X j) → RIj X' M' k → RL X' M' := fun X' hX' hI => by
      refine h.rest (fun f _ => by rw [hX' 0 (by omega), X0, i1]) (fun f hf => by
        rw [hX' 0 (by omega), X0]; exact i2 f (by intro e; subst e; revert hf; decide)) (by rw [hX' 4 (by omega), Xo 4 (by omega) (by omega) (by omega)]) (fun f hf => kf2.fld f (by revert hf; simp only [List.mem_cons, List.not_mem_nil, or_false]; omega)) (kf2.arr 41) ?_ ?_ ?_
      · rw [hX' 0 (by omega), X0, i1, hag1.1 8 (by omega)]; exact hd
      · have e1 : X' 1 = x 1 := by rw [hX' 1 (by omega), Xo 1 (by omega) (by omega) (by omega)]
        have e0 : (X' 0).1 = (x 0).1 := by rw [hX' 0 (by omega), X0, i1]
        unfold RV
        rw [e0, e1, e55]
        rcases h.1 with ⟨hz, hn⟩ | ⟨hz, hv⟩
        · exact Or.inl ⟨hz, hn.congr hag1 rfl⟩
        · exact Or.inr ⟨hz, hv.congr hag1 (fun i _ => by rw [kf2.arr 53]) rfl⟩
      · intro j hj
        by_cases e : j = k
        · subst e; exact hI
        · exact hRI X' hX' j hj e
    rcases h.1 with ⟨hz, hn⟩ | ⟨hz, hv⟩
    · rw [if_pos hz]
      refine ⟨0, X, M', rfl, by rw [hag1.1 6 (by omega), hn.1 6 (by omega)], hrest X (fun _ _ => rfl) (Or.inr ⟨by rw [X0]; exact i3, m70k, ⟨?_, ?_⟩, Or.inl ⟨?_, ?_⟩⟩)⟩
      · rw [X92, hag2.1 8 (by omega)]; exact hd.1
      · rw [X92, hd.1]; exact hd.2
      · rw [X91, if_pos hz]
      · rw [hip]; exact hn.congr hag2 rfl
    · rw [if_neg hz, f1_copies_def, bnd_s]
      have e1 : X 1 = x 1 := Xo 1 (by omega) (by omega) (by omega)
      have u1 : ∀ w, (upX X (5 + k) w) 1 = x 1 := fun w => by rw [upX_ne (by omega), e1]
      refine ⟨M.2.1 1 6, _, M', by rw [u1, hv.1.now], by rw [hag1.1 6 (by omega)], hrest (upX X (5 + k) (cpsF (X (5 + k)) (X 1))) (fun j hj => upX_ne hj) (Or.inr ⟨?_, m70k, ⟨?_, ?_⟩, Or.inr ⟨?_, ?_⟩⟩)⟩
      · rw [upX_ne (by omega), X0]; exact i3
      · rw [upX_ne (by omega), X92, hag2.1 8 (by omega)]; exact hd.1
      · rw [upX_ne (by omega), X92, hd.1]; exact hd.2
      · rw [upX_ne (by omega), X91, if_neg hz]; decide
      · rw [upX_self, e1, hip]; exact hv.cps.congr hag2 hi53 rfl
theorem back_sim (h : RL x M) : Op (f0_back x v1) (f3_back M v1) := by
  unfold f0_back f3_back
  have e0 := f0_in32 v1 0 3
  have e3 := f3_in32 v1 0 3
  change f0_in v1.toInt64 (0 : Int64) (3 : Int64) = _ at e0
  change f3_in v1.toInt64 (0 : Int64) (3 : Int64) = _ at e3
  rw [e0, e3, bnd_s, bnd_s, if_bit, if_bit]
  cases hc : (decide (0 ≤ v1) && decide (v1 ≤ 3)) with
  | false => exact ⟨_, x, M, rfl, rfl, h⟩
  | true =>
    obtain ⟨k, hk, rfl⟩ := k3_case hc
    simp only [if_true]
    have hin : inB (Int32.ofNat k) 4 = true := zI_in (by omega) (by decide)
    have hkk : (Int32.ofNat k).toNatClampNeg = k := zI_nat (by omega)
    rw [hin, chk_t, hkk]
    rcases h.2.1 k hk with ⟨g1, g2⟩ | ⟨g1, g2, ⟨g3, g4⟩, g5⟩
    · rw [if_pos g1, if_pos g2]; exact ⟨_, x, M, rfl, rfl, h⟩
    · rw [if_neg g1, if_neg g2]
      obtain ⟨M', c1, c2⟩ := f3_carriesAll_take (M := M) (k := k) (by omega)
      have hag := TC_AG c2
      obtain ⟨kf, h55, -⟩ := c2
      rw [c1, bnd_s]
      have hrest : ∀ X' : Nat → Bl, (∀ f, f ∈ [8, 13] → (X' 0).1 f = (x 0).1 f) → (X' 0).2.1 = (x 0).2.1 → (∀ j, 2 ≤ j → X' j = x j) → (X' 0).1 5 = (x (9 + k)).1 2 → RV X' M' → RL X' M' := fun X' h1 h2 h3 h4 h5 => by
        refine h.rest h1 (fun f _ => by rw [h2]) (h3 4 (by omega)) (fun f hf => kf.fld f (by revert hf; simp only [List.mem_cons, List.not_mem_nil, or_false]; omega)) (kf.arr 41) ?_ h5 ?_
        · rw [h4, hag.1.1 8 (by omega), ← g3]; exact ⟨rfl, g4⟩
        · intro j hj
          exact RIj.same (h.2.1 j hj) (by rw [h2]) (by rw [kf.arr 70]) (h3 _ (by omega)) (h3 _ (by omega)) (fun i _ => by rw [kf.arr 69])
      unfold f0_bk
      rcases g5 with ⟨g5, g6⟩ | ⟨g5, g6⟩
      · rw [if_pos g5, ltv_s]
        refine ⟨0, _, M', rfl, by rw [hag.1.1 6 (by omega), g6.1 6 (by omega)], hrest _ ?_ ?_ ?_ ?_ (Or.inl ⟨?_, ?_⟩)⟩
        · intro f hf
          simp only [List.mem_cons, List.not_mem_nil, or_false] at hf
          rw [upX_self, upX_self]
          rcases hf with rfl | rfl <;> simp [bI]
        · rw [upX_self, upX_self]; rfl
        · intro j hj; rw [upX_ne (by omega), upX_ne (by omega)]
        · rw [upX_self, bI_v, upX_ne (by omega)]
        · rw [upX_self, upX_self]; simp [bI]
        · rw [h55]; exact g6.congr hag.1 rfl
      · rw [if_neg g5, f1_copies_def, bnd_s, ltv_s, ltv_s]
        refine ⟨_, _, M', rfl, ?_, hrest _ ?_ ?_ ?_ ?_ (Or.inr ⟨?_, ?_⟩)⟩
        · rw [upX_ne (by decide), upX_ne (by decide), upX_self, (g6.cps (s := x 1)).1.now, hag.1.1 6 (by omega)]
        · intro f hf
          simp only [List.mem_cons, List.not_mem_nil, or_false] at hf
          rw [upX_self, upX_self, upX_ne (by decide)]
          rcases hf with rfl | rfl <;> simp [bI]
        · rw [upX_self, upX_self, upX_ne (by decide)]; rfl
        · intro j hj; rw [upX_ne (by omega), upX_ne (by omega), upX_ne (by omega)]
        · rw [upX_self, bI_v, upX_ne (by omega), upX_ne (by omega)]
        · rw [upX_self, upX_self]; simp [bI]
        · rw [upX_ne (by decide), upX_ne (by decide), upX_self, h55]; exact g6.cps.congr hag.1 hag.2 rfl
end I

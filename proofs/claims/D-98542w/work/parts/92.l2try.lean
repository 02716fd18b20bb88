/-! PLAIN LAW: trials in the spare flow: ahead, sinks -/
set_option maxRecDepth 100000
theorem Sim.ofBo {x : Nat → Bl} {M : Bl} {o0 : Option (Int32 × (Nat → Bl))} {o3 : Option (Int32 × Bl)} (h : Bo (fun a b => a.1 = b.1 ∧ RL a.2 b.2 ∧ Kx x a.2 ∧ Km M b.2) o0 o3) : Sim x M o0 o3 := by
  obtain ⟨⟨r, x'⟩, ⟨r', M'⟩, e1, e2, e3, e4, e5, e6⟩ := h
  dsimp only at e3
  subst e3
  exact ⟨r, x', M', e1, e2, e4, e5, e6⟩
/-- a flow's copy -/
theorem FC.cps {s t : Bl} {a : Ar} (g : GC a) (h : FC t a) : FC (cpsF s t) a := by
  obtain ⟨q1, q2, q3, q4, q5, q6⟩ := cpsF_eq s t
  obtain ⟨c1, c2, c3, c4, c5, c6, c7⟩ := h
  have h6 := g.1.2
  have h8 := g.2.1.2
  have hX := g.2.2.2.1.2
  refine ⟨by rw [q1 0 (by decide)]; exact c1, by rw [q1 1 (by decide)]; exact c2, by rw [q1 2 (by decide)]; exact c3, by rw [q1 3 (by decide)]; exact c4, fun i hi => ?_, fun i hi => ?_, fun i hi => ?_⟩
  · obtain ⟨y1, y2, -⟩ := q2 i (by omega); rw [y1, y2]; exact c5 i hi
  · obtain ⟨-, y1, -, y2, -⟩ := q3 i (by omega); rw [y1, y2]; exact c6 i hi
  · obtain ⟨-, -, -, y1, y2⟩ := q2 i (by omega); rw [y1, y2]; exact c7 i hi
theorem MR.std {s t : Bl} {a : Ar} (g : GC a) (h : MR (cO a) (cT a) (mF t) (mM a)) : MR (cO a) (cT a) (mF (stdF s t)) (mM a) := by
  obtain ⟨q1, q2, q3, q4, q5, q6⟩ := stdF_eq s t
  obtain ⟨m1, m2, m3, m4, m5, m6⟩ := h
  have h6 := g.1.2
  have h8 := g.2.1.2
  have h12 := g.2.2.1.2
  refine ⟨q1.trans m1, q2.trans m2, q3.trans m3, fun i hi => (q4 i (by omega)).trans (m4 i hi), fun i hi => ?_, fun i hi => ?_⟩
  · obtain ⟨y1, y2, y3, y4⟩ := q5 i (by omega); rw [y1, y2, y3, y4]; exact m5 i hi
  · have hi2 : i < 12 := by have : (mM a 2 0).toNatClampNeg = cR a := rfl; omega
    obtain ⟨y1, y2, y3⟩ := q6 i hi2; rw [y1, y2, y3]; exact m6 i hi
theorem FR.cps {s t : Bl} {a : Ar} (g : GC a) (h : FR t a) : FR (cpsF s t) a := ⟨h.1.cps g, MR.std g h.2⟩
theorem FR.std {s t : Bl} {a : Ar} (g : GC a) (hc : FC s a) (h : FR t a) : FR (stdF s t) a := by
  have k := stdF_frame s t
  obtain ⟨c1, c2, c3, c4, c5, c6, c7⟩ := hc
  refine ⟨⟨?_, ?_, ?_, ?_, fun i hi => ?_, fun i hi => ?_, fun i hi => ?_⟩, MR.std g h.2⟩
  · rw [k.fld 0]; exact c1
  · rw [k.fld 1]; exact c2
  · rw [k.fld 2]; exact c3
  · rw [k.fld 3]; exact c4
  · rw [k.arr 9, k.arr 10]; exact c5 i hi
  · rw [k.arr 13, k.arr 15]; exact c6 i hi
  · rw [k.arr 21, k.arr 22]; exact c7 i hi
theorem RVa.cps {s t : Bl} {a : Ar} {p : Int32} (h : RVa t a p) : RVa (cpsF s t) a p := by
  obtain ⟨q1, q2, q3, q4, q5, q6⟩ := cpsF_eq s t
  obtain ⟨hF, hG, hO, hP⟩ := h
  have hF6 := hG.1.2.2.2.2.2
  refine ⟨hF.cps hG.1, hG, ⟨(q1 8 (by decide)).trans hO.1, fun i hi => ?_⟩, hP.congr AG.refl hG.1 (fun _ _ => rfl) rfl (q1 7 (by decide)) q6⟩
  rw [q5 _ (by omega), q5 _ (by omega), q5 _ (by omega)]
  exact hO.2 i hi
/-- M stands saved in s -/
def Sv (M s : Bl) : Prop := (AG (imA s.2.1 4) M.2.1 ∧ (∀ i, i < 1540 → imA s.2.1 4 53 i = M.2.1 53 i) ∧ imP s.2.1 4 = M.1 55) ∧ (∀ f, f ∈ [31, 35, 40] → s.1 f = M.1 f) ∧ (∀ k, k ∈ [41, 42, 43, 44, 45, 46, 47, 70] → s.2.1 k = M.2.1 k) ∧ ∀ k, k < 4 → ∀ i, i < 1900 → s.2.1 69 (1900 * k + i) = M.2.1 69 (1900 * k + i)
theorem Sv.of {M s s' : Bl} (h : Sv M s) (hf : ∀ f, f ∈ [31, 35, 40] → s'.1 f = s.1 f) (ha : ∀ k, k ∈ [41, 42, 43, 44, 45, 46, 47, 70, 69] → s'.2.1 k = s.2.1 k) : Sv M s' := by
  obtain ⟨h1, h2, h3, h4⟩ := h
  have e69 := ha 69 (by decide)
  refine ⟨?_, fun f m => (hf f m).trans (h2 f m), fun k m => (ha k (by revert m; simp only [List.mem_cons, List.not_mem_nil, or_false]; omega)).trans (h3 k m), fun k hk i hi => by rw [e69]; exact h4 k hk i hi⟩
  have e1 : imA s'.2.1 4 = imA s.2.1 4 := by funext f i; unfold imA; rw [e69]
  have e2 : imP s'.2.1 4 = imP s.2.1 4 := by unfold imP; rw [e69]
  rw [e1, e2]; exact h1
theorem Sv.fm {M s s' : Bl} {A S I : List Nat} (h : Sv M s) (k : Fm A S I s s') (hA : ∀ k, k ∈ [41, 42, 43, 44, 45, 46, 47, 70, 69] → k ∉ A := by decide) (hI : ∀ f, f ∈ [31, 35, 40] → f ∉ I := by decide) : Sv M s' :=
  h.of (fun f m => k.fld f (hI f m)) (fun j m => k.arr j (hA j m) (by intro e; subst e; revert m; decide))
theorem keepsAll_sv (M : Bl) : ∃ s : Bl, f3_keepsAll M = some s ∧ Sv M s ∧ Ff [54, 69] [55, 71, 72] M s ∧ s.1 55 = M.1 55 ∧ AG s.2.1 M.2.1 := by
  obtain ⟨s, e, h⟩ := f3_carriesAll_lay (M := M) (k := 4) (by omega)
  have hag := LC_AG h
  obtain ⟨kf, h55, -, -, -, hout, -⟩ := h
  refine ⟨s, ?_, ⟨hag, fun f m => kf.fld f (by revert m; simp only [List.mem_cons, List.not_mem_nil, or_false]; omega), fun k m => kf.arr k (by revert m; simp only [List.mem_cons, List.not_mem_nil, or_false]; omega), fun k hk i hi => hout _ (Or.inl (by omega))⟩, kf, h55, AG_Ff kf (by simp; omega)⟩
  unfold f3_keepsAll
  have e2 : f3_carriesAll M (4 : Int32) (0 : Int32) = some s := e
  rw [e2, bnd_s]
theorem Sv.back {M s : Bl} (h : Sv M s) : ∃ M9 : Bl, f3_laysBack s = some M9 ∧ AG M9.2.1 M.2.1 ∧ (∀ i, i < 1540 → M9.2.1 53 i = M.2.1 53 i) ∧ M9.1 55 = M.1 55 ∧ Km M M9 ∧ Sv M M9 := by
  obtain ⟨M9, e, t⟩ := f3_carriesAll_take (M := s) (k := 4) (by omega)
  have hag := TC_AG t
  obtain ⟨kf, h55, -⟩ := t
  have hs : Sv M M9 := h.of (fun f m => kf.fld f (by revert m; simp only [List.mem_cons, List.not_mem_nil, or_false]; omega)) (fun k m => kf.arr k (by revert m; simp only [List.mem_cons, List.not_mem_nil, or_false]; omega))
  obtain ⟨h1, h2, h3, h4⟩ := h
  have hA := hag.1.trans h1.1
  refine ⟨M9, ?_, hA, fun i hi => (hag.2 i hi).trans (h1.2.1 i hi), h55.trans h1.2.2, ⟨hs.2.1, hs.2.2.1, fun k hk i => ?_, hA.1 8 (by omega)⟩, hs⟩
  · unfold f3_laysBack
    have e2 : f3_carriesAll s (4 : Int32) (1 : Int32) = some M9 := e
    rw [e2, bnd_s]
  · by_cases hi : i < 1900
    · exact Or.inl (hs.2.2.2 k hk i hi)
    · exact Or.inr (by omega)
section T
variable {x : Nat → Bl} {M : Bl} {v v1 v2 v3 : Int32}
/-- a trial ends -/
theorem RL.back (h : RL x M) (hz : ¬ (x 0).1 0 = 0) (hv : RVa (x 1) M.2.1 (M.1 55)) {s : Bl} {x' : Nat → Bl} (hs : Sv M s) (kx : Kx x x') (k1 : x' 1 = x 1) : ∃ M9 : Bl, f3_laysBack s = some M9 ∧ RL x' M9 ∧ Km M M9 ∧ AG M9.2.1 M.2.1 ∧ Sv M M9 := by
  obtain ⟨M9, e, h1, h2, h3, h4, h5⟩ := hs.back
  refine ⟨M9, e, h.keep kx h4 (Or.inr ⟨by rw [kx.1 0 (by decide)]; exact hz, ?_⟩), h4, h1, h5⟩
  rw [k1, h3]
  exact hv.congr h1 h2 rfl
/-- a trial's flow -/
def Tri (x : Nat → Bl) (M : Bl) (x' : Nat → Bl) (s : Bl) : Prop := Kx x x' ∧ x' 1 = x 1 ∧ FR (x' 2) s.2.1 ∧ GR s.2.1 ∧ Sv M s ∧ cO s.2.1 = cO M.2.1 ∧ cT s.2.1 = cT M.2.1 ∧ s.2.1 1 0 = M.2.1 1 0
theorem Tri.go {x' : Nat → Bl} {s : Bl} (t : Tri x M x' s) (hn : (s.2.1 1 6).toInt < (s.2.1 1 0).toInt) : ∃ (r : Int32) (F' s' : Bl), f1_goesOn (x' 2) = some (r, F') ∧ f3_goesMile s = some (r, s') ∧ Tri x M (upX x' 2 F') s' ∧ s'.2.1 1 6 = s.2.1 1 6 + 1 := by
  obtain ⟨t1, t2, t3, t4, t5, t6, t7, t8⟩ := t
  obtain ⟨r, F', s', e1, e2, e3, e4, e5, e6, e7⟩ := goesOn_sim t4 t3 hn
  exact ⟨r, F', s', e1, e2, ⟨t1.trans Kx.up2, by rw [upX_ne (by decide)]; exact t2, by rw [upX_self]; exact e3, e4, t5.fm e6, e6.eO.trans t6, e6.eT.trans t7, (e6.sc 0).trans t8⟩, e7⟩
theorem Tri.start (hv : RVa (x 1) M.2.1 (M.1 55)) : ∃ s : Bl, f3_keepsAll M = some s ∧ Tri x M (upX x 2 (cpsF (x 2) (x 1))) s ∧ s.2.1 1 6 = M.2.1 1 6 ∧ AG s.2.1 M.2.1 := by
  obtain ⟨s, e, hs, kf, h55, hag⟩ := keepsAll_sv M
  exact ⟨s, e, ⟨Kx.up2, by rw [upX_ne (by decide)], by rw [upX_self]; exact (hv.1.cps hv.2.1.1).congr hag hv.2.1.1, hv.2.1.congr hag, hs, hag.eO, hag.eT, hag.1 0 (by omega)⟩, hag.1 6 (by omega), hag⟩
theorem f0_thingsIn_eq {x' : Nat → Bl} {a : Ar} (g : GC a) (h : FR (x' 2) a) : f0_thingsIn x' v = some (mkS (cT a) (fun t => decide (a 9 t = v))) := by
  have h8 := g.2.1.2
  unfold f0_thingsIn
  refine loop_seq (fun k => (mkS k (fun t => decide (a 9 t = v)), Int32.ofNat k)) (cT a) (by omega) ?_ ?_
  · intro K k hk
    simp only [g0_thingsIn_4]
    rw [h.nT g, if_on hk (by omega), chk_h (zI_in (by omega) (by decide)), zI_nat (by omega), zI_succ, h.state hk]
    by_cases hz : a 9 k = v
    · rw [if_pos hz, mkS_yes (by omega) (by simp [hz])]
    · rw [if_neg hz, mkS_no0 (by simp [hz])]
  · intro K
    simp only [g0_thingsIn_4]
    rw [h.nT g, if_off]
theorem f3_thingsAt_eq (g : GC M.2.1) : f3_thingsAt M v = some (mkS (cT M.2.1) (fun t => decide (M.2.1 9 t = v))) := by
  obtain ⟨hT, h8⟩ := g.2.1
  unfold f3_thingsAt
  refine loop_seq (fun k => (mkS k (fun t => decide (M.2.1 9 t = v)), Int32.ofNat k)) (cT M.2.1) (by omega) ?_ ?_
  · intro K k hk
    simp only [g3_thingsAt_4]
    rw [hT, if_on hk (by omega), chk_h (zI_in (by omega) (by decide)), zI_nat (by omega), zI_succ]
    by_cases hz : M.2.1 9 k = v
    · rw [if_pos hz, mkS_yes (by omega) (by simp [hz])]
    · rw [if_neg hz, mkS_no0 (by simp [hz])]
  · intro K
    simp only [g3_thingsAt_4]
    rw [hT, if_off]
theorem ahead_owners0 {x' : Nat → Bl} {a : Ar} (g : GC a) (h : FR (x' 2) a) : loop (g0_ahead_95 x') FU ((0 : Int32), (0 : Int32)) = some (mkS (cO a) (fun t => decide (a 4 t = 2)), x') := by
  have h6 := g.1.2
  refine loop_seq (fun k => (mkS k (fun t => decide (a 4 t = 2)), Int32.ofNat k)) (cO a) (by omega) ?_ ?_
  · intro K k hk
    simp only [g0_ahead_95]
    rw [h.nO g, if_on hk (by omega), chk_h (zI_in (by omega) (by decide)), zI_nat (by omega), zI_succ, h.place hk]
    by_cases hz : a 4 k = 2
    · rw [if_pos hz, mkS_yes (by omega) (by simp [hz])]
    · rw [if_neg hz, mkS_no0 (by simp [hz])]
  · intro K
    simp only [g0_ahead_95]
    rw [h.nO g, if_off]
theorem ahead_owners3 (g : GC M.2.1) : loop (g3_ahead_75 M (3 : Int32)) FU ((0 : Int32), (0 : Int32)) = bnd (f3_laysBack M) (fun s6 => some (mkS (cO M.2.1) (fun t => decide (M.2.1 4 t = 2)), s6)) := by
  obtain ⟨hO, h6⟩ := g.1
  refine loop_seq (fun k => (mkS k (fun t => decide (M.2.1 4 t = 2)), Int32.ofNat k)) (cO M.2.1) (by omega) ?_ ?_
  · intro K k hk
    simp only [g3_ahead_75]
    rw [hO, if_on hk (by omega), if_true, chk_h (zI_in (by omega) (by decide)), zI_nat (by omega), zI_succ]
    by_cases hz : M.2.1 4 k = 2
    · rw [if_pos hz, mkS_yes (by omega) (by simp [hz])]
    · rw [if_neg hz, mkS_no0 (by simp [hz])]
  · intro K
    simp only [g3_ahead_75]
    rw [hO, if_off]
theorem ahead_else (hne : ¬ v2 = (3 : Int32)) : loop (g3_ahead_75 M v2) FU (v, (0 : Int32)) = bnd (f3_laysBack M) (fun s6 => some (v, s6)) := by
  refine loop_seq (body := g3_ahead_75 M v2) (fun _ => (v, (0 : Int32))) 0 (by omega) (fun K k hk => by omega) ?_
  intro K
  simp only [g3_ahead_75]
  rw [if_neg hne, ite_self]
theorem nn_le {a : Int32} (h : 0 ≤ v) (hle : v ≤ a) : ∃ n : Nat, v = Int32.ofNat n ∧ (n : Int) ≤ a.toInt ∧ n < 2147483648 := by
  have h1 := zI_lt31 v
  refine ⟨v.toNatClampNeg, zI_of h, ?_, h1⟩
  rw [Int32.le_iff_toInt_le, zI_of h, zI_int h1] at hle
  exact hle
theorem ahead_sim (h : RL x M) : Sim x M (f0_ahead x v1 v2) (f3_ahead M v1 v2) := by
  unfold f0_ahead f3_ahead f3_milesLeft
  rcases h.1 with ⟨hz, hn⟩ | ⟨hz, hv⟩
  · rw [if_pos hz, isRiver_no hn, bnd_s]; exact Sim.same h _
  · have hcf : decide (¬ (x 0).1 0 = 0) = true := decide_eq_true hz
    rw [if_neg hz, isRiver_yes hv.2.1]
    simp only [hcf, chk_t, bnd_s, hv.1.now, hv.1.miles]
    rw [if_neg (show ¬ (1 : Int32) = 0 by decide)]
    have e0 := f0_in32 v1 0 (M.2.1 1 0 - M.2.1 1 6)
    have e3 := f3_in32 v1 0 (M.2.1 1 0 - M.2.1 1 6)
    change f0_in v1.toInt64 (0 : Int64) (M.2.1 1 0 - M.2.1 1 6).toInt64 = _ at e0
    change f3_in v1.toInt64 (0 : Int64) (M.2.1 1 0 - M.2.1 1 6).toInt64 = _ at e3
    have e02 := f0_in32 v2 0 3
    have e32 := f3_in32 v2 0 3
    change f0_in v2.toInt64 (0 : Int64) (3 : Int64) = _ at e02
    change f3_in v2.toInt64 (0 : Int64) (3 : Int64) = _ at e32
    rw [e0, e3, e02, e32]
    simp only [bnd_s, if_bit]
    cases hc1 : (decide (0 ≤ v1) && decide (v1 ≤ M.2.1 1 0 - M.2.1 1 6)) with
    | false => exact Sim.same h _
    | true =>
      cases hc2 : (decide (0 ≤ v2) && decide (v2 ≤ 3)) with
      | false => exact Sim.same h _
      | true =>
        simp only [if_true]
        rw [Bool.and_eq_true, decide_eq_true_eq, decide_eq_true_eq] at hc1 hc2
        obtain ⟨n, rfl, hnle, hn31⟩ := nn_le hc1.1 hc1.2
        rw [left_eq hv.2.1] at hnle
        obtain ⟨s, ks, t0, hnow0, -⟩ := Tri.start (x := x) hv
        rw [f1_copies_def, bnd_s, ks, bnd_s]
        refine Sim.ofBo (loop_sim (fun a b => ∃ k, k ≤ n ∧ a.2 = Int32.ofNat k ∧ b.2 = Int32.ofNat k ∧ Tri x M a.1 b.1 ∧ (b.1.2.1 1 6).toInt = (M.2.1 1 6).toInt + k) (fun b => n - b.2.toNatClampNeg) _ ?_ (s1 := (upX x 2 (cpsF (x 2) (x 1)), (0 : Int32))) (s2 := (s, (0 : Int32))) ⟨0, by omega, rfl, rfl, t0, by rw [hnow0]; omega⟩ (by show n - _ < _; omega))
        rintro K1 K2 ⟨x1, w1⟩ ⟨s1, w2⟩ ⟨k, hk, ew1, ew2, tr, hnow⟩ hK
        dsimp only at ew1 ew2 tr hnow
        subst ew1 ew2
        have hgo := hv.2.1.2.2.2.2
        simp only [g0_ahead_61, g3_ahead_41]
        rw [zif_le hn31 (by omega), zif_le hn31 (by omega)]
        by_cases hend : n ≤ k
        · rw [if_pos hend, if_pos hend]
          obtain ⟨t1, t2, t3, t4, t5, t6, t7, t8⟩ := tr
          obtain ⟨M9, b1, b2, b3, -⟩ := h.back hz hv t5 t1 t2
          by_cases h3 : (3 : Int32) ≤ v2
          · have ev : v2 = 3 := Int32.le_antisymm hc2.2 h3
            subst ev
            rw [if_pos h3, if_pos h3, ahead_owners0 t4.1 t3, ahead_owners3 t4.1, b1, bnd_s]
            exact Bo.some ⟨rfl, b2, t1, b3⟩
          · rw [if_neg h3, if_neg h3, f0_thingsIn_eq t4.1 t3, f3_thingsAt_eq t4.1, bnd_s, bnd_s, ahead_else (fun z => h3 (by rw [z]; exact Int32.le_refl _)), b1, bnd_s]
            exact Bo.some ⟨rfl, b2, t1, b3⟩
        · rw [if_neg hend, if_neg hend]
          have hm0 := tr.2.2.2.2.2.2.2
          obtain ⟨r, F', s', g1, g2, g3, g4⟩ := tr.go (by rw [hnow, hm0]; omega)
          rw [g1, g2, bnd2_s, bnd2_s, zI_succ]
          refine hK _ _ ⟨k + 1, by omega, rfl, rfl, g3, ?_⟩ ?_
          · show (s'.2.1 1 6).toInt = _
            have e1 : (1 : Int32).toInt = 1 := rfl
            rw [g4, tI_add (by rw [hnow, e1]; omega) (by rw [hnow, e1]; omega), hnow, e1]; omega
          · show n - (Int32.ofNat (k + 1)).toNatClampNeg < n - (Int32.ofNat k).toNatClampNeg
            rw [zI_nat (by omega), zI_nat (by omega)]; omega
theorem sinks_sim (h : RL x M) : Sim x M (f0_sinks x v1) (f3_sinks M v1) := by
  have hV := h.1
  unfold f0_sinks f3_sinks
  rw [f0_isThing_eq hV, f3_isThing_eq hV.gc]
  simp only [bnd_s, if_bit]
  cases hk : isK (cT M.2.1) v1 with
  | false => exact Sim.same h _
  | true =>
    obtain ⟨hz, hv⟩ := hV.of_K (Or.inl rfl) hk
    have hcf : decide (¬ (x 0).1 0 = 0) = true := decide_eq_true hz
    have h8 := hv.2.1.1.2.1.2
    obtain ⟨i, hi, rfl⟩ := (isK_iff (by omega)).mp hk
    simp only [if_true]
    obtain ⟨s, ks, t0, hnow0, -⟩ := Tri.start (x := x) hv
    rw [hcf, chk_t, f1_copies_def, bnd_s, ks, bnd_s]
    have hin : inB (Int32.ofNat i) 8 = true := zI_in (by omega) (by decide)
    have hkk : (Int32.ofNat i).toNatClampNeg = i := zI_nat (by omega)
    have hgo := hv.2.1.2.2.2.2
    have hmi := hv.2.1.2.2.2.1
    refine Sim.ofBo (loop_sim (fun a b => ∃ k : Nat, Tri x M a b ∧ (b.2.1 1 6).toInt = (M.2.1 1 6).toInt + k) (fun b => ((b.2.1 1 0).toInt - (b.2.1 1 6).toInt).toNat) _ ?_ (s1 := upX x 2 (cpsF (x 2) (x 1))) (s2 := s) ⟨0, t0, by rw [hnow0]; omega⟩ (by
      show ((s.2.1 1 0).toInt - (s.2.1 1 6).toInt).toNat < _; rw [t0.2.2.2.2.2.2.2, hnow0]; omega))
    rintro K1 K2 x1 s1 ⟨k, tr, hnow⟩ hK
    simp only [g0_sinks_22, g3_sinks_14, f3_milesLeft, bnd_s]
    have hgv := tr.2.2.2.1
    have hfr := tr.2.2.1
    have ht : i < cT s1.2.1 := by rw [tr.2.2.2.2.2.2.1]; exact hi
    have hm0 := tr.2.2.2.2.2.2.2
    have hgv2 := hgv.2.2.2.2
    simp only [hin, hkk, chk_t, hfr.state ht, hfr.now, hfr.miles]
    have hleft : (s1.2.1 1 0 - s1.2.1 1 6 ≤ 0) = ((s1.2.1 1 0) ≤ (s1.2.1 1 6)) := by
      refine propext ?_
      rw [Int32.le_iff_toInt_le, Int32.le_iff_toInt_le, left_eq hgv]
      show _ ≤ (0 : Int) ↔ _
      omega
    have e10 : s1.2.1 10 i = if s1.2.1 9 i = 2 then (x1 2).2.1 17 i else -2 := by
      by_cases h2 : s1.2.1 9 i = 2
      · rw [if_pos h2, hfr.sunkAt ht h2]
      · rw [if_neg h2, hfr.notSunk ht h2]
    have hfin : ∀ o : Option (Int32 × (Nat → Bl)), o = some (s1.2.1 10 i, x1) → Bo (fun a b => a.1 = b.1 ∧ RL a.2 b.2 ∧ Kx x a.2 ∧ Km M b.2) o (bnd (f3_laysBack s1) (fun s4 => some (s1.2.1 10 i, s4))) := by
      intro o e
      obtain ⟨t1, t2, t3, t4, t5, t6, t7, t8⟩ := tr
      obtain ⟨M9, b1, b2, b3, -⟩ := h.back hz hv t5 t1 t2
      rw [e, b1, bnd_s]
      exact Bo.some ⟨rfl, b2, t1, b3⟩
    by_cases h9 : s1.2.1 9 i = 0
    · have h92 : ¬ s1.2.1 9 i = 2 := by rw [h9]; decide
      rw [if_pos h9]
      by_cases hle : s1.2.1 1 0 ≤ s1.2.1 1 6
      · rw [if_pos hle, if_neg h92]
        have hle2 : s1.2.1 1 0 - s1.2.1 1 6 ≤ 0 := by rw [hleft]; exact hle
        rw [if_pos hle2]
        exact hfin _ (by rw [e10, if_neg h92])
      · have hle2 : ¬ s1.2.1 1 0 - s1.2.1 1 6 ≤ 0 := by rw [hleft]; exact hle
        rw [if_neg hle, if_neg hle2, if_pos h9]
        rw [Int32.le_iff_toInt_le] at hle
        obtain ⟨r, F', s', g1, g2, g3, g4⟩ := tr.go (by omega)
        rw [g1, g2, bnd2_s, bnd2_s]
        have e1 : (1 : Int32).toInt = 1 := rfl
        have g5 : (s'.2.1 1 6).toInt = (s1.2.1 1 6).toInt + 1 := by
          rw [g4, tI_add (by rw [e1]; omega) (by rw [e1]; omega), e1]
        refine hK _ _ ⟨k + 1, g3, by rw [g5, hnow]; omega⟩ ?_
        show ((s'.2.1 1 0).toInt - (s'.2.1 1 6).toInt).toNat < ((s1.2.1 1 0).toInt - (s1.2.1 1 6).toInt).toNat
        rw [g5, g3.2.2.2.2.2.2.2, ← hm0]; omega
    · rw [if_neg h9]
      have hE : (if s1.2.1 9 i = 2 then some ((x1 2).2.1 17 i, x1) else some ((-2 : Int32), x1)) = some (s1.2.1 10 i, x1) := by
        rw [e10]; by_cases h2 : s1.2.1 9 i = 2
        · rw [if_pos h2, if_pos h2]
        · rw [if_neg h2, if_neg h2]
      by_cases hle2 : s1.2.1 1 0 - s1.2.1 1 6 ≤ 0
      · rw [if_pos hle2]; exact hfin _ hE
      · rw [if_neg hle2, if_neg h9]; exact hfin _ hE
end T

/-! PLAIN LAW: undo, mile -/
set_option maxRecDepth 100000
theorem Km.ff {A I : List Nat} {M M' : Bl} (h : Ff A I M M') (hA : 41 ∉ A ∧ 42 ∉ A ∧ 43 ∉ A ∧ 44 ∉ A ∧ 45 ∉ A ∧ 46 ∉ A ∧ 47 ∉ A ∧ 70 ∉ A ∧ 69 ∉ A) (h8 : M'.2.1 1 8 = M.2.1 1 8) (hI : 31 ∉ I ∧ 35 ∉ I ∧ 40 ∉ I) : Km M M' := by
  refine ⟨fun f hf => ?_, fun k hk => ?_, fun k _ i => Or.inl (by rw [h.arr 69 hA.2.2.2.2.2.2.2.2]), h8⟩
  · simp only [List.mem_cons, List.not_mem_nil, or_false] at hf
    rcases hf with rfl | rfl | rfl
    · exact h.fld 31 hI.1
    · exact h.fld 35 hI.2.1
    · exact h.fld 40 hI.2.2
  · simp only [List.mem_cons, List.not_mem_nil, or_false] at hk
    rcases hk with rfl | rfl | rfl | rfl | rfl | rfl | rfl | rfl
    · exact h.arr 41 hA.1
    · exact h.arr 42 hA.2.1
    · exact h.arr 43 hA.2.2.1
    · exact h.arr 44 hA.2.2.2.1
    · exact h.arr 45 hA.2.2.2.2.1
    · exact h.arr 46 hA.2.2.2.2.2.1
    · exact h.arr 47 hA.2.2.2.2.2.2.1
    · exact h.arr 70 hA.2.2.2.2.2.2.2.1
theorem putM_put {a : Ar} {g0 g : Nat → Nat → Int32} : AG (putM (putM a g0) g) (putM a g) := by
  refine ⟨fun i hi => ?_, fun i hi => ⟨rfl, rfl, rfl, rfl, rfl, rfl, rfl, rfl⟩, fun i hi => ⟨rfl, rfl, rfl, rfl, rfl, rfl⟩, fun i hi => ⟨rfl, rfl, rfl⟩⟩
  show (if i = 6 then g 0 0 else if i = 1 then g 1 0 else if i = 4 then g 2 0 else (if i = 6 then g0 0 0 else if i = 1 then g0 1 0 else if i = 4 then g0 2 0 else a 1 i)) = (if i = 6 then g 0 0 else if i = 1 then g 1 0 else if i = 4 then g 2 0 else a 1 i)
  by_cases e6 : i = 6
  · rw [if_pos e6, if_pos e6]
  · by_cases e1 : i = 1
    · rw [if_neg e6, if_pos e1, if_neg e6, if_pos e1]
    · by_cases e4 : i = 4
      · rw [if_neg e6, if_neg e1, if_pos e4, if_neg e6, if_neg e1, if_pos e4]
      · rw [if_neg e6, if_neg e1, if_neg e4, if_neg e6, if_neg e1, if_neg e4, if_neg e6, if_neg e1, if_neg e4]
section S
variable {x : Nat → Bl} {M : Bl} {v v1 v2 v3 : Int32}
/-- what an operation owes: the same answer, the relation -/
def Sim (x : Nat → Bl) (M : Bl) (o0 : Option (Int32 × (Nat → Bl))) (o3 : Option (Int32 × Bl)) : Prop := ∃ (r : Int32) (x' : Nat → Bl) (M' : Bl), o0 = some (r, x') ∧ o3 = some (r, M') ∧ RL x' M' ∧ Kx x x' ∧ Km M M'
theorem Sim.same (h : RL x M) (r : Int32) : Sim x M (some (r, x)) (some (r, M)) := ⟨r, x, M, rfl, rfl, h, Kx.refl, Km.refl⟩
/-- the flow goes on, the Model goes on -/
theorem Sim.flow (h : RL x M) (hz : ¬ (x 0).1 0 = 0) {r : Int32} {F' M' : Bl} (hv : RVa F' M'.2.1 (M'.1 55)) (km : Km M M') : Sim x M (some (r, upX x 1 F')) (some (r, M')) :=
  ⟨r, _, M', rfl, rfl, h.keep Kx.up1 km (Or.inr ⟨by rw [upX_10]; exact hz, by rw [upX_self]; exact hv⟩), Kx.up1, km⟩
theorem undo_sim (h : RL x M) : Sim x M (f0_undo x) (f3_undo M) := by
  unfold f0_undo f3_undo
  rcases h.1 with ⟨hz, hn⟩ | ⟨hz, hF, hG, hO, e7, n, hn, e55, hrow⟩
  · rw [if_pos hz, if_pos hn.2]; exact Sim.same h _
  · have hcf : decide (¬ (x 0).1 0 = 0) = true := decide_eq_true hz
    rw [if_neg hz, hcf, chk_t, e7]
    by_cases c : M.1 55 = 0
    · rw [if_pos c, if_pos c]; exact Sim.same h _
    · rw [if_neg c, if_neg c]
      simp only [upX_upX, upX_10, upX_self, hcf, chk_t]
      have hn1 : 1 ≤ n := Nat.pos_of_ne_zero (fun z => c (by rw [e55, z]; rfl))
      have ep : M.1 55 - 1 = Int32.ofNat (n - 1) := by rw [e55]; exact zI_pred (by omega)
      have kf0 : Ff [] [7] (x 1) (bI (x 1) 7 (M.1 55 - 1)) := Ff.bi
      have km0 : Ff [] [55] M (bI M 55 (M.1 55 - 1)) := Ff.bi
      have b7 : (bI (x 1) 7 (M.1 55 - 1)).1 7 = Int32.ofNat (n - 1) := by rw [bI_v, ep]
      have b55 : (bI M 55 (M.1 55 - 1)).1 55 = Int32.ofNat (n - 1) := by rw [bI_v, ep]
      rw [b7, b55]
      generalize bI (x 1) 7 (M.1 55 - 1) = F1 at kf0 b7 ⊢
      generalize bI M 55 (M.1 55 - 1) = M1 at km0 b55 ⊢
      obtain ⟨F2, t1, t2, t3, t4, t5, t6, t7, t8⟩ := f1_takes_eq (F := F1) (k := n - 1) (by omega)
      obtain ⟨M2, r1, r2, r3⟩ := f3_movesAll_take (M := M1) (k := n - 1) (by omega)
      rw [t1, r1, bnd_s, bnd_s]
      have kf := kf0.trans t2
      have km := km0.trans r2
      have h53 : M1.2.1 53 = M.2.1 53 := km0.arr 53
      have eP : ∀ k j i, mP M1.2.1 k j i = mP M.2.1 k j i := fun k j i => by unfold mP; rw [h53]
      have hag1 : AG M1.2.1 M.2.1 := AG_Ff km0 (by simp)
      have hag : AG M2.2.1 (putM M.2.1 (mP M.2.1 (n - 1))) := r3.trans (putM_AG hag1 (fun j i => eP (n - 1) j i))
      obtain ⟨g1, g2⟩ := hrow (n - 1) (by omega)
      have h8 := hG.1.2.1.2
      have h6 := hG.1.1.2
      have hR : (mP M.2.1 (n - 1) 2 0).toNatClampNeg ≤ 12 := g1.1.2.2.1.2
      have eU : ∀ j i, mU F1 (n - 1) j i = mU (x 1) (n - 1) j i := fun j i => by unfold mU; rw [kf0.arr 24]
      have hFR : FR F2 (putM M.2.1 (mP M.2.1 (n - 1))) := by
        obtain ⟨c1, c2, c3, c4, c5, c6, c7⟩ := hF.1
        obtain ⟨m1, m2, m3, m4, m5, m6⟩ := g2
        refine ⟨⟨by rw [kf.fld 0]; exact c1, by rw [kf.fld 1]; exact c2, by rw [kf.fld 2]; exact c3, by rw [kf.fld 3]; exact c4, fun i hi => by rw [kf.arr 9, kf.arr 10]; exact c5 i hi, fun i hi => by rw [kf.arr 13, kf.arr 15]; exact c6 i hi, fun i hi => by rw [kf.arr 21, kf.arr 22]; exact c7 i hi⟩, ?_, ?_, ?_, fun i hi => ?_, fun i hi => ?_, fun i hi => ?_⟩
        · rw [t3, eU]; exact m1
        · rw [t4, eU]; exact m2
        · rw [t5, eU]; exact m3
        · have hi : i < cO M.2.1 := hi
          rw [t6 i (by omega), eU]; exact m4 i hi
        · have hi : i < cT M.2.1 := hi
          obtain ⟨u1, u2, u3, u4⟩ := t7 i (by omega)
          rw [u1, u2, u3, u4, eU, eU, eU, eU]; exact m5 i hi
        · have hi : i < (mP M.2.1 (n - 1) 2 0).toNatClampNeg := hi
          obtain ⟨u1, u2, u3⟩ := t8 i (by omega)
          rw [u1, u2, u3, eU, eU, eU]; exact m6 i hi
      show Sim x M (some (F2.1 7, upX x 1 F2)) (some (M2.1 55, M2))
      have ean : F2.1 7 = M2.1 55 := by rw [t2.fld 7, b7, r2.fld 55, b55]
      rw [ean]
      refine Sim.flow h hz ⟨hFR.congr hag g1.1, g1.congr hag, ?_, ?_⟩ (Km.ff km (by decide) (by rw [hag.1 8 (by omega)]; rfl) (by decide))
      · have hO2 : FO F2 (putM M.2.1 (mP M.2.1 (n - 1))) := hO.ff kf (by decide) (by decide)
        exact hO2.congr hag g1.1
      · refine ⟨ean, n - 1, by omega, by rw [r2.fld 55, b55], fun k hk => ?_⟩
        obtain ⟨g3, g4⟩ := hrow k (by omega)
        have eP2 : ∀ j i, mP M2.2.1 k j i = mP M.2.1 k j i := fun j i => by unfold mP; rw [r2.arr 53, h53]
        refine ⟨g3.congr ((putM_AG hag eP2).trans putM_put), ?_⟩
        rw [hag.eO, hag.eT]
        exact g4.cg (fun j i => by unfold mU; rw [kf.arr 24]) eP2
theorem goesOn_sim {F : Bl} (g : GR M.2.1) (h : FR F M.2.1) (hn : (M.2.1 1 6).toInt < (M.2.1 1 0).toInt) : ∃ (r : Int32) (F' M' : Bl), f1_goesOn F = some (r, F') ∧ f3_goesMile M = some (r, M') ∧ FR F' M'.2.1 ∧ GR M'.2.1 ∧ Ff [11, 14, 16, 17, 18, 19, 20, 28] [4, 5, 6, 25, 26, 27] F F' ∧ Fm [4, 7, 9, 10, 11, 12, 13] [1, 4, 6] [51, 52] M M' ∧ M'.2.1 1 6 = M.2.1 1 6 + 1 := by
  obtain ⟨r, F', M', m1, m2, m3, m4, m5, m6, -, -, m7⟩ := mile_sim (by9 := sFo M.2.1 (M.2.1 1 6 + 1)) g h hn
  refine ⟨r, F', M', ?_, ?_, m3, m4, m5, m6, m7⟩
  · unfold f1_goesOn
    rw [h.now, f1_forceAt_eq g.1 h, bnd_s, m1, bnd2_s]
  · unfold f3_goesMile
    rw [f3_forceAt_eq g.1, bnd_s, m2, bnd2_s]
theorem RVa.mile {F F' M' : Bl} {p : Int32} (hv : RVa F M.2.1 p) (m3 : FR F' M'.2.1) (m4 : GR M'.2.1) (m5 : Ff [11, 14, 16, 17, 18, 19, 20, 28] [4, 5, 6, 25, 26, 27] F F') (m6 : Fm [4, 7, 9, 10, 11, 12, 13] [1, 4, 6] [51, 52] M M') : RVa F' M'.2.1 p :=
  ⟨m3, m4, hv.2.2.1.keep m6 m5 (by decide) (by decide) (by decide) (by decide), hv.2.2.2.keep (m5.fld 7) (m5.arr 24) rfl (m6.arr 53) (putM_Fm m6 (by decide) (by decide)) m6.eO m6.eT⟩
theorem now_lt (g : GR M.2.1) (h : ¬ M.2.1 1 6 = M.2.1 1 0) : (M.2.1 1 6).toInt < (M.2.1 1 0).toInt := by
  have h1 := g.2.2.2.2.2.2
  have h2 : ¬ (M.2.1 1 6).toInt = (M.2.1 1 0).toInt := fun z => h (Int32.toInt_inj.mp z)
  omega
theorem left_eq (g : GR M.2.1) : (M.2.1 1 0 - M.2.1 1 6).toInt = (M.2.1 1 0).toInt - (M.2.1 1 6).toInt := by
  have h1 := g.2.2.2.2.1
  have h2 := g.2.2.2.2.2
  exact tI_sub (by omega) (by omega)
theorem left_zero (g : GR M.2.1) : (M.2.1 1 0 - M.2.1 1 6 = 0) ↔ M.2.1 1 6 = M.2.1 1 0 := by
  rw [← Int32.toInt_inj, left_eq g]
  constructor
  · intro z
    have z : (M.2.1 1 0).toInt - (M.2.1 1 6).toInt = 0 := z
    exact Int32.toInt_inj.mp (by omega)
  · intro z; rw [z]; show _ = (0 : Int); omega
theorem mile_op_sim (h : RL x M) : Sim x M (f0_mile x) (f3_mile M) := by
  unfold f0_mile f3_mile f3_milesLeft
  rcases h.1 with ⟨hz, hn⟩ | ⟨hz, hv⟩
  · rw [if_pos hz, isRiver_no hn, bnd_s]; exact Sim.same h _
  · have hcf : decide (¬ (x 0).1 0 = 0) = true := decide_eq_true hz
    rw [if_neg hz, isRiver_yes hv.2.1, bnd_s, hcf, chk_t, chk_t, hv.1.now, hv.1.miles, if_neg (show ¬ (1 : Int32) = 0 by decide), bnd_s]
    by_cases c : M.2.1 1 6 = M.2.1 1 0
    · rw [if_pos c, if_pos ((left_zero hv.2.1).mpr c)]; exact Sim.same h _
    · rw [if_neg c, if_neg (fun z => c ((left_zero hv.2.1).mp z))]
      obtain ⟨F1, M1, k1, k2, k3, k4, k5⟩ := kept_sim hz hv
      have hag : AG M1.2.1 M.2.1 := AG_Ff k4 (by simp; omega)
      obtain ⟨r, F2, M2, g1, g2, g3, g4, g5, g6, -⟩ := goesOn_sim (M := M1) k5.2.1 k5.1 (by rw [hag.1 6 (by omega), hag.1 0 (by omega)]; exact now_lt hv.2.1 c)
      rw [k1, bnd_s, k2, bnd_s, upX_10, hcf, chk_t, upX_self, g1, bnd2_s, g2, bnd2_s, upX_upX]
      refine Sim.flow h hz ?_ ((Km.ff k4 (by decide) (by rw [hag.1 8 (by omega)]) (by decide)).trans (Km.of g6))
      have := k5.mile g3 g4 g5 g6
      rw [← g6.fld 55] at this
      exact this
end S

/-! PLAIN LAW: acts are kept and undone; a mile -/
set_option maxRecDepth 100000
theorem upX_upX (x : Nat → Bl) (j : Nat) (s t : Bl) : upX (upX x j s) j t = upX x j t := by
  funext i; unfold upX; by_cases e : i = j <;> simp [e]
theorem upX_10 (x : Nat → Bl) (s : Bl) : (upX x 1 s) 0 = x 0 := upX_ne (by decide)
theorem FR.ff {F F' : Bl} {a : Ar} {As Is : List Nat} (h : FR F a) (k : Ff As Is F F') (hI : ∀ f, f < 7 → f ∉ Is) (hA : ∀ f, 9 ≤ f → f < 23 → f ∉ As) : FR F' a := by
  obtain ⟨⟨c1, c2, c3, c4, c5, c6, c7⟩, m1, m2, m3, m4, m5, m6⟩ := h
  have ei : ∀ f, f < 7 → F'.1 f = F.1 f := fun f hf => k.fld f (hI f hf)
  have ea : ∀ f, 9 ≤ f → f < 23 → F'.2.1 f = F.2.1 f := fun f h1 h2 => k.arr f (hA f h1 h2)
  refine ⟨⟨?_, ?_, ?_, ?_, fun i hi => ?_, fun i hi => ?_, fun i hi => ?_⟩, ?_, ?_, ?_, fun i hi => ?_, fun i hi => ?_, fun i hi => ?_⟩
  · rw [ei 0 (by omega)]; exact c1
  · rw [ei 1 (by omega)]; exact c2
  · rw [ei 2 (by omega)]; exact c3
  · rw [ei 3 (by omega)]; exact c4
  · rw [ea 9 (by omega) (by omega), ea 10 (by omega) (by omega)]; exact c5 i hi
  · rw [ea 13 (by omega) (by omega), ea 15 (by omega) (by omega)]; exact c6 i hi
  · rw [ea 21 (by omega) (by omega), ea 22 (by omega) (by omega)]; exact c7 i hi
  · show F'.1 6 = _; rw [ei 6 (by omega)]; exact m1
  · show F'.1 4 = _; rw [ei 4 (by omega)]; exact m2
  · show F'.1 5 = _; rw [ei 5 (by omega)]; exact m3
  · show F'.2.1 11 i = _; rw [ea 11 (by omega) (by omega)]; exact m4 i hi
  · show F'.2.1 12 i = _ ∧ F'.2.1 14 i = _ ∧ F'.2.1 16 i = _ ∧ (_ → F'.2.1 17 i = _) ∧ _
    rw [ea 12 (by omega) (by omega), ea 14 (by omega) (by omega), ea 16 (by omega) (by omega), ea 17 (by omega) (by omega)]; exact m5 i hi
  · show F'.2.1 18 i = _ ∧ F'.2.1 19 i = _ ∧ F'.2.1 20 i = _
    rw [ea 18 (by omega) (by omega), ea 19 (by omega) (by omega), ea 20 (by omega) (by omega)]; exact m6 i hi
theorem FO.ff {F F' : Bl} {a : Ar} {As Is : List Nat} (h : FO F a) (k : Ff As Is F F') (hI : 8 ∉ Is) (hA : 23 ∉ As) : FO F' a := by
  unfold FO; rw [k.fld 8 hI, k.arr 23 hA]; exact h
/-- rows of the past below n -/
def PRn (F : Bl) (a : Ar) (n : Nat) : Prop := ∀ k, k < n → GR (putM a (mP a k)) ∧ MR (cO a) (cT a) (mU F k) (mP a k)
/-- one more row -/
theorem lay_sim {F M : Bl} {n : Nat} (hn : n < 20) (h : FR F M.2.1) (g : GR M.2.1) (hp : PRn F M.2.1 n) : ∃ F' M' : Bl, f1_lays F (Int32.ofNat n) = some F' ∧ f3_movesAll M (Int32.ofNat n) (0 : Int32) = some M' ∧ Ff [24] [] F F' ∧ Ff [53] [56, 57] M M' ∧ PRn F' M'.2.1 (n + 1) := by
  obtain ⟨F', q1, q2⟩ := f1_lays_eq (F := F) hn
  obtain ⟨M', r1, r2⟩ := f3_movesAll_lay (M := M) hn
  refine ⟨F', M', q1, r1, q2.1, r2.1, fun k hk => ?_⟩
  have hcon : ∀ f, f ≠ 53 → M'.2.1 f = M.2.1 f := fun f hf => r2.1.arr f (by simpa using hf)
  have hag : AG M'.2.1 M.2.1 := ⟨fun i _ => by rw [hcon 1 (by decide)], fun i _ => by rw [hcon 2 (by decide), hcon 3 (by decide), hcon 4 (by decide), hcon 14 (by decide), hcon 15 (by decide), hcon 16 (by decide), hcon 17 (by decide), hcon 18 (by decide)]; exact ⟨rfl, rfl, rfl, rfl, rfl, rfl, rfl, rfl⟩, fun i _ => by rw [hcon 5 (by decide), hcon 6 (by decide), hcon 7 (by decide), hcon 8 (by decide), hcon 9 (by decide), hcon 10 (by decide)]; exact ⟨rfl, rfl, rfl, rfl, rfl, rfl⟩, fun i _ => by rw [hcon 11 (by decide), hcon 12 (by decide), hcon 13 (by decide)]; exact ⟨rfl, rfl, rfl⟩⟩
  have gc := g.1
  by_cases e : k = n
  · subst e
    obtain ⟨u0, u1, u2, u3, u4, u5⟩ := mU_of q2
    obtain ⟨v0, v1, v2, v3, v4, v5⟩ := mP_of r2
    have hput : AG (putM M'.2.1 (mP M'.2.1 k)) M.2.1 := by
      refine ⟨fun i hi => ?_, fun i hi => ?_, fun i hi => ?_, fun i hi => ?_⟩
      · show (if i = 6 then mP M'.2.1 k 0 0 else if i = 1 then mP M'.2.1 k 1 0 else if i = 4 then mP M'.2.1 k 2 0 else M'.2.1 1 i) = M.2.1 1 i
        by_cases e6 : i = 6
        · subst e6; rw [if_pos rfl]; exact v0
        · by_cases e1 : i = 1
          · subst e1; rw [if_neg e6, if_pos rfl]; exact v1
          · by_cases e4 : i = 4
            · subst e4; rw [if_neg e6, if_neg e1, if_pos rfl]; exact v2
            · rw [if_neg e6, if_neg e1, if_neg e4]; exact hag.1 i hi
      · obtain ⟨y1, y2, y3, y4, y5, y6, y7, y8⟩ := hag.2.1 i hi
        exact ⟨y1, y2, v3 i hi, y4, y5, y6, y7, y8⟩
      · obtain ⟨y1, y2, y3, y4, y5, y6⟩ := hag.2.2.1 i hi
        obtain ⟨w1, w2, w3, w4⟩ := v4 i hi
        exact ⟨w1, y2, w2, y4, w3, w4⟩
      · exact v5 i hi
    refine ⟨g.congr hput, ?_⟩
    rw [hag.eO, hag.eT]
    have h8 := gc.2.1.2
    have h6 := gc.1.2
    have h12 := gc.2.2.1.2
    obtain ⟨m1, m2, m3, m4, m5, m6⟩ := h.2
    refine ⟨by rw [u0, v0]; exact m1, by rw [u1, v1]; exact m2, by rw [u2, v2]; exact m3, fun i hi => ?_, fun i hi => ?_, fun i hi => ?_⟩
    · rw [u3 i (by omega), v3 i (by omega)]; exact m4 i hi
    · obtain ⟨a1, a2, a3, a4⟩ := u4 i (by omega)
      obtain ⟨b1, b2, b3, b4⟩ := v4 i (by omega)
      rw [a1, a2, a3, a4, b1, b2, b3, b4]; exact m5 i hi
    · rw [v2] at hi
      have hi2 : i < 12 := by have : (mM M.2.1 2 0).toNatClampNeg = cR M.2.1 := rfl; omega
      obtain ⟨a1, a2, a3⟩ := u5 i hi2
      obtain ⟨b1, b2, b3⟩ := v5 i hi2
      rw [a1, a2, a3, b1, b2, b3]; exact m6 i hi
  · obtain ⟨g1, g2⟩ := hp k (by omega)
    have hR : (mP M.2.1 k 2 0).toNatClampNeg ≤ 12 := g1.1.2.2.1.2
    have eP : ∀ j i, mOf j + i < 77 → mP M'.2.1 k j i = mP M.2.1 k j i := fun j i hi => by
      unfold mP; rw [r2.2.2.2, if_neg (by omega)]
    refine ⟨g1.congr (putM_AG2 hag eP), ?_⟩
    rw [hag.eO, hag.eT]
    exact g2.cg2 gc.1.2 gc.2.1.2 hR (fun j i hi => by unfold mU; rw [q2.2, if_neg (by omega)]) eP
theorem AG_Ff {M M' : Bl} {A I : List Nat} (h : Ff A I M M') (hA : ∀ f, 1 ≤ f → f < 19 → f ∉ A) : AG M'.2.1 M.2.1 := by
  have e : ∀ f, 1 ≤ f → f < 19 → M'.2.1 f = M.2.1 f := fun f h1 h2 => h.arr f (hA f h1 h2)
  refine ⟨fun i _ => by rw [e 1 (by omega) (by omega)], fun i _ => ?_, fun i _ => ?_, fun i _ => ?_⟩
  · rw [e 2 (by omega) (by omega), e 3 (by omega) (by omega), e 4 (by omega) (by omega), e 14 (by omega) (by omega), e 15 (by omega) (by omega), e 16 (by omega) (by omega), e 17 (by omega) (by omega), e 18 (by omega) (by omega)]; exact ⟨rfl, rfl, rfl, rfl, rfl, rfl, rfl, rfl⟩
  · rw [e 5 (by omega) (by omega), e 6 (by omega) (by omega), e 7 (by omega) (by omega), e 8 (by omega) (by omega), e 9 (by omega) (by omega), e 10 (by omega) (by omega)]; exact ⟨rfl, rfl, rfl, rfl, rfl, rfl⟩
  · rw [e 11 (by omega) (by omega), e 12 (by omega) (by omega), e 13 (by omega) (by omega)]; exact ⟨rfl, rfl, rfl⟩
/-- the Model's past moves up -/
theorem m_shift {M : Bl} {R : Option Bl} {G : Bl → Option Bl} (hG : ∀ (K : Bl × Int32 → Option Bl) (s : Bl), g3_keepsAct_12 K (s, Int32.ofNat 1540) = G s) : loop (g3_keepsAct_12) FU (M, (77 : Int32)) = G (bS M 53 (fun i => if i < 1463 then M.2.1 53 (i + 77) else M.2.1 53 i)) := by
  have e0 : bS M 53 (fun i => if i < 0 then M.2.1 53 (i + 77) else M.2.1 53 i) = M := by
    have : (fun i => if i < 0 then M.2.1 53 (i + 77) else M.2.1 53 i) = M.2.1 53 := by funext i; simp
    rw [this, bS_self]
  refine Eq.trans ?_ (loop_seq (body := g3_keepsAct_12) (fun k => (bS M 53 (fun i => if i < k then M.2.1 53 (i + 77) else M.2.1 53 i), Int32.ofNat (77 + k))) 1463 (by omega) ?_ ?_)
  · (try dsimp only); rw [e0]; rfl
  · intro K k hk
    simp only [g3_keepsAct_12]
    have e1 : (1540 : Int32) = Int32.ofNat 1540 := rfl
    have e77 : Int32.ofNat (77 + k) - (77 : Int32) = Int32.ofNat k := by
      have : Int32.ofNat (77 + k) = Int32.ofNat k + (77 : Int32) := by rw [Nat.add_comm]; exact Int32.ofNat_add k 77
      rw [this, Int32.add_sub_cancel]
    rw [e1, if_on (by omega) (by omega), e77, chk_h (zI_in (by omega) (by decide)), chk_h (zI_in (by omega) (by decide)), zI_nat (by omega), zI_nat (by omega), zI_succ]
    congr 2
    have e9 : (bS M 53 (fun i => if i < k then M.2.1 53 (i + 77) else M.2.1 53 i)).2.1 53 (77 + k) = M.2.1 53 (k + 77) := by
      simp only [bS, if_true]
      rw [if_neg (by omega), Nat.add_comm]
    rw [e9, bA, bS_bS]
    congr 1
    funext i
    simp only [upd]
    by_cases e : i = k
    · subst e; simp
    · have : (i < k + 1) = (i < k) := propext ⟨fun z => by omega, fun z => by omega⟩
      simp [e, this, bS]
  · intro K; exact hG K _
theorem keepsAct_sim {x : Nat → Bl} {M : Bl} (hz : ¬ (x 0).1 0 = 0) (hv : RVa (x 1) M.2.1 (M.1 55)) : ∃ F' M' : Bl, f0_keepsAct x = some (upX x 1 F') ∧ f3_keepsAct M = some M' ∧ Ff [24] [7] (x 1) F' ∧ Ff [53] [55, 56, 57] M M' ∧ PR F' M'.2.1 (M'.1 55) := by
  obtain ⟨hF, hG, -, e7, n, hn, e55, hrow⟩ := hv
  have hcf : decide (¬ (x 0).1 0 = 0) = true := decide_eq_true hz
  unfold f0_keepsAct f3_keepsAct
  simp only [upX_upX, upX_10, upX_self, hcf, chk_t, ltv_s]
  rw [e7, e55]
  by_cases c : n = 20
  · subst c
    have e20 : Int32.ofNat 20 = (20 : Int32) := rfl
    have e19 : Int32.ofNat 20 - (1 : Int32) = Int32.ofNat 19 := rfl
    rw [if_pos e20, if_pos e20]
    -- the flow's past moves up
    have kf : Ff [24] [7] (x 1) (bI (bS (x 1) 24 (va_cpy ((x 1).2.1 24) ((x 1).2.1 24) 77 0 1463)) 7 ((bS (x 1) 24 (va_cpy ((x 1).2.1 24) ((x 1).2.1 24) 77 0 1463)).1 7 - 1)) := Ff.bs.trans Ff.bi
    have f7 : (bI (bS (x 1) 24 (va_cpy ((x 1).2.1 24) ((x 1).2.1 24) 77 0 1463)) 7 ((bS (x 1) 24 (va_cpy ((x 1).2.1 24) ((x 1).2.1 24) 77 0 1463)).1 7 - 1)).1 7 = Int32.ofNat 19 := by
      rw [bI_v]; show (x 1).1 7 - 1 = _; rw [e7, e55, e19]
    have f24 : ∀ i, i < 1463 → (bI (bS (x 1) 24 (va_cpy ((x 1).2.1 24) ((x 1).2.1 24) 77 0 1463)) 7 ((bS (x 1) 24 (va_cpy ((x 1).2.1 24) ((x 1).2.1 24) 77 0 1463)).1 7 - 1)).2.1 24 i = (x 1).2.1 24 (77 + i) := by
      intro i hi
      show va_cpy ((x 1).2.1 24) ((x 1).2.1 24) 77 0 1463 i = _
      rw [cpy_at hi]
    have e7' : (bS (x 1) 24 (va_cpy ((x 1).2.1 24) ((x 1).2.1 24) 77 0 1463)).1 7 = M.1 55 := e7
    generalize hFd : bI (bS (x 1) 24 (va_cpy ((x 1).2.1 24) ((x 1).2.1 24) 77 0 1463)) 7 ((bS (x 1) 24 (va_cpy ((x 1).2.1 24) ((x 1).2.1 24) 77 0 1463)).1 7 - 1) = F1 at kf f7 f24 ⊢
    -- the Model's
    rw [m_shift (R := none) (G := fun s => bnd (f3_movesAll (bI s 55 ((s.1 55) - (1 : Int32))) ((bI s 55 ((s.1 55) - (1 : Int32))).1 55) (0 : Int32)) (fun s2 => some (bI s2 55 ((s2.1 55) + (1 : Int32))))) (fun K s => by simp only [g3_keepsAct_12]; rw [show (1540 : Int32) = Int32.ofNat 1540 from rfl, if_off])]
    have km : Ff [53] [55] M (bI (bS M 53 (fun i => if i < 1463 then M.2.1 53 (i + 77) else M.2.1 53 i)) 55 ((bS M 53 (fun i => if i < 1463 then M.2.1 53 (i + 77) else M.2.1 53 i)).1 55 - 1)) := Ff.bs.trans Ff.bi
    have m55 : (bI (bS M 53 (fun i => if i < 1463 then M.2.1 53 (i + 77) else M.2.1 53 i)) 55 ((bS M 53 (fun i => if i < 1463 then M.2.1 53 (i + 77) else M.2.1 53 i)).1 55 - 1)).1 55 = Int32.ofNat 19 := by
      rw [bI_v]; show M.1 55 - 1 = _; rw [e55, e19]
    have m53 : ∀ i, i < 1463 → (bI (bS M 53 (fun i => if i < 1463 then M.2.1 53 (i + 77) else M.2.1 53 i)) 55 ((bS M 53 (fun i => if i < 1463 then M.2.1 53 (i + 77) else M.2.1 53 i)).1 55 - 1)).2.1 53 i = M.2.1 53 (77 + i) := by
      intro i hi
      show (if i < 1463 then M.2.1 53 (i + 77) else M.2.1 53 i) = _
      rw [if_pos hi, Nat.add_comm]
    show ∃ F' M' : Bl, _ ∧ (bnd (f3_movesAll (bI (bS M 53 (fun i => if i < 1463 then M.2.1 53 (i + 77) else M.2.1 53 i)) 55 ((bS M 53 (fun i => if i < 1463 then M.2.1 53 (i + 77) else M.2.1 53 i)).1 55 - 1)) ((bI (bS M 53 (fun i => if i < 1463 then M.2.1 53 (i + 77) else M.2.1 53 i)) 55 ((bS M 53 (fun i => if i < 1463 then M.2.1 53 (i + 77) else M.2.1 53 i)).1 55 - 1)).1 55) (0 : Int32)) (fun s2 => some (bI s2 55 ((s2.1 55) + (1 : Int32))))) = some M' ∧ _
    generalize bI (bS M 53 (fun i => if i < 1463 then M.2.1 53 (i + 77) else M.2.1 53 i)) 55 ((bS M 53 (fun i => if i < 1463 then M.2.1 53 (i + 77) else M.2.1 53 i)).1 55 - 1) = M1 at km m55 m53 ⊢
    have hag : AG M1.2.1 M.2.1 := AG_Ff km (by simp; omega)
    have hF1 : FR F1 M1.2.1 := (hF.ff kf (by simp; omega) (by simp; omega)).congr hag hG.1
    have hG1 : GR M1.2.1 := hG.congr hag
    have hp1 : PRn F1 M1.2.1 19 := by
      intro k hk
      obtain ⟨g1, g2⟩ := hrow (k + 1) (by omega)
      have hR : (mP M.2.1 (k + 1) 2 0).toNatClampNeg ≤ 12 := g1.1.2.2.1.2
      have eP : ∀ j i, mOf j + i < 77 → mP M1.2.1 k j i = mP M.2.1 (k + 1) j i := fun j i hi => by
        unfold mP; rw [m53 _ (by omega)]; exact congrArg (M.2.1 53) (by omega)
      refine ⟨g1.congr (putM_AG2 hag eP), ?_⟩
      rw [hag.eO, hag.eT]
      exact g2.cg2 hG.1.1.2 hG.1.2.1.2 hR (fun j i hi => by unfold mU; rw [f24 _ (by omega)]; exact congrArg ((x 1).2.1 24) (by omega)) eP
    obtain ⟨F2, M2, l1, l2, l3, l4, l5⟩ := lay_sim (n := 19) (by omega) hF1 hG1 hp1
    rw [f7, l1, m55, l2]
    refine ⟨bI F2 7 (F2.1 7 + 1), bI M2 55 (M2.1 55 + 1), rfl, rfl, ((kf.trans l3).trans Ff.bi).weak, ((km.trans l4).trans Ff.bi).weak, ?_, 20, Nat.le_refl _, ?_, fun k hk => l5 k hk⟩
    · rw [bI_v, bI_v, l3.fld 7, f7, l4.fld 55, m55]
    · rw [bI_v, l4.fld 55, m55]; rfl
  · have hne : ¬ Int32.ofNat n = (20 : Int32) := fun z => c ((zI_inj (b := 20) (by omega) (by decide)).mp z)
    rw [if_neg hne, if_neg hne]
    obtain ⟨F2, M2, l1, l2, l3, l4, l5⟩ := lay_sim (n := n) (by omega) hF hG hrow
    rw [l1, l2]
    refine ⟨bI F2 7 (F2.1 7 + 1), bI M2 55 (M2.1 55 + 1), rfl, rfl, (l3.trans Ff.bi).weak, (l4.trans Ff.bi).weak, ?_, n + 1, by omega, ?_, fun k hk => l5 k hk⟩
    · rw [bI_v, bI_v, l3.fld 7, e7, l4.fld 55]
    · rw [bI_v, l4.fld 55, e55, zI_succ]
/-- an act is kept: all stays alike -/
theorem kept_sim {x : Nat → Bl} {M : Bl} (hz : ¬ (x 0).1 0 = 0) (hv : RVa (x 1) M.2.1 (M.1 55)) : ∃ F' M' : Bl, f0_keepsAct x = some (upX x 1 F') ∧ f3_keepsAct M = some M' ∧ Ff [24] [7] (x 1) F' ∧ Ff [53] [55, 56, 57] M M' ∧ RVa F' M'.2.1 (M'.1 55) := by
  obtain ⟨F', M', k1, k2, k3, k4, k5⟩ := keepsAct_sim hz hv
  have hag : AG M'.2.1 M.2.1 := AG_Ff k4 (by simp; omega)
  exact ⟨F', M', k1, k2, k3, k4, (hv.1.ff k3 (by simp; omega) (by simp; omega)).congr hag hv.2.1.1, hv.2.1.congr hag, (hv.2.2.1.ff k3 (by decide) (by decide)).congr hag hv.2.1.1, k5⟩

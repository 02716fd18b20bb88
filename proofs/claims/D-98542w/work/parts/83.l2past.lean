/-! PLAIN LAW: the Model's rows of the past; what a river is alike to -/
set_option maxRecDepth 100000
/-- alike in all that there is -/
def AG (a b : Ar) : Prop := (∀ i, i < 9 → a 1 i = b 1 i) ∧ (∀ i, i < 6 → a 2 i = b 2 i ∧ a 3 i = b 3 i ∧ a 4 i = b 4 i ∧ a 14 i = b 14 i ∧ a 15 i = b 15 i ∧ a 16 i = b 16 i ∧ a 17 i = b 17 i ∧ a 18 i = b 18 i) ∧ (∀ i, i < 8 → a 5 i = b 5 i ∧ a 6 i = b 6 i ∧ a 7 i = b 7 i ∧ a 8 i = b 8 i ∧ a 9 i = b 9 i ∧ a 10 i = b 10 i) ∧ ∀ i, i < 12 → a 11 i = b 11 i ∧ a 12 i = b 12 i ∧ a 13 i = b 13 i
theorem AG.refl {a : Ar} : AG a a := ⟨fun _ _ => rfl, fun _ _ => ⟨rfl, rfl, rfl, rfl, rfl, rfl, rfl, rfl⟩, fun _ _ => ⟨rfl, rfl, rfl, rfl, rfl, rfl⟩, fun _ _ => ⟨rfl, rfl, rfl⟩⟩
theorem AG.symm {a b : Ar} (h : AG a b) : AG b a := by
  obtain ⟨h1, h2, h3, h4⟩ := h
  refine ⟨fun i hi => (h1 i hi).symm, fun i hi => ?_, fun i hi => ?_, fun i hi => ?_⟩
  · obtain ⟨x1, x2, x3, x4, x5, x6, x7, x8⟩ := h2 i hi; exact ⟨x1.symm, x2.symm, x3.symm, x4.symm, x5.symm, x6.symm, x7.symm, x8.symm⟩
  · obtain ⟨x1, x2, x3, x4, x5, x6⟩ := h3 i hi; exact ⟨x1.symm, x2.symm, x3.symm, x4.symm, x5.symm, x6.symm⟩
  · obtain ⟨x1, x2, x3⟩ := h4 i hi; exact ⟨x1.symm, x2.symm, x3.symm⟩
theorem AG.trans {a b c : Ar} (h : AG a b) (k : AG b c) : AG a c := by
  obtain ⟨h1, h2, h3, h4⟩ := h
  obtain ⟨k1, k2, k3, k4⟩ := k
  refine ⟨fun i hi => (h1 i hi).trans (k1 i hi), fun i hi => ?_, fun i hi => ?_, fun i hi => ?_⟩
  · obtain ⟨x1, x2, x3, x4, x5, x6, x7, x8⟩ := h2 i hi
    obtain ⟨y1, y2, y3, y4, y5, y6, y7, y8⟩ := k2 i hi
    exact ⟨x1.trans y1, x2.trans y2, x3.trans y3, x4.trans y4, x5.trans y5, x6.trans y6, x7.trans y7, x8.trans y8⟩
  · obtain ⟨x1, x2, x3, x4, x5, x6⟩ := h3 i hi
    obtain ⟨y1, y2, y3, y4, y5, y6⟩ := k3 i hi
    exact ⟨x1.trans y1, x2.trans y2, x3.trans y3, x4.trans y4, x5.trans y5, x6.trans y6⟩
  · obtain ⟨x1, x2, x3⟩ := h4 i hi
    obtain ⟨y1, y2, y3⟩ := k4 i hi
    exact ⟨x1.trans y1, x2.trans y2, x3.trans y3⟩
section AG
variable {a b : Ar}
theorem AG.eO (h : AG a b) : cO a = cO b := by have := h.1 2 (by omega); unfold cO; rw [this]
theorem AG.eT (h : AG a b) : cT a = cT b := by have := h.1 3 (by omega); unfold cT; rw [this]
theorem AG.eR (h : AG a b) : cR a = cR b := by have := h.1 4 (by omega); unfold cR; rw [this]
theorem AG.eX (h : AG a b) : cX a = cX b := by have := h.1 5 (by omega); unfold cX; rw [this]
theorem AG.eF (h : AG a b) : cF a = cF b := by have := h.1 7 (by omega); unfold cF; rw [this]
theorem GC.congr (h : AG a b) (g : GC b) : GC a := by
  obtain ⟨g1, g2, g3, g4, g5⟩ := g
  refine ⟨?_, ?_, ?_, ?_, ?_⟩
  · rw [h.1 2 (by omega), h.eO]; exact g1
  · rw [h.1 3 (by omega), h.eT]; exact g2
  · rw [h.1 4 (by omega), h.eR]; exact g3
  · rw [h.1 5 (by omega), h.eX]; exact g4
  · rw [h.1 7 (by omega), h.eF]; exact g5
theorem rlM_congr (h : AG a b) (g : GC b) : rlM a = rlM b := by
  have h12 := g.2.2.1.2
  unfold rlM
  rw [h.eR]
  exact rl_congr fun i hi => ⟨(h.2.2.2 i (by omega)).1, (h.2.2.2 i (by omega)).2.1, (h.2.2.2 i (by omega)).2.2⟩
theorem RA.congr (h : AG a b) (gc : GC b) (g : RA b) : RA a := by
  have h8 := gc.2.1.2
  rw [RA_iff] at g ⊢
  rw [rlM_congr h gc, h.eT]
  intro x hx
  obtain ⟨o1, o2, o3, o4, o5, o6, o7⟩ := g x hx
  refine ⟨o1, o2, o3, o4, o5, ?_, ?_⟩
  · rw [(h.2.2.1 _ o1.2).2.2.2.2.1]; exact o6
  · rw [(h.2.2.1 _ o2.2).2.2.2.2.1]; exact o7
theorem GV.congr (h : AG a b) (gc : GC b) (g : GV b) : GV a := by
  have h8 := gc.2.1.2
  have h6 := gc.1.2
  obtain ⟨g1, g2, g3, g4⟩ := g
  refine ⟨fun t ht => ?_, fun q hq => ?_, ?_, ?_⟩
  · rw [h.eT] at ht
    obtain ⟨y1, y2, y3, y4, -⟩ := h.2.2.1 t (by omega)
    rw [y1, y2, y3, y4, h.eO]; exact g1 t ht
  · rw [h.eO] at hq
    obtain ⟨y1, y2, -⟩ := h.2.1 q (by omega)
    rw [y1, y2, h.1 0 (by omega)]; exact g2 q hq
  · rw [h.1 0 (by omega)]; exact g3
  · rw [h.1 0 (by omega), h.1 6 (by omega)]; exact g4
theorem GR.congr (h : AG a b) (g : GR b) : GR a := ⟨g.1.congr h, g.2.1.congr h g.1, g.2.2.congr h g.1⟩
theorem FR.congr {F : Bl} (h : AG a b) (gc : GC b) (f : FR F b) : FR F a := by
  have h8 := gc.2.1.2
  have h6 := gc.1.2
  have h12 := gc.2.2.1.2
  have hx := gc.2.2.2.1.2
  obtain ⟨⟨c1, c2, c3, c4, c5, c6, c7⟩, m1, m2, m3, m4, m5, m6⟩ := f
  refine ⟨⟨?_, ?_, ?_, ?_, fun i hi => ?_, fun i hi => ?_, fun i hi => ?_⟩, ?_, ?_, ?_, fun i hi => ?_, fun i hi => ?_, fun i hi => ?_⟩
  · rw [c1, h.1 0 (by omega)]
  · rw [c2, h.1 2 (by omega)]
  · rw [c3, h.1 3 (by omega)]
  · rw [c4, h.1 5 (by omega)]
  · rw [h.eO] at hi; obtain ⟨y1, y2, -⟩ := h.2.1 i (by omega); rw [y1, y2]; exact c5 i hi
  · rw [h.eT] at hi; obtain ⟨-, y1, -, y2, -⟩ := h.2.2.1 i (by omega); rw [y1, y2]; exact c6 i hi
  · rw [h.eX] at hi; obtain ⟨-, -, -, y1, y2, -⟩ := h.2.1 i (by omega); rw [y1, y2]; exact c7 i hi
  · rw [m1]; exact (h.1 6 (by omega)).symm
  · rw [m2]; exact (h.1 1 (by omega)).symm
  · rw [m3]; exact (h.1 4 (by omega)).symm
  · rw [h.eO] at hi; rw [m4 i hi]; exact (h.2.1 i (by omega)).2.2.1.symm
  · rw [h.eT] at hi
    obtain ⟨x1, x2, x3, x4, x5⟩ := m5 i hi
    obtain ⟨y1, y2, y3, y4, y5, y6⟩ := h.2.2.1 i (by omega)
    refine ⟨x1.trans y1.symm, x2.trans y3.symm, x3.trans y5.symm, fun z => (x4 (y5.symm.trans z)).trans y6.symm, fun z => y6.trans (x5 (fun w => z (y5.trans w)))⟩
  · have e4 : (mM a 2 0) = mM b 2 0 := h.1 4 (by omega)
    rw [e4] at hi
    have hi2 : i < 12 := by have : (mM b 2 0).toNatClampNeg = cR b := rfl; omega
    obtain ⟨x1, x2, x3⟩ := m6 i hi
    obtain ⟨y1, y2, y3⟩ := h.2.2.2 i hi2
    exact ⟨x1.trans y1.symm, x2.trans y2.symm, x3.trans y3.symm⟩
end AG
/-- what acts change is g -/
def putM (a : Ar) (g : Nat → Nat → Int32) : Ar := fun k i => match k with
  | 1 => if i = 6 then g 0 0 else if i = 1 then g 1 0 else if i = 4 then g 2 0 else a 1 i
  | 4 => g 3 i
  | 5 => g 4 i
  | 7 => g 5 i
  | 9 => g 6 i
  | 10 => g 7 i
  | 11 => g 8 i
  | 12 => g 9 i
  | 13 => g 10 i
  | _ => a k i
/-- laid so far: the row's first p -/
def LMv (M : Bl) (k p : Nat) (s : Bl) : Prop := Ff [53] [56, 57] M s ∧ s.1 57 = 0 ∧ s.1 56 = Int32.ofNat (77 * k + p) ∧ ∀ x, s.2.1 53 x = if 77 * k ≤ x ∧ x < 77 * k + p then rowS (mM M.2.1) (x - 77 * k) else M.2.1 53 x
theorem LMv_sc {M s : Bl} {k p i : Nat} {v : Int32} (hk : k < 20) (hp : p < 77) (h : LMv M k p s) (hv : M.2.1 1 i = rowS (mM M.2.1) p) : ∃ s' : Bl, f3_moves s (s.2.1 1 i) = some (M.2.1 1 i, s') ∧ bA s' 1 i (M.2.1 1 i) = s' ∧ LMv M k (p + 1) s' := by
  obtain ⟨h1, h2, h3, h4⟩ := h
  have e : s.2.1 1 i = M.2.1 1 i := by rw [h1.arr 1]
  refine ⟨_, by rw [f3_moves_lay h2 h3 (by omega), e], ?_, ?_⟩
  · exact bA_id (by show (bA s 53 (77 * k + p) (M.2.1 1 i)).2.1 1 i = _; rw [← e]; simp [bA, bS])
  · refine ⟨((h1.trans Ff.ba).trans Ff.bi).weak, h2, bI_v, fun x => ?_⟩
    have e9 : (bI (bA s 53 (77 * k + p) (M.2.1 1 i)) 56 (Int32.ofNat (77 * k + p + 1))).2.1 53 x = if x = 77 * k + p then M.2.1 1 i else s.2.1 53 x := by simp [bI, bA, bS, upd]
    rw [e9, h4 x]
    by_cases c : x = 77 * k + p
    · rw [if_pos c, if_pos (by omega), hv, c, Nat.add_sub_cancel_left]
    · rw [if_neg c]
      by_cases d : 77 * k ≤ x ∧ x < 77 * k + p
      · rw [if_pos d, if_pos (by omega)]
      · rw [if_neg d, if_neg (by omega)]
theorem LMv_row {M s : Bl} {k p f n : Nat} (hk : k < 20) (hp : p + n ≤ 77) (hf : f ≠ 53) (h : LMv M k p s) (hv : ∀ i, i < n → M.2.1 f i = rowS (mM M.2.1) (p + i)) : ∃ s' : Bl, f3_movesRow s f n = some s' ∧ LMv M k (p + n) s' := by
  obtain ⟨h1, h2, h3, h4⟩ := h
  obtain ⟨s', q1, q2, q3, q4⟩ := f3_movesRow_lay (k1 := f) (n1 := n) hf h2 h3 (by omega)
  refine ⟨s', q1, (h1.trans q2).weak, by rw [q2.fld 57]; exact h2, by rw [q3, Nat.add_assoc], fun x => ?_⟩
  rw [q4, h4 x, h1.arr f (by simpa using hf)]
  by_cases c : 77 * k + p ≤ x ∧ x < 77 * k + p + n
  · rw [if_pos c, if_pos (by omega), hv _ (by omega)]
    congr 1; omega
  · rw [if_neg c]
    by_cases d : 77 * k ≤ x ∧ x < 77 * k + p
    · rw [if_pos d, if_pos (by omega)]
    · rw [if_neg d, if_neg (by omega)]
theorem f3_movesAll_lay {M : Bl} {k : Nat} (hk : k < 20) : ∃ M' : Bl, f3_movesAll M (Int32.ofNat k) (0 : Int32) = some M' ∧ LMv M k 77 M' := by
  have e77 : (77 : Int32) * Int32.ofNat k = Int32.ofNat (77 * k) := (Int32.ofNat_mul 77 k).symm
  unfold f3_movesAll
  rw [e77, chk_h (by decide)]
  have h0 : LMv M k 0 (bI (bI M 56 (Int32.ofNat (77 * k))) 57 0) := ⟨(Ff.bi.trans Ff.bi).weak, bI_v, bI_v (s := M) (f := 56), fun x => by rw [if_neg (by omega)]; rfl⟩
  generalize bI (bI M 56 (Int32.ofNat (77 * k))) 57 0 = s0 at h0 ⊢
  obtain ⟨s1, a1, b1, h1⟩ := LMv_sc (i := 6) (v := 0) hk (by omega) h0 rfl
  rw [a1, bnd2_s, b1]
  obtain ⟨s2, a2, b2, h2⟩ := LMv_sc (i := 1) (v := 0) hk (by omega) h1 rfl
  rw [a2, bnd2_s, b2]
  obtain ⟨s3, a3, b3, h3⟩ := LMv_sc (i := 4) (v := 0) hk (by omega) h2 rfl
  rw [a3, bnd2_s, b3]
  obtain ⟨s4, a4, h4⟩ := LMv_row (f := 4) (n := 6) hk (by omega) (by decide) h3 (fun i hi => (rowS_3 (g := mM M.2.1) hi).symm)
  rw [a4, bnd_s]
  obtain ⟨s5, a5, h5⟩ := LMv_row (f := 5) (n := 8) hk (by omega) (by decide) h4 (fun i hi => (rowS_4 (g := mM M.2.1) hi).symm)
  rw [a5, bnd_s]
  obtain ⟨s6, a6, h6⟩ := LMv_row (f := 7) (n := 8) hk (by omega) (by decide) h5 (fun i hi => (rowS_5 (g := mM M.2.1) hi).symm)
  rw [a6, bnd_s]
  obtain ⟨s7, a7, h7⟩ := LMv_row (f := 9) (n := 8) hk (by omega) (by decide) h6 (fun i hi => (rowS_6 (g := mM M.2.1) hi).symm)
  rw [a7, bnd_s]
  obtain ⟨s8, a8, h8⟩ := LMv_row (f := 10) (n := 8) hk (by omega) (by decide) h7 (fun i hi => (rowS_7 (g := mM M.2.1) hi).symm)
  rw [a8, bnd_s]
  obtain ⟨s9, a9, h9⟩ := LMv_row (f := 11) (n := 12) hk (by omega) (by decide) h8 (fun i hi => (rowS_8 (g := mM M.2.1) hi).symm)
  rw [a9, bnd_s]
  obtain ⟨s10, a10, h10⟩ := LMv_row (f := 12) (n := 12) hk (by omega) (by decide) h9 (fun i hi => (rowS_9 (g := mM M.2.1) hi).symm)
  rw [a10, bnd_s]
  obtain ⟨s11, a11, h11⟩ := LMv_row (f := 13) (n := 12) hk (by omega) (by decide) h10 (fun i hi => (rowS_10 (g := mM M.2.1) hi).symm)
  rw [a11, bnd_s]
  exact ⟨s11, rfl, h11⟩
theorem mP_of {M M' : Bl} {k : Nat} (h : LMv M k 77 M') : mP M'.2.1 k 0 0 = mM M.2.1 0 0 ∧ mP M'.2.1 k 1 0 = mM M.2.1 1 0 ∧ mP M'.2.1 k 2 0 = mM M.2.1 2 0 ∧ (∀ i, i < 6 → mP M'.2.1 k 3 i = mM M.2.1 3 i) ∧ (∀ i, i < 8 → mP M'.2.1 k 4 i = mM M.2.1 4 i ∧ mP M'.2.1 k 5 i = mM M.2.1 5 i ∧ mP M'.2.1 k 6 i = mM M.2.1 6 i ∧ mP M'.2.1 k 7 i = mM M.2.1 7 i) ∧ ∀ i, i < 12 → mP M'.2.1 k 8 i = mM M.2.1 8 i ∧ mP M'.2.1 k 9 i = mM M.2.1 9 i ∧ mP M'.2.1 k 10 i = mM M.2.1 10 i := by
  have key : ∀ x, x < 77 → M'.2.1 53 (77 * k + x) = rowS (mM M.2.1) x := fun x hx => by rw [h.2.2.2, if_pos (by omega), Nat.add_sub_cancel_left]
  refine ⟨key 0 (by omega), key 1 (by omega), key 2 (by omega), fun i hi => ?_, fun i hi => ⟨?_, ?_, ?_, ?_⟩, fun i hi => ⟨?_, ?_, ?_⟩⟩
  · rw [← rowS_3 (g := mM M.2.1) hi, ← key _ (by omega)]; show M'.2.1 53 (77 * k + 3 + i) = _; rw [Nat.add_assoc]
  · rw [← rowS_4 (g := mM M.2.1) hi, ← key _ (by omega)]; show M'.2.1 53 (77 * k + 9 + i) = _; rw [Nat.add_assoc]
  · rw [← rowS_5 (g := mM M.2.1) hi, ← key _ (by omega)]; show M'.2.1 53 (77 * k + 17 + i) = _; rw [Nat.add_assoc]
  · rw [← rowS_6 (g := mM M.2.1) hi, ← key _ (by omega)]; show M'.2.1 53 (77 * k + 25 + i) = _; rw [Nat.add_assoc]
  · rw [← rowS_7 (g := mM M.2.1) hi, ← key _ (by omega)]; show M'.2.1 53 (77 * k + 33 + i) = _; rw [Nat.add_assoc]
  · rw [← rowS_8 (g := mM M.2.1) hi, ← key _ (by omega)]; show M'.2.1 53 (77 * k + 41 + i) = _; rw [Nat.add_assoc]
  · rw [← rowS_9 (g := mM M.2.1) hi, ← key _ (by omega)]; show M'.2.1 53 (77 * k + 53 + i) = _; rw [Nat.add_assoc]
  · rw [← rowS_10 (g := mM M.2.1) hi, ← key _ (by omega)]; show M'.2.1 53 (77 * k + 65 + i) = _; rw [Nat.add_assoc]
theorem f3_movesAll_take {M : Bl} {k : Nat} (hk : k < 20) : ∃ M' : Bl, f3_movesAll M (Int32.ofNat k) (1 : Int32) = some M' ∧ Ff [1, 4, 5, 7, 9, 10, 11, 12, 13] [56, 57] M M' ∧ AG M'.2.1 (putM M.2.1 (mP M.2.1 k)) := by
  have e77 : (77 : Int32) * Int32.ofNat k = Int32.ofNat (77 * k) := (Int32.ofNat_mul 77 k).symm
  unfold f3_movesAll
  rw [e77, chk_h (by decide)]
  have f0 : Ff [] [56, 57] M (bI (bI M 56 (Int32.ofNat (77 * k))) 57 1) := Ff.bi.trans Ff.bi
  have g0 : (bI (bI M 56 (Int32.ofNat (77 * k))) 57 1).1 57 = 1 := bI_v
  have p0 : (bI (bI M 56 (Int32.ofNat (77 * k))) 57 1).1 56 = Int32.ofNat (77 * k) := bI_v (s := M) (f := 56)
  generalize bI (bI M 56 (Int32.ofNat (77 * k))) 57 1 = s0 at f0 g0 p0 ⊢
  rw [f3_moves_take g0 p0 (by omega), bnd2_s]
  have f1 : Ff [1] [56, 57] M (bA (bI s0 56 (Int32.ofNat (77 * k + 1))) 1 6 (s0.2.1 53 (77 * k))) := ((f0.trans Ff.bi).trans Ff.ba).weak
  have g1 : (bA (bI s0 56 (Int32.ofNat (77 * k + 1))) 1 6 (s0.2.1 53 (77 * k))).1 57 = 1 := g0
  have p1 : (bA (bI s0 56 (Int32.ofNat (77 * k + 1))) 1 6 (s0.2.1 53 (77 * k))).1 56 = Int32.ofNat (77 * k + 1) := bI_v (s := s0) (f := 56)
  have v1 : ∀ i, (bA (bI s0 56 (Int32.ofNat (77 * k + 1))) 1 6 (s0.2.1 53 (77 * k))).2.1 1 i = if i = 6 then M.2.1 53 (77 * k) else M.2.1 1 i := by
    intro i; rw [← f0.arr 53, ← f0.arr 1]; simp [bA, bS, upd, bI]
  generalize bA (bI s0 56 (Int32.ofNat (77 * k + 1))) 1 6 (s0.2.1 53 (77 * k)) = s1 at f1 g1 p1 v1 ⊢
  rw [f3_moves_take g1 p1 (by omega), bnd2_s]
  have f2 : Ff [1] [56, 57] M (bA (bI s1 56 (Int32.ofNat (77 * k + 1 + 1))) 1 1 (s1.2.1 53 (77 * k + 1))) := ((f1.trans Ff.bi).trans Ff.ba).weak
  have g2 : (bA (bI s1 56 (Int32.ofNat (77 * k + 1 + 1))) 1 1 (s1.2.1 53 (77 * k + 1))).1 57 = 1 := g1
  have p2 : (bA (bI s1 56 (Int32.ofNat (77 * k + 1 + 1))) 1 1 (s1.2.1 53 (77 * k + 1))).1 56 = Int32.ofNat (77 * k + 2) := bI_v (s := s1) (f := 56)
  have v2 : ∀ i, (bA (bI s1 56 (Int32.ofNat (77 * k + 1 + 1))) 1 1 (s1.2.1 53 (77 * k + 1))).2.1 1 i = if i = 1 then M.2.1 53 (77 * k + 1) else if i = 6 then M.2.1 53 (77 * k) else M.2.1 1 i := by
    intro i; rw [← v1 i, ← f1.arr 53]; simp [bA, bS, upd, bI]
  generalize bA (bI s1 56 (Int32.ofNat (77 * k + 1 + 1))) 1 1 (s1.2.1 53 (77 * k + 1)) = s2 at f2 g2 p2 v2 ⊢
  rw [f3_moves_take g2 p2 (by omega), bnd2_s]
  have f3 : Ff [1] [56, 57] M (bA (bI s2 56 (Int32.ofNat (77 * k + 2 + 1))) 1 4 (s2.2.1 53 (77 * k + 2))) := ((f2.trans Ff.bi).trans Ff.ba).weak
  have g3 : (bA (bI s2 56 (Int32.ofNat (77 * k + 2 + 1))) 1 4 (s2.2.1 53 (77 * k + 2))).1 57 = 1 := g2
  have p3 : (bA (bI s2 56 (Int32.ofNat (77 * k + 2 + 1))) 1 4 (s2.2.1 53 (77 * k + 2))).1 56 = Int32.ofNat (77 * k + 3) := bI_v (s := s2) (f := 56)
  have v3 : ∀ i, (bA (bI s2 56 (Int32.ofNat (77 * k + 2 + 1))) 1 4 (s2.2.1 53 (77 * k + 2))).2.1 1 i = if i = 4 then M.2.1 53 (77 * k + 2) else if i = 1 then M.2.1 53 (77 * k + 1) else if i = 6 then M.2.1 53 (77 * k) else M.2.1 1 i := by
    intro i; rw [← v2 i, ← f2.arr 53]; simp [bA, bS, upd, bI]
  generalize bA (bI s2 56 (Int32.ofNat (77 * k + 2 + 1))) 1 4 (s2.2.1 53 (77 * k + 2)) = s3 at f3 g3 p3 v3 ⊢
  obtain ⟨s4, a4, c4, p4, w4⟩ := f3_movesRow_take (k1 := 4) (n1 := 6) (by decide) g3 p3 (by omega)
  rw [a4, bnd_s]
  have f4 : Ff [1, 4] [56, 57] M s4 := (f3.trans c4).weak
  have g4 : s4.1 57 = 1 := by rw [c4.fld 57]; exact g3
  rw [f3.arr 53] at w4
  obtain ⟨s5, a5, c5, p5, w5⟩ := f3_movesRow_take (k1 := 5) (n1 := 8) (by decide) g4 p4 (by omega)
  rw [a5, bnd_s]
  have f5 : Ff [1, 4, 5] [56, 57] M s5 := (f4.trans c5).weak
  have g5 : s5.1 57 = 1 := by rw [c5.fld 57]; exact g4
  rw [f4.arr 53] at w5
  obtain ⟨s6, a6, c6, p6, w6⟩ := f3_movesRow_take (k1 := 7) (n1 := 8) (by decide) g5 p5 (by omega)
  rw [a6, bnd_s]
  have f6 : Ff [1, 4, 5, 7] [56, 57] M s6 := (f5.trans c6).weak
  have g6 : s6.1 57 = 1 := by rw [c6.fld 57]; exact g5
  rw [f5.arr 53] at w6
  obtain ⟨s7, a7, c7, p7, w7⟩ := f3_movesRow_take (k1 := 9) (n1 := 8) (by decide) g6 p6 (by omega)
  rw [a7, bnd_s]
  have f7 : Ff [1, 4, 5, 7, 9] [56, 57] M s7 := (f6.trans c7).weak
  have g7 : s7.1 57 = 1 := by rw [c7.fld 57]; exact g6
  rw [f6.arr 53] at w7
  obtain ⟨s8, a8, c8, p8, w8⟩ := f3_movesRow_take (k1 := 10) (n1 := 8) (by decide) g7 p7 (by omega)
  rw [a8, bnd_s]
  have f8 : Ff [1, 4, 5, 7, 9, 10] [56, 57] M s8 := (f7.trans c8).weak
  have g8 : s8.1 57 = 1 := by rw [c8.fld 57]; exact g7
  rw [f7.arr 53] at w8
  obtain ⟨s9, a9, c9, p9, w9⟩ := f3_movesRow_take (k1 := 11) (n1 := 12) (by decide) g8 p8 (by omega)
  rw [a9, bnd_s]
  have f9 : Ff [1, 4, 5, 7, 9, 10, 11] [56, 57] M s9 := (f8.trans c9).weak
  have g9 : s9.1 57 = 1 := by rw [c9.fld 57]; exact g8
  rw [f8.arr 53] at w9
  obtain ⟨s10, a10, c10, p10, w10⟩ := f3_movesRow_take (k1 := 12) (n1 := 12) (by decide) g9 p9 (by omega)
  rw [a10, bnd_s]
  have f10 : Ff [1, 4, 5, 7, 9, 10, 11, 12] [56, 57] M s10 := (f9.trans c10).weak
  have g10 : s10.1 57 = 1 := by rw [c10.fld 57]; exact g9
  rw [f9.arr 53] at w10
  obtain ⟨s11, a11, c11, p11, w11⟩ := f3_movesRow_take (k1 := 13) (n1 := 12) (by decide) g10 p10 (by omega)
  rw [a11, bnd_s]
  have f11 : Ff [1, 4, 5, 7, 9, 10, 11, 12, 13] [56, 57] M s11 := (f10.trans c11).weak
  have g11 : s11.1 57 = 1 := by rw [c11.fld 57]; exact g10
  rw [f10.arr 53] at w11
  refine ⟨s11, rfl, f11.weak, ?_⟩
  refine ⟨fun i hi => ?_, fun i hi => ⟨?_, ?_, ?_, ?_, ?_, ?_, ?_, ?_⟩, fun i hi => ⟨?_, ?_, ?_, ?_, ?_, ?_⟩, fun i hi => ⟨?_, ?_, ?_⟩⟩
  · rw [c11.arr 1, c10.arr 1, c9.arr 1, c8.arr 1, c7.arr 1, c6.arr 1, c5.arr 1, c4.arr 1, v3]
    show _ = if i = 6 then M.2.1 53 (77 * k + 0 + 0) else if i = 1 then M.2.1 53 (77 * k + 1 + 0) else if i = 4 then M.2.1 53 (77 * k + 2 + 0) else M.2.1 1 i
    by_cases e4 : i = 4
    · subst e4; rfl
    · by_cases e1 : i = 1
      · subst e1; rfl
      · by_cases e6 : i = 6
        · subst e6; rfl
        · rw [if_neg e4, if_neg e1, if_neg e6, if_neg e6, if_neg e1, if_neg e4]
  · rw [f11.arr 2]; rfl
  · rw [f11.arr 3]; rfl
  · rw [c11.arr 4, c10.arr 4, c9.arr 4, c8.arr 4, c7.arr 4, c6.arr 4, c5.arr 4, w4, if_pos hi]; rfl
  · rw [f11.arr 14]; rfl
  · rw [f11.arr 15]; rfl
  · rw [f11.arr 16]; rfl
  · rw [f11.arr 17]; rfl
  · rw [f11.arr 18]; rfl
  · rw [c11.arr 5, c10.arr 5, c9.arr 5, c8.arr 5, c7.arr 5, c6.arr 5, w5, if_pos hi]; rfl
  · rw [f11.arr 6]; rfl
  · rw [c11.arr 7, c10.arr 7, c9.arr 7, c8.arr 7, c7.arr 7, w6, if_pos hi]; rfl
  · rw [f11.arr 8]; rfl
  · rw [c11.arr 9, c10.arr 9, c9.arr 9, c8.arr 9, w7, if_pos hi]; rfl
  · rw [c11.arr 10, c10.arr 10, c9.arr 10, w8, if_pos hi]; rfl
  · rw [c11.arr 11, c10.arr 11, w9, if_pos hi]; rfl
  · rw [c11.arr 12, w10, if_pos hi]; rfl
  · rw [w11, if_pos hi]; rfl

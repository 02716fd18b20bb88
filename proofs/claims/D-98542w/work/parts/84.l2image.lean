/-! PLAIN LAW: the Model's images; printed by gen/l2image.py -/
set_option maxRecDepth 100000
def imO : Nat → Nat
  | 1 => 1
  | 2 => 10
  | 3 => 16
  | 4 => 22
  | 5 => 28
  | 6 => 36
  | 7 => 44
  | 8 => 52
  | 9 => 60
  | 10 => 68
  | 11 => 76
  | 12 => 88
  | 13 => 100
  | 14 => 112
  | 15 => 118
  | 16 => 124
  | 17 => 130
  | 18 => 136
  | 53 => 142
  | _ => 0
def imL : Nat → Nat
  | 1 => 9
  | 2 => 6
  | 3 => 6
  | 4 => 6
  | 5 => 8
  | 6 => 8
  | 7 => 8
  | 8 => 8
  | 9 => 8
  | 10 => 8
  | 11 => 12
  | 12 => 12
  | 13 => 12
  | 14 => 6
  | 15 => 6
  | 16 => 6
  | 17 => 6
  | 18 => 6
  | 53 => 1540
  | _ => 1
/-- the arrays of the k-th image; its many of the past -/
def imA (a : Ar) (k : Nat) : Ar := fun f i => a 69 (1900 * k + imO f + i)
def imP (a : Ar) (k : Nat) : Int32 := a 69 (1900 * k)
/-- laid so far: the rows done, the image's first p -/
def LC (M : Bl) (k p : Nat) (done : List Nat) (s : Bl) : Prop := Ff [54, 69] [55, 71, 72] M s ∧ s.1 55 = M.1 55 ∧ s.1 72 = 0 ∧ s.1 71 = Int32.ofNat (1900 * k + p) ∧ (∀ f, f ∈ done → imO f + imL f ≤ p ∧ ∀ i, i < imL f → s.2.1 69 (1900 * k + imO f + i) = M.2.1 f i) ∧ (∀ x, x < 1900 * k ∨ 1900 * k + 1900 ≤ x → s.2.1 69 x = M.2.1 69 x) ∧ (0 < p → s.2.1 69 (1900 * k) = M.1 55)
theorem LC_row {M s : Bl} {k p f : Nat} {done : List Nat} (hk : k < 5) (h : LC M k p done s) (hf : f ≠ 54 ∧ f ≠ 69) (ho : imO f = p) (hp : 0 < p) (hl : p + imL f ≤ 1900) : ∃ s' : Bl, f3_carryRow s f (imL f) = some s' ∧ LC M k (p + imL f) (f :: done) s' := by
  obtain ⟨h1, h2, h3, h4, h5, h6, h7⟩ := h
  obtain ⟨s', q1, q2, q3, q4⟩ := f3_carryRow_lay (k1 := f) (n1 := imL f) hf.2 h3 h4 (by omega)
  have ef : s.2.1 f = M.2.1 f := h1.arr f (by simp [hf.1, hf.2])
  refine ⟨s', q1, (h1.trans q2).weak, by rw [q2.fld 55]; exact h2, by rw [q2.fld 72]; exact h3, by rw [q3, Nat.add_assoc], fun g hg => ?_, fun x hx => ?_, fun _ => ?_⟩
  · rcases List.mem_cons.mp hg with e | e
    · subst e
      refine ⟨by omega, fun i hi => ?_⟩
      rw [q4, ho, if_pos (by omega), ef, Nat.add_sub_cancel_left]
    · obtain ⟨g1, g2⟩ := h5 g e
      refine ⟨by omega, fun i hi => ?_⟩
      rw [q4, if_neg (by omega)]
      exact g2 i hi
  · rw [q4, if_neg (by omega)]; exact h6 x hx
  · rw [q4, if_neg (by omega)]; exact h7 hp
theorem f3_carriesAll_lay {M : Bl} {k : Nat} (hk : k < 5) : ∃ M' : Bl, f3_carriesAll M (Int32.ofNat k) (0 : Int32) = some M' ∧ LC M k 1682 [53, 18, 17, 16, 15, 14, 13, 12, 11, 10, 9, 8, 7, 6, 5, 4, 3, 2, 1] M' := by
  have e19 : (1900 : Int32) * Int32.ofNat k = Int32.ofNat (1900 * k) := (Int32.ofNat_mul 1900 k).symm
  unfold f3_carriesAll
  rw [e19, chk_h (by decide)]
  have f0 : Ff [54] [71, 72] M (bA (bI (bI M 71 (Int32.ofNat (1900 * k))) 72 0) 54 0 ((bI (bI M 71 (Int32.ofNat (1900 * k))) 72 0).1 55)) := ((Ff.bi.trans Ff.bi).trans Ff.ba).weak
  have g0 : (bA (bI (bI M 71 (Int32.ofNat (1900 * k))) 72 0) 54 0 ((bI (bI M 71 (Int32.ofNat (1900 * k))) 72 0).1 55)).1 72 = 0 := bI_v (s := bI M 71 (Int32.ofNat (1900 * k))) (f := 72)
  have p0 : (bA (bI (bI M 71 (Int32.ofNat (1900 * k))) 72 0) 54 0 ((bI (bI M 71 (Int32.ofNat (1900 * k))) 72 0).1 55)).1 71 = Int32.ofNat (1900 * k) := bI_v (s := M) (f := 71)
  have v0 : (bA (bI (bI M 71 (Int32.ofNat (1900 * k))) 72 0) 54 0 ((bI (bI M 71 (Int32.ofNat (1900 * k))) 72 0).1 55)).2.1 54 0 = M.1 55 := by simp [bA, bS, upd, bI]
  generalize bA (bI (bI M 71 (Int32.ofNat (1900 * k))) 72 0) 54 0 ((bI (bI M 71 (Int32.ofNat (1900 * k))) 72 0).1 55) = s0 at f0 g0 p0 v0 ⊢
  obtain ⟨t, q1, q2, q3, q4⟩ := f3_carryRow_lay (k1 := 54) (n1 := 1) (by decide) g0 p0 (by omega)
  rw [q1, bnd_s]
  have v1 : t.2.1 54 0 = M.1 55 := by rw [q2.arr 54]; exact v0
  have h1 : LC M k 1 [] (bI t 55 (t.2.1 54 0)) := by
    refine ⟨((f0.trans q2).trans Ff.bi).weak, by rw [v1]; exact bI_v, by show t.1 72 = 0; rw [q2.fld 72]; exact g0, q3, fun f hf => (by cases hf), fun x hx => ?_, fun _ => ?_⟩
    · show t.2.1 69 x = _
      rw [q4, if_neg (by omega), f0.arr 69]
    · show t.2.1 69 (1900 * k) = _
      rw [q4, if_pos (by omega), Nat.sub_self]; exact v0
  generalize bI t 55 (t.2.1 54 0) = s1 at h1 ⊢
  obtain ⟨s2, a2, h2⟩ := LC_row (f := 1) hk h1 (by decide) rfl (by decide) (by decide)
  have a2 : f3_carryRow s1 1 9 = some s2 := a2
  rw [a2, bnd_s]
  obtain ⟨s3, a3, h3⟩ := LC_row (f := 2) hk h2 (by decide) rfl (by decide) (by decide)
  have a3 : f3_carryRow s2 2 6 = some s3 := a3
  rw [a3, bnd_s]
  obtain ⟨s4, a4, h4⟩ := LC_row (f := 3) hk h3 (by decide) rfl (by decide) (by decide)
  have a4 : f3_carryRow s3 3 6 = some s4 := a4
  rw [a4, bnd_s]
  obtain ⟨s5, a5, h5⟩ := LC_row (f := 4) hk h4 (by decide) rfl (by decide) (by decide)
  have a5 : f3_carryRow s4 4 6 = some s5 := a5
  rw [a5, bnd_s]
  obtain ⟨s6, a6, h6⟩ := LC_row (f := 5) hk h5 (by decide) rfl (by decide) (by decide)
  have a6 : f3_carryRow s5 5 8 = some s6 := a6
  rw [a6, bnd_s]
  obtain ⟨s7, a7, h7⟩ := LC_row (f := 6) hk h6 (by decide) rfl (by decide) (by decide)
  have a7 : f3_carryRow s6 6 8 = some s7 := a7
  rw [a7, bnd_s]
  obtain ⟨s8, a8, h8⟩ := LC_row (f := 7) hk h7 (by decide) rfl (by decide) (by decide)
  have a8 : f3_carryRow s7 7 8 = some s8 := a8
  rw [a8, bnd_s]
  obtain ⟨s9, a9, h9⟩ := LC_row (f := 8) hk h8 (by decide) rfl (by decide) (by decide)
  have a9 : f3_carryRow s8 8 8 = some s9 := a9
  rw [a9, bnd_s]
  obtain ⟨s10, a10, h10⟩ := LC_row (f := 9) hk h9 (by decide) rfl (by decide) (by decide)
  have a10 : f3_carryRow s9 9 8 = some s10 := a10
  rw [a10, bnd_s]
  obtain ⟨s11, a11, h11⟩ := LC_row (f := 10) hk h10 (by decide) rfl (by decide) (by decide)
  have a11 : f3_carryRow s10 10 8 = some s11 := a11
  rw [a11, bnd_s]
  obtain ⟨s12, a12, h12⟩ := LC_row (f := 11) hk h11 (by decide) rfl (by decide) (by decide)
  have a12 : f3_carryRow s11 11 12 = some s12 := a12
  rw [a12, bnd_s]
  obtain ⟨s13, a13, h13⟩ := LC_row (f := 12) hk h12 (by decide) rfl (by decide) (by decide)
  have a13 : f3_carryRow s12 12 12 = some s13 := a13
  rw [a13, bnd_s]
  obtain ⟨s14, a14, h14⟩ := LC_row (f := 13) hk h13 (by decide) rfl (by decide) (by decide)
  have a14 : f3_carryRow s13 13 12 = some s14 := a14
  rw [a14, bnd_s]
  obtain ⟨s15, a15, h15⟩ := LC_row (f := 14) hk h14 (by decide) rfl (by decide) (by decide)
  have a15 : f3_carryRow s14 14 6 = some s15 := a15
  rw [a15, bnd_s]
  obtain ⟨s16, a16, h16⟩ := LC_row (f := 15) hk h15 (by decide) rfl (by decide) (by decide)
  have a16 : f3_carryRow s15 15 6 = some s16 := a16
  rw [a16, bnd_s]
  obtain ⟨s17, a17, h17⟩ := LC_row (f := 16) hk h16 (by decide) rfl (by decide) (by decide)
  have a17 : f3_carryRow s16 16 6 = some s17 := a17
  rw [a17, bnd_s]
  obtain ⟨s18, a18, h18⟩ := LC_row (f := 17) hk h17 (by decide) rfl (by decide) (by decide)
  have a18 : f3_carryRow s17 17 6 = some s18 := a18
  rw [a18, bnd_s]
  obtain ⟨s19, a19, h19⟩ := LC_row (f := 18) hk h18 (by decide) rfl (by decide) (by decide)
  have a19 : f3_carryRow s18 18 6 = some s19 := a19
  rw [a19, bnd_s]
  obtain ⟨s20, a20, h20⟩ := LC_row (f := 53) hk h19 (by decide) rfl (by decide) (by decide)
  have a20 : f3_carryRow s19 53 1540 = some s20 := a20
  rw [a20, bnd_s]
  exact ⟨s20, rfl, h20⟩
theorem LC_AG {M M' : Bl} {k : Nat} (h : LC M k 1682 [53, 18, 17, 16, 15, 14, 13, 12, 11, 10, 9, 8, 7, 6, 5, 4, 3, 2, 1] M') : AG (imA M'.2.1 k) M.2.1 ∧ (∀ x, x < 1540 → imA M'.2.1 k 53 x = M.2.1 53 x) ∧ imP M'.2.1 k = M.1 55 := by
  obtain ⟨-, -, -, -, h5, -, h7⟩ := h
  refine ⟨⟨(h5 1 (by decide)).2, fun i hi => ⟨(h5 2 (by decide)).2 i hi, (h5 3 (by decide)).2 i hi, (h5 4 (by decide)).2 i hi, (h5 14 (by decide)).2 i hi, (h5 15 (by decide)).2 i hi, (h5 16 (by decide)).2 i hi, (h5 17 (by decide)).2 i hi, (h5 18 (by decide)).2 i hi⟩, fun i hi => ⟨(h5 5 (by decide)).2 i hi, (h5 6 (by decide)).2 i hi, (h5 7 (by decide)).2 i hi, (h5 8 (by decide)).2 i hi, (h5 9 (by decide)).2 i hi, (h5 10 (by decide)).2 i hi⟩, fun i hi => ⟨(h5 11 (by decide)).2 i hi, (h5 12 (by decide)).2 i hi, (h5 13 (by decide)).2 i hi⟩⟩, (h5 53 (by decide)).2, h7 (by decide)⟩
/-- taken back so far -/
def TC (M : Bl) (k p : Nat) (done : List Nat) (s : Bl) : Prop := Ff (54 :: done) [55, 71, 72] M s ∧ s.1 55 = imP M.2.1 k ∧ s.1 72 = 1 ∧ s.1 71 = Int32.ofNat (1900 * k + p) ∧ ∀ f, f ∈ done → ∀ i, i < imL f → s.2.1 f i = imA M.2.1 k f i
theorem TC_row {M s : Bl} {k p f : Nat} {done : List Nat} (hk : k < 5) (h : TC M k p done s) (hf : f ≠ 54 ∧ f ≠ 69) (hd : 69 ∉ done ∧ f ∉ done) (ho : imO f = p) (hl : p + imL f ≤ 1900) : ∃ s' : Bl, f3_carryRow s f (imL f) = some s' ∧ TC M k (p + imL f) (f :: done) s' := by
  obtain ⟨h1, h2, h3, h4, h5⟩ := h
  obtain ⟨s', q1, q2, q3, q4⟩ := f3_carryRow_take (k1 := f) (n1 := imL f) hf.2 h3 h4 (by omega)
  have e69 : s.2.1 69 = M.2.1 69 := h1.arr 69 (by simp [hd.1])
  refine ⟨s', q1, ?_, by rw [q2.fld 55]; exact h2, by rw [q2.fld 72]; exact h3, by rw [q3, Nat.add_assoc], fun g hg i hi => ?_⟩
  · refine (h1.trans q2).weak ?_ (by decide)
    intro x hx
    simp only [List.cons_append, List.mem_cons, List.mem_append, List.not_mem_nil, or_false] at hx ⊢
    rcases hx with e | e | e
    · exact Or.inl e
    · exact Or.inr (Or.inr e)
    · exact Or.inr (Or.inl e)
  · rcases List.mem_cons.mp hg with e | e
    · subst e
      rw [q4, if_pos hi, e69]
      show _ = M.2.1 69 (1900 * k + imO g + i)
      rw [ho]
    · rw [q2.arr g (by simp; intro z; subst z; exact hd.2 e)]
      exact h5 g e i hi
theorem f3_carriesAll_take {M : Bl} {k : Nat} (hk : k < 5) : ∃ M' : Bl, f3_carriesAll M (Int32.ofNat k) (1 : Int32) = some M' ∧ TC M k 1682 [53, 18, 17, 16, 15, 14, 13, 12, 11, 10, 9, 8, 7, 6, 5, 4, 3, 2, 1] M' := by
  have e19 : (1900 : Int32) * Int32.ofNat k = Int32.ofNat (1900 * k) := (Int32.ofNat_mul 1900 k).symm
  unfold f3_carriesAll
  rw [e19, chk_h (by decide)]
  have f0 : Ff [54] [71, 72] M (bA (bI (bI M 71 (Int32.ofNat (1900 * k))) 72 1) 54 0 ((bI (bI M 71 (Int32.ofNat (1900 * k))) 72 1).1 55)) := ((Ff.bi.trans Ff.bi).trans Ff.ba).weak
  have g0 : (bA (bI (bI M 71 (Int32.ofNat (1900 * k))) 72 1) 54 0 ((bI (bI M 71 (Int32.ofNat (1900 * k))) 72 1).1 55)).1 72 = 1 := bI_v (s := bI M 71 (Int32.ofNat (1900 * k))) (f := 72)
  have p0 : (bA (bI (bI M 71 (Int32.ofNat (1900 * k))) 72 1) 54 0 ((bI (bI M 71 (Int32.ofNat (1900 * k))) 72 1).1 55)).1 71 = Int32.ofNat (1900 * k) := bI_v (s := M) (f := 71)
  generalize bA (bI (bI M 71 (Int32.ofNat (1900 * k))) 72 1) 54 0 ((bI (bI M 71 (Int32.ofNat (1900 * k))) 72 1).1 55) = s0 at f0 g0 p0 ⊢
  obtain ⟨t, q1, q2, q3, q4⟩ := f3_carryRow_take (k1 := 54) (n1 := 1) (by decide) g0 p0 (by omega)
  rw [q1, bnd_s]
  have h1 : TC M k 1 [] (bI t 55 (t.2.1 54 0)) := by
    refine ⟨((f0.trans q2).trans Ff.bi).weak, ?_, by show t.1 72 = 1; rw [q2.fld 72]; exact g0, q3, fun f hf => by cases hf⟩
    rw [q4, if_pos (by decide), f0.arr 69]; exact bI_v
  generalize bI t 55 (t.2.1 54 0) = s1 at h1 ⊢
  obtain ⟨s2, a2, h2⟩ := TC_row (f := 1) hk h1 (by decide) (by decide) rfl (by decide)
  have a2 : f3_carryRow s1 1 9 = some s2 := a2
  rw [a2, bnd_s]
  obtain ⟨s3, a3, h3⟩ := TC_row (f := 2) hk h2 (by decide) (by decide) rfl (by decide)
  have a3 : f3_carryRow s2 2 6 = some s3 := a3
  rw [a3, bnd_s]
  obtain ⟨s4, a4, h4⟩ := TC_row (f := 3) hk h3 (by decide) (by decide) rfl (by decide)
  have a4 : f3_carryRow s3 3 6 = some s4 := a4
  rw [a4, bnd_s]
  obtain ⟨s5, a5, h5⟩ := TC_row (f := 4) hk h4 (by decide) (by decide) rfl (by decide)
  have a5 : f3_carryRow s4 4 6 = some s5 := a5
  rw [a5, bnd_s]
  obtain ⟨s6, a6, h6⟩ := TC_row (f := 5) hk h5 (by decide) (by decide) rfl (by decide)
  have a6 : f3_carryRow s5 5 8 = some s6 := a6
  rw [a6, bnd_s]
  obtain ⟨s7, a7, h7⟩ := TC_row (f := 6) hk h6 (by decide) (by decide) rfl (by decide)
  have a7 : f3_carryRow s6 6 8 = some s7 := a7
  rw [a7, bnd_s]
  obtain ⟨s8, a8, h8⟩ := TC_row (f := 7) hk h7 (by decide) (by decide) rfl (by decide)
  have a8 : f3_carryRow s7 7 8 = some s8 := a8
  rw [a8, bnd_s]
  obtain ⟨s9, a9, h9⟩ := TC_row (f := 8) hk h8 (by decide) (by decide) rfl (by decide)
  have a9 : f3_carryRow s8 8 8 = some s9 := a9
  rw [a9, bnd_s]
  obtain ⟨s10, a10, h10⟩ := TC_row (f := 9) hk h9 (by decide) (by decide) rfl (by decide)
  have a10 : f3_carryRow s9 9 8 = some s10 := a10
  rw [a10, bnd_s]
  obtain ⟨s11, a11, h11⟩ := TC_row (f := 10) hk h10 (by decide) (by decide) rfl (by decide)
  have a11 : f3_carryRow s10 10 8 = some s11 := a11
  rw [a11, bnd_s]
  obtain ⟨s12, a12, h12⟩ := TC_row (f := 11) hk h11 (by decide) (by decide) rfl (by decide)
  have a12 : f3_carryRow s11 11 12 = some s12 := a12
  rw [a12, bnd_s]
  obtain ⟨s13, a13, h13⟩ := TC_row (f := 12) hk h12 (by decide) (by decide) rfl (by decide)
  have a13 : f3_carryRow s12 12 12 = some s13 := a13
  rw [a13, bnd_s]
  obtain ⟨s14, a14, h14⟩ := TC_row (f := 13) hk h13 (by decide) (by decide) rfl (by decide)
  have a14 : f3_carryRow s13 13 12 = some s14 := a14
  rw [a14, bnd_s]
  obtain ⟨s15, a15, h15⟩ := TC_row (f := 14) hk h14 (by decide) (by decide) rfl (by decide)
  have a15 : f3_carryRow s14 14 6 = some s15 := a15
  rw [a15, bnd_s]
  obtain ⟨s16, a16, h16⟩ := TC_row (f := 15) hk h15 (by decide) (by decide) rfl (by decide)
  have a16 : f3_carryRow s15 15 6 = some s16 := a16
  rw [a16, bnd_s]
  obtain ⟨s17, a17, h17⟩ := TC_row (f := 16) hk h16 (by decide) (by decide) rfl (by decide)
  have a17 : f3_carryRow s16 16 6 = some s17 := a17
  rw [a17, bnd_s]
  obtain ⟨s18, a18, h18⟩ := TC_row (f := 17) hk h17 (by decide) (by decide) rfl (by decide)
  have a18 : f3_carryRow s17 17 6 = some s18 := a18
  rw [a18, bnd_s]
  obtain ⟨s19, a19, h19⟩ := TC_row (f := 18) hk h18 (by decide) (by decide) rfl (by decide)
  have a19 : f3_carryRow s18 18 6 = some s19 := a19
  rw [a19, bnd_s]
  obtain ⟨s20, a20, h20⟩ := TC_row (f := 53) hk h19 (by decide) (by decide) rfl (by decide)
  have a20 : f3_carryRow s19 53 1540 = some s20 := a20
  rw [a20, bnd_s]
  exact ⟨s20, rfl, h20⟩
theorem TC_AG {M M' : Bl} {k : Nat} (h : TC M k 1682 [53, 18, 17, 16, 15, 14, 13, 12, 11, 10, 9, 8, 7, 6, 5, 4, 3, 2, 1] M') : AG M'.2.1 (imA M.2.1 k) ∧ (∀ x, x < 1540 → M'.2.1 53 x = imA M.2.1 k 53 x) := by
  obtain ⟨-, -, -, -, h5⟩ := h
  exact ⟨⟨h5 1 (by decide), fun i hi => ⟨h5 2 (by decide) i hi, h5 3 (by decide) i hi, h5 4 (by decide) i hi, h5 14 (by decide) i hi, h5 15 (by decide) i hi, h5 16 (by decide) i hi, h5 17 (by decide) i hi, h5 18 (by decide) i hi⟩, fun i hi => ⟨h5 5 (by decide) i hi, h5 6 (by decide) i hi, h5 7 (by decide) i hi, h5 8 (by decide) i hi, h5 9 (by decide) i hi, h5 10 (by decide) i hi⟩, fun i hi => ⟨h5 11 (by decide) i hi, h5 12 (by decide) i hi, h5 13 (by decide) i hi⟩⟩, h5 53 (by decide)⟩

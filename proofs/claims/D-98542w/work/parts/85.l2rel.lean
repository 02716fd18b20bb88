/-! PLAIN LAW: the relation of the raft and the Model; what is asked -/
set_option maxRecDepth 100000
/-- offers alike -/
def FO (F : Bl) (a : Ar) : Prop := F.1 8 = a 1 7 ∧ ∀ i, i < cF a → (F.2.1 23 (3 * i) = a 16 i ∧ F.2.1 23 (3 * i + 1) = a 17 i ∧ F.2.1 23 (3 * i + 2) = a 18 i) ∧ (0 ≤ (a 16 i).toInt ∧ (a 16 i).toInt ≤ 50) ∧ (0 ≤ (a 17 i).toInt ∧ (a 17 i).toInt ≤ 99) ∧ (0 ≤ (a 18 i).toInt ∧ (a 18 i).toInt ≤ 9)
/-- the past alike -/
def PR (F : Bl) (a : Ar) (p : Int32) : Prop := F.1 7 = p ∧ ∃ n, n ≤ 20 ∧ p = Int32.ofNat n ∧ ∀ k, k < n → GR (putM a (mP a k)) ∧ MR (cO a) (cT a) (mU F k) (mP a k)
def RVa (F : Bl) (a : Ar) (p : Int32) : Prop := FR F a ∧ GR a ∧ FO F a ∧ PR F a p
/-- no river -/
def NR (a : Ar) (p : Int32) : Prop := (∀ i, i < 8 → a 1 i = 0) ∧ p = 0
def RV (x : Nat → Bl) (M : Bl) : Prop := ((x 0).1 0 = 0 ∧ NR M.2.1 (M.1 55)) ∨ (¬ (x 0).1 0 = 0 ∧ RVa (x 1) M.2.1 (M.1 55))
/-- images alike -/
def RI (x : Nat → Bl) (M : Bl) : Prop := ∀ k, k < 4 → ((x 0).2.1 28 k = 0 ∧ M.2.1 70 k = 0) ∨ (¬ (x 0).2.1 28 k = 0 ∧ ¬ M.2.1 70 k = 0 ∧ ((x (9 + k)).1 2 = imA M.2.1 k 1 8 ∧ 0 ≤ ((x (9 + k)).1 2).toInt) ∧ (((x (9 + k)).1 1 = 0 ∧ NR (imA M.2.1 k) (imP M.2.1 k)) ∨ (¬ (x (9 + k)).1 1 = 0 ∧ RVa (x (5 + k)) (imA M.2.1 k) (imP M.2.1 k))))
/-- the tape alike, bytes on it -/
def RT (x : Nat → Bl) (M : Bl) : Prop := ∃ T, T ≤ 400 ∧ (x 0).1 8 = Int32.ofNat T ∧ M.1 31 = Int32.ofNat T ∧ ∀ i, i < T → (x 0).2.1 7 i = M.2.1 41 i ∧ -128 ≤ (M.2.1 41 i).toInt ∧ (M.2.1 41 i).toInt ≤ 127
/-- how many rules; where they are -/
def RR (x : Nat → Bl) (M : Bl) : Prop := ∃ R, R ≤ 6 ∧ (x 0).1 13 = Int32.ofNat R ∧ M.1 35 = Int32.ofNat R ∧ ∀ r, r < 6 → ((x 0).2.1 12 r = 0 ↔ R ≤ r)
def blankF (F : Bl) : Prop := (∀ f, f < 9 → F.1 f = 0) ∧ ∀ k i, F.2.1 k i = 0
def RL (x : Nat → Bl) (M : Bl) : Prop := RV x M ∧ RI x M ∧ RT x M ∧ RR x M ∧ ((x 0).1 5 = M.2.1 1 8 ∧ 0 ≤ (M.2.1 1 8).toInt) ∧ blankF (x 4) ∧ M.1 40 = 12
/-- what of the raft else stays -/
def Kx (x x' : Nat → Bl) : Prop := (∀ f, f ∈ [0, 5, 8, 13] → (x' 0).1 f = (x 0).1 f) ∧ (∀ f, f ∈ [7, 12, 28] → (x' 0).2.1 f = (x 0).2.1 f) ∧ ∀ j, j ∈ [4, 5, 6, 7, 8, 9, 10, 11, 12] → x' j = x j
/-- what of the Model else stays -/
def Km (M M' : Bl) : Prop := (∀ f, f ∈ [31, 35, 40] → M'.1 f = M.1 f) ∧ (∀ k, k ∈ [41, 42, 43, 44, 45, 46, 47, 70] → M'.2.1 k = M.2.1 k) ∧ (∀ k, k < 4 → ∀ i, M'.2.1 69 (1900 * k + i) = M.2.1 69 (1900 * k + i) ∨ 1900 ≤ i) ∧ M'.2.1 1 8 = M.2.1 1 8
theorem Kx.refl {x : Nat → Bl} : Kx x x := ⟨fun _ _ => rfl, fun _ _ => rfl, fun _ _ => rfl⟩
theorem Km.refl {M : Bl} : Km M M := ⟨fun _ _ => rfl, fun _ _ => rfl, fun _ _ _ => Or.inl rfl, rfl⟩
theorem Kx.trans {x y z : Nat → Bl} (h : Kx x y) (k : Kx y z) : Kx x z := ⟨fun f hf => (k.1 f hf).trans (h.1 f hf), fun f hf => (k.2.1 f hf).trans (h.2.1 f hf), fun j hj => (k.2.2 j hj).trans (h.2.2 j hj)⟩
theorem Km.trans {M N P : Bl} (h : Km M N) (k : Km N P) : Km M P := ⟨fun f hf => (k.1 f hf).trans (h.1 f hf), fun f hf => (k.2.1 f hf).trans (h.2.1 f hf), fun j hj i => by
    rcases h.2.2.1 j hj i with e | e
    · rcases k.2.2.1 j hj i with e2 | e2
      · exact Or.inl (e2.trans e)
      · exact Or.inr e2
    · exact Or.inr e, k.2.2.2.trans h.2.2.2⟩
theorem Kx.up1 {x : Nat → Bl} {F : Bl} : Kx x (upX x 1 F) := ⟨fun f _ => by rw [upX_ne (by decide)], fun f _ => by rw [upX_ne (by decide)], fun j hj => upX_ne (by intro e; subst e; revert hj; decide)⟩
theorem Kx.up2 {x : Nat → Bl} {F : Bl} : Kx x (upX x 2 F) := ⟨fun f _ => by rw [upX_ne (by decide)], fun f _ => by rw [upX_ne (by decide)], fun j hj => upX_ne (by intro e; subst e; revert hj; decide)⟩
theorem Km.of {A S I : List Nat} {M M' : Bl} (h : Fm A S I M M') (hA : 41 ∉ A ∧ 42 ∉ A ∧ 43 ∉ A ∧ 44 ∉ A ∧ 45 ∉ A ∧ 46 ∉ A ∧ 47 ∉ A ∧ 70 ∉ A ∧ 69 ∉ A := by decide) (hS : 8 ∉ S := by decide) (hI : 31 ∉ I ∧ 35 ∉ I ∧ 40 ∉ I := by decide) : Km M M' := by
  refine ⟨fun f hf => ?_, fun k hk => ?_, fun k _ i => Or.inl (by rw [h.arr 69 hA.2.2.2.2.2.2.2.2]), h.sc 8 hS⟩
  · simp only [List.mem_cons, List.not_mem_nil, or_false] at hf
    rcases hf with rfl | rfl | rfl
    · exact h.fld 31 hI.1
    · exact h.fld 35 hI.2.1
    · exact h.fld 40 hI.2.2
  · simp only [List.mem_cons, List.not_mem_nil, or_false] at hk
    rcases hk with rfl | rfl | rfl | rfl | rfl | rfl | rfl | rfl
    · exact h.arr 41 hA.1
    · exact h.arr 42 hA.2.1
    · exact h.arr 43 hA.2.2.1
    · exact h.arr 44 hA.2.2.2.1
    · exact h.arr 45 hA.2.2.2.2.1
    · exact h.arr 46 hA.2.2.2.2.2.1
    · exact h.arr 47 hA.2.2.2.2.2.2.1
    · exact h.arr 70 hA.2.2.2.2.2.2.2.1
/-- past rows of what is alike -/
theorem putM_AG {a b : Ar} {g g' : Nat → Nat → Int32} (h : AG a b) (hg : ∀ j i, g j i = g' j i) : AG (putM a g) (putM b g') := by
  refine ⟨fun i hi => ?_, fun i hi => ?_, fun i hi => ?_, fun i hi => ?_⟩
  · show (if i = 6 then g 0 0 else if i = 1 then g 1 0 else if i = 4 then g 2 0 else a 1 i) = (if i = 6 then g' 0 0 else if i = 1 then g' 1 0 else if i = 4 then g' 2 0 else b 1 i)
    rw [hg, hg, hg, h.1 i hi]
  · obtain ⟨y1, y2, y3, y4, y5, y6, y7, y8⟩ := h.2.1 i hi
    exact ⟨y1, y2, hg _ _, y4, y5, y6, y7, y8⟩
  · obtain ⟨y1, y2, y3, y4, y5, y6⟩ := h.2.2.1 i hi
    exact ⟨hg _ _, y2, hg _ _, y4, hg _ _, hg _ _⟩
  · exact ⟨hg _ _, hg _ _, hg _ _⟩
theorem MR.cg {nO nT : Nat} {f g f' g' : Nat → Nat → Int32} (h : MR nO nT f g) (hf : ∀ j i, f' j i = f j i) (hg : ∀ j i, g' j i = g j i) : MR nO nT f' g' := by
  have e1 : f' = f := by funext j i; exact hf j i
  have e2 : g' = g := by funext j i; exact hg j i
  rw [e1, e2]; exact h
theorem mOf_le (j : Nat) : mOf j ≤ 65 := by
  unfold mOf; split <;> decide
/-- constants alike, and the rows: the past is alike -/
theorem PR.keep {F F' : Bl} {a a' : Ar} {p p' : Int32} (h : PR F a p) (h7 : F'.1 7 = F.1 7) (h24 : F'.2.1 24 = F.2.1 24) (hp : p' = p) (h53 : a' 53 = a 53) (hc : ∀ g, AG (putM a' g) (putM a g)) (hO : cO a' = cO a) (hT : cT a' = cT a) : PR F' a' p' := by
  obtain ⟨e1, n, hn, e2, hk⟩ := h
  refine ⟨by rw [h7, e1, hp], n, hn, by rw [hp, e2], fun k hkn => ?_⟩
  obtain ⟨g1, g2⟩ := hk k hkn
  have eP : mP a' k = mP a k := by funext j i; unfold mP; rw [h53]
  refine ⟨?_, ?_⟩
  · rw [eP]; exact g1.congr (hc _)
  · rw [hO, hT, eP]
    exact g2.cg (fun j i => by unfold mU; rw [h24]) (fun _ _ => rfl)
/-- a change of what acts change alone -/
theorem putM_Fm {M M' : Bl} {A S I : List Nat} (h : Fm A S I M M') (hA : 2 ∉ A ∧ 3 ∉ A ∧ 6 ∉ A ∧ 8 ∉ A ∧ 14 ∉ A ∧ 15 ∉ A ∧ 16 ∉ A ∧ 17 ∉ A ∧ 18 ∉ A) (hS : 0 ∉ S ∧ 2 ∉ S ∧ 3 ∉ S ∧ 5 ∉ S ∧ 7 ∉ S ∧ 8 ∉ S) (g : Nat → Nat → Int32) : AG (putM M'.2.1 g) (putM M.2.1 g) := by
  refine ⟨fun i hi => ?_, fun i hi => ?_, fun i hi => ?_, fun i hi => ⟨rfl, rfl, rfl⟩⟩
  · show (if i = 6 then g 0 0 else if i = 1 then g 1 0 else if i = 4 then g 2 0 else M'.2.1 1 i) = (if i = 6 then g 0 0 else if i = 1 then g 1 0 else if i = 4 then g 2 0 else M.2.1 1 i)
    by_cases e6 : i = 6
    · rw [if_pos e6, if_pos e6]
    · by_cases e1 : i = 1
      · rw [if_neg e6, if_pos e1, if_neg e6, if_pos e1]
      · by_cases e4 : i = 4
        · rw [if_neg e6, if_neg e1, if_pos e4, if_neg e6, if_neg e1, if_pos e4]
        · rw [if_neg e6, if_neg e1, if_neg e4, if_neg e6, if_neg e1, if_neg e4]
          have hx : i = 0 ∨ i = 2 ∨ i = 3 ∨ i = 5 ∨ i = 7 ∨ i = 8 := by omega
          rcases hx with rfl | rfl | rfl | rfl | rfl | rfl
          · exact h.sc 0 hS.1
          · exact h.sc 2 hS.2.1
          · exact h.sc 3 hS.2.2.1
          · exact h.sc 5 hS.2.2.2.1
          · exact h.sc 7 hS.2.2.2.2.1
          · exact h.sc 8 hS.2.2.2.2.2
  · exact ⟨congrFun (h.arr 2 hA.1) i, congrFun (h.arr 3 hA.2.1) i, rfl, congrFun (h.arr 14 hA.2.2.2.2.1) i, congrFun (h.arr 15 hA.2.2.2.2.2.1) i, congrFun (h.arr 16 hA.2.2.2.2.2.2.1) i, congrFun (h.arr 17 hA.2.2.2.2.2.2.2.1) i, congrFun (h.arr 18 hA.2.2.2.2.2.2.2.2) i⟩
  · exact ⟨rfl, congrFun (h.arr 6 hA.2.2.1) i, rfl, congrFun (h.arr 8 hA.2.2.2.1) i, rfl, rfl⟩
theorem FO.keep {F F' : Bl} {M M' : Bl} {A S I As Is : List Nat} (h : FO F M.2.1) (km : Fm A S I M M') (kf : Ff As Is F F') (hA : 16 ∉ A ∧ 17 ∉ A ∧ 18 ∉ A) (hS : 7 ∉ S) (hAs : 23 ∉ As) (hIs : 8 ∉ Is) : FO F' M'.2.1 := by
  have e : cF M'.2.1 = cF M.2.1 := by unfold cF; rw [km.sc 7 hS]
  refine ⟨by rw [kf.fld 8 hIs, km.sc 7 hS]; exact h.1, fun i hi => ?_⟩
  rw [e] at hi
  rw [kf.arr 23 hAs, km.arr 16 hA.1, km.arr 17 hA.2.1, km.arr 18 hA.2.2]
  exact h.2 i hi
theorem imA_keep {M M' : Bl} (h : Km M M') {k : Nat} (hk : k < 4) : AG (imA M'.2.1 k) (imA M.2.1 k) ∧ (∀ x, x < 1540 → imA M'.2.1 k 53 x = imA M.2.1 k 53 x) ∧ imP M'.2.1 k = imP M.2.1 k := by
  have key : ∀ i, i < 1900 → M'.2.1 69 (1900 * k + i) = M.2.1 69 (1900 * k + i) := fun i hi => by
    rcases h.2.2.1 k hk i with e | e
    · exact e
    · omega
  have k2 : ∀ f i, imO f + i < 1900 → imA M'.2.1 k f i = imA M.2.1 k f i := fun f i hi => by
    unfold imA; rw [Nat.add_assoc]; exact key _ hi
  refine ⟨⟨fun i hi => k2 1 i (by show 1 + i < 1900; omega), fun i hi => ⟨k2 2 i (by show 10 + i < 1900; omega), k2 3 i (by show 16 + i < 1900; omega), k2 4 i (by show 22 + i < 1900; omega), k2 14 i (by show 112 + i < 1900; omega), k2 15 i (by show 118 + i < 1900; omega), k2 16 i (by show 124 + i < 1900; omega), k2 17 i (by show 130 + i < 1900; omega), k2 18 i (by show 136 + i < 1900; omega)⟩, fun i hi => ⟨k2 5 i (by show 28 + i < 1900; omega), k2 6 i (by show 36 + i < 1900; omega), k2 7 i (by show 44 + i < 1900; omega), k2 8 i (by show 52 + i < 1900; omega), k2 9 i (by show 60 + i < 1900; omega), k2 10 i (by show 68 + i < 1900; omega)⟩, fun i hi => ⟨k2 11 i (by show 76 + i < 1900; omega), k2 12 i (by show 88 + i < 1900; omega), k2 13 i (by show 100 + i < 1900; omega)⟩⟩, fun x hx => k2 53 x (by show 142 + x < 1900; omega), by unfold imP; exact key 0 (by omega)⟩
/-- a row's reading stays below 1540 -/
theorem mP_cg {a b : Ar} (h : ∀ x, x < 1540 → a 53 x = b 53 x) {k j i : Nat} (hk : k < 20) (hi : mOf j + i < 77) : mP a k j i = mP b k j i := by
  unfold mP; exact h _ (by omega)
theorem MR.cg2 {nO nT : Nat} {f g f' g' : Nat → Nat → Int32} (h : MR nO nT f g) (hO : nO ≤ 6) (hT : nT ≤ 8) (hR : (g 2 0).toNatClampNeg ≤ 12) (hf : ∀ j i, mOf j + i < 77 → f' j i = f j i) (hg : ∀ j i, mOf j + i < 77 → g' j i = g j i) : MR nO nT f' g' := by
  obtain ⟨h1, h2, h3, h4, h5, h6⟩ := h
  have z0 : mOf 0 + 0 < 77 := by decide
  have z1 : mOf 1 + 0 < 77 := by decide
  have z2 : mOf 2 + 0 < 77 := by decide
  refine ⟨by rw [hf _ _ z0, hg _ _ z0, h1], by rw [hf _ _ z1, hg _ _ z1, h2], by rw [hf _ _ z2, hg _ _ z2, h3], fun i hi => ?_, fun i hi => ?_, fun i hi => ?_⟩
  · have z3 : mOf 3 + i < 77 := by show 3 + i < 77; omega
    rw [hf _ _ z3, hg _ _ z3]; exact h4 i hi
  · have z4 : mOf 4 + i < 77 := by show 9 + i < 77; omega
    have z5 : mOf 5 + i < 77 := by show 17 + i < 77; omega
    have z6 : mOf 6 + i < 77 := by show 25 + i < 77; omega
    have z7 : mOf 7 + i < 77 := by show 33 + i < 77; omega
    rw [hf _ _ z4, hg _ _ z4, hf _ _ z5, hg _ _ z5, hf _ _ z6, hg _ _ z6, hf _ _ z7, hg _ _ z7]; exact h5 i hi
  · rw [hg _ _ z2] at hi
    have z8 : mOf 8 + i < 77 := by show 41 + i < 77; omega
    have z9 : mOf 9 + i < 77 := by show 53 + i < 77; omega
    have z10 : mOf 10 + i < 77 := by show 65 + i < 77; omega
    rw [hf _ _ z8, hg _ _ z8, hf _ _ z9, hg _ _ z9, hf _ _ z10, hg _ _ z10]; exact h6 i hi
theorem putM_AG2 {a b : Ar} {g g' : Nat → Nat → Int32} (h : AG a b) (hg : ∀ j i, mOf j + i < 77 → g j i = g' j i) : AG (putM a g) (putM b g') := by
  refine ⟨fun i hi => ?_, fun i hi => ?_, fun i hi => ?_, fun i hi => ?_⟩
  · show (if i = 6 then g 0 0 else if i = 1 then g 1 0 else if i = 4 then g 2 0 else a 1 i) = (if i = 6 then g' 0 0 else if i = 1 then g' 1 0 else if i = 4 then g' 2 0 else b 1 i)
    rw [hg 0 0 (by decide), hg 1 0 (by decide), hg 2 0 (by decide), h.1 i hi]
  · obtain ⟨y1, y2, y3, y4, y5, y6, y7, y8⟩ := h.2.1 i hi
    exact ⟨y1, y2, hg 3 i (by show 3 + i < 77; omega), y4, y5, y6, y7, y8⟩
  · obtain ⟨y1, y2, y3, y4, y5, y6⟩ := h.2.2.1 i hi
    exact ⟨hg 4 i (by show 9 + i < 77; omega), y2, hg 5 i (by show 17 + i < 77; omega), y4, hg 6 i (by show 25 + i < 77; omega), hg 7 i (by show 33 + i < 77; omega)⟩
  · exact ⟨hg 8 i (by show 41 + i < 77; omega), hg 9 i (by show 53 + i < 77; omega), hg 10 i (by show 65 + i < 77; omega)⟩
theorem NR.congr {a b : Ar} {p q : Int32} (h : AG a b) (hp : p = q) (n : NR b q) : NR a p := ⟨fun i hi => (h.1 i (by omega)).trans (n.1 i hi), hp.trans n.2⟩
theorem FO.congr {F : Bl} {a b : Ar} (h : AG a b) (gc : GC b) (f : FO F b) : FO F a := by
  have hF := gc.2.2.2.2.2
  refine ⟨f.1.trans (h.1 7 (by omega)).symm, fun i hi => ?_⟩
  rw [h.eF] at hi
  obtain ⟨-, -, -, -, -, y1, y2, y3⟩ := h.2.1 i (by omega)
  rw [y1, y2, y3]; exact f.2 i hi
theorem PR.congr {F F' : Bl} {a b : Ar} {p q : Int32} (h : AG a b) (gc : GC b) (h53 : ∀ x, x < 1540 → a 53 x = b 53 x) (hp : p = q) (h7 : F'.1 7 = F.1 7) (h24 : ∀ x, x < 1540 → F'.2.1 24 x = F.2.1 24 x) (f : PR F b q) : PR F' a p := by
  obtain ⟨e1, n, hn, e2, hk⟩ := f
  refine ⟨by rw [h7, e1, hp], n, hn, hp.trans e2, fun k hkn => ?_⟩
  obtain ⟨g1, g2⟩ := hk k hkn
  have hR : (mP b k 2 0).toNatClampNeg ≤ 12 := g1.1.2.2.1.2
  refine ⟨g1.congr (putM_AG2 h (fun j i hi => mP_cg h53 (by omega) hi)), ?_⟩
  rw [h.eO, h.eT]
  exact g2.cg2 gc.1.2 gc.2.1.2 hR (fun j i hi => by unfold mU; exact h24 _ (by omega)) (fun j i hi => mP_cg h53 (by omega) hi)
theorem RVa.congr {F : Bl} {a b : Ar} {p q : Int32} (h : AG a b) (h53 : ∀ x, x < 1540 → a 53 x = b 53 x) (hp : p = q) (f : RVa F b q) : RVa F a p :=
  ⟨f.1.congr h f.2.1.1, f.2.1.congr h, f.2.2.1.congr h f.2.1.1, f.2.2.2.congr h f.2.1.1 h53 hp rfl (fun _ _ => rfl)⟩
theorem RI.keep {x x' : Nat → Bl} {M M' : Bl} (h : RI x M) (kx : Kx x x') (km : Km M M') : RI x' M' := by
  intro k hk
  have e28 := kx.2.1 28 (by decide)
  have e70 := km.2.1 70 (by decide)
  have e9 : x' (9 + k) = x (9 + k) := kx.2.2 _ (by have : k = 0 ∨ k = 1 ∨ k = 2 ∨ k = 3 := by omega
                                                   rcases this with rfl | rfl | rfl | rfl <;> decide)
  have e5 : x' (5 + k) = x (5 + k) := kx.2.2 _ (by have : k = 0 ∨ k = 1 ∨ k = 2 ∨ k = 3 := by omega
                                                   rcases this with rfl | rfl | rfl | rfl <;> decide)
  obtain ⟨hag, h53, hp⟩ := imA_keep km hk
  rw [e28, e70, e9, e5]
  rcases h k hk with g | ⟨g1, g2, ⟨g3, g4⟩, g5⟩
  · exact Or.inl g
  · refine Or.inr ⟨g1, g2, ⟨by rw [hag.1 8 (by omega)]; exact g3, g4⟩, ?_⟩
    rcases g5 with ⟨g5, g6⟩ | ⟨g5, g6⟩
    · exact Or.inl ⟨g5, g6.congr hag hp⟩
    · exact Or.inr ⟨g5, g6.congr hag h53 hp⟩
/-- the rest stays -/
theorem RL.keep {x x' : Nat → Bl} {M M' : Bl} (h : RL x M) (kx : Kx x x') (km : Km M M') (hv : RV x' M') : RL x' M' := by
  obtain ⟨-, h2, ⟨T, t1, t2, t3, t4⟩, ⟨R, r1, r2, r3, r4⟩, ⟨s1, s2⟩, h6, h7⟩ := h
  refine ⟨hv, h2.keep kx km, ⟨T, t1, by rw [kx.1 8 (by decide)]; exact t2, by rw [km.1 31 (by decide)]; exact t3, by rw [kx.2.1 7 (by decide), km.2.1 41 (by decide)]; exact t4⟩, ⟨R, r1, by rw [kx.1 13 (by decide)]; exact r2, by rw [km.1 35 (by decide)]; exact r3, by rw [kx.2.1 12 (by decide)]; exact r4⟩, ⟨?_, ?_⟩, ?_, ?_⟩
  · rw [kx.1 5 (by decide), km.2.2.2]; exact s1
  · rw [km.2.2.2]; exact s2
  · rw [kx.2.2 4 (by decide)]; exact h6
  · rw [km.1 40 (by decide)]; exact h7

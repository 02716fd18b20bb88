/-! PLAIN LAW: a mile -/
set_option maxRecDepth 100000
/-- what of a flow else stays -/
def Ff (As Is : List Nat) (F F' : Bl) : Prop := (∀ f, f ∉ Is → F'.1 f = F.1 f) ∧ (∀ k, k ∉ As → F'.2.1 k = F.2.1 k) ∧ F'.2.2 = F.2.2
theorem Ff.refl {F : Bl} : Ff [] [] F F := ⟨fun _ _ => rfl, fun _ _ => rfl, rfl⟩
theorem Ff.trans {A I A' I' : List Nat} {M M' M'' : Bl} (h : Ff A I M M') (h' : Ff A' I' M' M'') : Ff (A ++ A') (I ++ I') M M'' := by
  refine ⟨fun f hf => ?_, fun k hk => ?_, h'.2.2.trans h.2.2⟩
  · rw [List.mem_append, not_or] at hf; exact (h'.1 f hf.2).trans (h.1 f hf.1)
  · rw [List.mem_append, not_or] at hk; exact (h'.2.1 k hk.2).trans (h.2.1 k hk.1)
theorem Ff.weak {A I A' I' : List Nat} {M M' : Bl} (h : Ff A I M M') (hA : A ⊆ A' := by decide) (hI : I ⊆ I' := by decide) : Ff A' I' M M' :=
  ⟨fun f hf => h.1 f (fun z => hf (hI z)), fun k hk => h.2.1 k (fun z => hk (hA z)), h.2.2⟩
theorem Ff.arr {A I : List Nat} {M M' : Bl} (h : Ff A I M M') (k : Nat) (hk : k ∉ A := by decide) : M'.2.1 k = M.2.1 k := h.2.1 k hk
theorem Ff.fld {A I : List Nat} {M M' : Bl} (h : Ff A I M M') (f : Nat) (hf : f ∉ I := by decide) : M'.1 f = M.1 f := h.1 f hf
theorem Ff.ba {M : Bl} {k i : Nat} {v : Int32} : Ff [k] [] M (bA M k i v) := by
  refine ⟨fun _ _ => rfl, fun j hj => ?_, rfl⟩
  have : ¬ j = k := fun z => hj (by rw [z]; exact List.mem_cons_self)
  simp [bA, bS, this]
theorem Ff.bs {M : Bl} {k : Nat} {g : Nat → Int32} : Ff [k] [] M (bS M k g) := by
  refine ⟨fun _ _ => rfl, fun j hj => ?_, rfl⟩
  have : ¬ j = k := fun z => hj (by rw [z]; exact List.mem_cons_self)
  simp [bS, this]
theorem Ff.bi {M : Bl} {f : Nat} {v : Int32} : Ff [] [f] M (bI M f v) := by
  refine ⟨fun j hj => ?_, fun _ _ => rfl, rfl⟩
  have : ¬ j = f := fun z => hj (by rw [z]; exact List.mem_cons_self)
  simp [bI, this]
/-! good rivers -/
/-- values in their bounds -/
def GV (a : Ar) : Prop := (∀ t, t < cT a → (0 ≤ (a 6 t).toInt ∧ (a 6 t).toInt ≤ 50) ∧ (0 ≤ (a 7 t).toInt ∧ (a 7 t).toInt ≤ 99) ∧ (0 ≤ (a 8 t).toInt ∧ (a 8 t).toInt ≤ 9) ∧ isK (cO a) (a 5 t) = true) ∧ (∀ q, q < cO a → (0 ≤ (a 3 q).toInt ∧ (a 3 q).toInt ≤ 20) ∧ (1 ≤ (a 2 q).toInt ∧ (a 2 q).toInt ≤ (a 1 0).toInt)) ∧ (2 ≤ (a 1 0).toInt ∧ (a 1 0).toInt ≤ 99) ∧ (0 ≤ (a 1 6).toInt ∧ (a 1 6).toInt ≤ (a 1 0).toInt)
def GR (a : Ar) : Prop := GC a ∧ RA a ∧ GV a
/-- a rope between two things afloat -/
def okR (st : Nat → Int32) (n : Nat) (x : Tr) : Prop := (x.1 = Int32.ofNat x.1.toNatClampNeg ∧ x.1.toNatClampNeg < 8) ∧ (x.2.1 = Int32.ofNat x.2.1.toNatClampNeg ∧ x.2.1.toNatClampNeg < 8) ∧ x.1.toNatClampNeg < x.2.1.toNatClampNeg ∧ x.1.toNatClampNeg < n ∧ x.2.1.toNatClampNeg < n ∧ st x.1.toNatClampNeg = 0 ∧ st x.2.1.toNatClampNeg = 0
theorem RA_iff {a : Ar} : RA a ↔ ∀ x ∈ rlM a, okR (a 9) (cT a) x := by
  constructor
  · rintro ⟨h1, h2⟩ x hx
    obtain ⟨i, hi, rfl⟩ := rl_mem hx
    exact ⟨(h1 i hi).1, (h1 i hi).2, h2 i hi⟩
  · intro h
    refine ⟨fun k hk => ?_, fun k hk => ?_⟩
    · have := h _ (mem_rl hk); exact ⟨this.1, this.2.1⟩
    · have := h _ (mem_rl hk); exact this.2.2
theorem FR.rls {F : Bl} {a : Ar} (h : FR F a) : rl (F.2.1 18) (F.2.1 19) (F.2.1 20) (cR a) = rlM a := rl_congr fun _ hi => ⟨h.ropeA hi, h.ropeB hi, h.strength hi⟩
/-- what acts change, put together again -/
theorem FR.mk {F F' : Bl} {M M' : Bl} {As Is As' Ss' Is' : List Nat} (h : FR F M.2.1) (kf : Ff As Is F F') (km : Fm As' Ss' Is' M M') (hf1 : 0 ∉ Is ∧ 1 ∉ Is ∧ 2 ∉ Is ∧ 3 ∉ Is) (hf2 : 9 ∉ As ∧ 10 ∉ As ∧ 13 ∉ As ∧ 15 ∉ As ∧ 21 ∉ As ∧ 22 ∉ As) (hm1 : 0 ∉ Ss' ∧ 2 ∉ Ss' ∧ 3 ∉ Ss' ∧ 5 ∉ Ss') (hm2 : 2 ∉ As' ∧ 3 ∉ As' ∧ 6 ∉ As' ∧ 8 ∉ As' ∧ 14 ∉ As' ∧ 15 ∉ As')
    (e1 : F'.1 6 = M'.2.1 1 6) (e2 : F'.1 4 = M'.2.1 1 1) (e3 : F'.1 5 = Int32.ofNat (cR M'.2.1) ∧ M'.2.1 1 4 = Int32.ofNat (cR M'.2.1)) (e4 : ∀ i, i < cO M.2.1 → F'.2.1 11 i = M'.2.1 4 i) (e5 : ∀ i, i < cT M.2.1 → F'.2.1 12 i = M'.2.1 5 i ∧ F'.2.1 14 i = M'.2.1 7 i ∧ F'.2.1 16 i = M'.2.1 9 i ∧ (M'.2.1 9 i = 2 → F'.2.1 17 i = M'.2.1 10 i) ∧ (M'.2.1 9 i ≠ 2 → M'.2.1 10 i = -2)) (e6 : rl (F'.2.1 18) (F'.2.1 19) (F'.2.1 20) (cR M'.2.1) = rlM M'.2.1) : FR F' M'.2.1 := by
  have cO' : cO M'.2.1 = cO M.2.1 := by unfold cO; rw [km.sc 2 hm1.2.1]
  have cT' : cT M'.2.1 = cT M.2.1 := by unfold cT; rw [km.sc 3 hm1.2.2.1]
  have cX' : cX M'.2.1 = cX M.2.1 := by unfold cX; rw [km.sc 5 hm1.2.2.2]
  obtain ⟨c1, c2, c3, c4, c5, c6, c7⟩ := h.1
  refine ⟨⟨?_, ?_, ?_, ?_, ?_, ?_, ?_⟩, e1, e2, e3.1.trans e3.2.symm, ?_, ?_, ?_⟩
  · rw [kf.fld 0 hf1.1, km.sc 0 hm1.1]; exact c1
  · rw [kf.fld 1 hf1.2.1, km.sc 2 hm1.2.1]; exact c2
  · rw [kf.fld 2 hf1.2.2.1, km.sc 3 hm1.2.2.1]; exact c3
  · rw [kf.fld 3 hf1.2.2.2, km.sc 5 hm1.2.2.2]; exact c4
  · intro i hi
    rw [kf.arr 9 hf2.1, kf.arr 10 hf2.2.1, km.arr 2 hm2.1, km.arr 3 hm2.2.1]; exact c5 i (by omega)
  · intro i hi
    rw [kf.arr 13 hf2.2.2.1, kf.arr 15 hf2.2.2.2.1, km.arr 6 hm2.2.2.1, km.arr 8 hm2.2.2.2.1]; exact c6 i (by omega)
  · intro i hi
    rw [kf.arr 21 hf2.2.2.2.2.1, kf.arr 22 hf2.2.2.2.2.2, km.arr 14 hm2.2.2.2.2.1, km.arr 15 hm2.2.2.2.2.2]; exact c7 i (by omega)
  · rw [cO']; exact e4
  · rw [cT']; exact e5
  · intro i hi
    exact (rl_inj e6).2 i hi
/-! raw readings of a flow -/
section RAW
variable {F : Bl} {n : Nat}
theorem f1_ownOf_raw {q : Int32} (hn : F.1 2 = Int32.ofNat n) (h8 : n ≤ 8) : f1_ownOf F q = some (mkS n (fun t => decide (F.2.1 12 t = q) && decide (F.2.1 16 t = 0))) := by
  unfold f1_ownOf
  refine loop_seq (fun k => (mkS k (fun t => decide (F.2.1 12 t = q) && decide (F.2.1 16 t = 0)), Int32.ofNat k)) n (by omega) ?_ ?_
  · intro K k hk
    simp only [g1_ownOf_4]
    rw [hn, if_on hk (by omega), chk_h (zI_in (by omega) (by decide)), chk_h (zI_in (by omega) (by decide)), zI_nat (by omega), zI_succ]
    by_cases hz : F.2.1 12 k = q
    · rw [if_pos hz]
      by_cases hy : F.2.1 16 k = 0
      · rw [if_pos hy, mkS_yes (by omega) (by simp [hz, hy])]
      · rw [if_neg hy, mkS_no0 (by simp [hy])]
    · rw [if_neg hz, mkS_no0 (by simp [hz])]
  · intro K
    simp only [g1_ownOf_4]
    rw [hn, if_off]
/-- the ropes' ends are numbers of things -/
def eOK (x : Tr) : Prop := (x.1 = Int32.ofNat x.1.toNatClampNeg ∧ x.1.toNatClampNeg < 8) ∧ (x.2.1 = Int32.ofNat x.2.1.toNatClampNeg ∧ x.2.1.toNatClampNeg < 8)
theorem f1_ropesAt_raw {S : Int32} (hn : F.1 5 = Int32.ofNat n) (h12 : n ≤ 12) (he : ∀ x ∈ rl (F.2.1 18) (F.2.1 19) (F.2.1 20) n, eOK x) : f1_ropesAt F S = some (mkS n (fun r => tch S (F.2.1 18 r, F.2.1 19 r, F.2.1 20 r))) := by
  unfold f1_ropesAt
  refine loop_seq (fun k => (mkS k (fun r => tch S (F.2.1 18 r, F.2.1 19 r, F.2.1 20 r)), Int32.ofNat k)) n (by omega) ?_ ?_
  · intro K k hk
    simp only [g1_ropesAt_4]
    obtain ⟨⟨a1, a2⟩, b1, b2⟩ := he _ (mem_rl hk)
    dsimp only at a1 a2 b1 b2
    rw [hn, if_on hk (by omega), chk_h (zI_in (by omega) (by decide)), chk_h (zI_in (by omega) (by decide)), zI_nat (by omega), zI_succ, a1, b1, has_bit0 (by omega), has_bit0 (by omega), bnd_s, bnd_s, if_bit, if_bit]
    cases hx : bit S (F.2.1 18 k).toNatClampNeg with
    | true => rw [if_pos rfl, mkS_yes (by omega) (by simp [tch, hx])]
    | false =>
      rw [if_neg (by decide)]
      cases hy : bit S (F.2.1 19 k).toNatClampNeg with
      | true => rw [if_pos rfl, mkS_yes (by omega) (by simp [tch, hy])]
      | false => rw [if_neg (by decide), mkS_no0 (by simp [tch, hx, hy])]
  · intro K
    simp only [g1_ropesAt_4]
    rw [hn, if_off]
/-- ropes of a property go -/
theorem f1_loses_P {P : Tr → Bool} {S : Int32} (hn : F.1 5 = Int32.ofNat n) (h12 : n ≤ 12) (hS : ∀ k, k < n → bit S k = P (F.2.1 18 k, F.2.1 19 k, F.2.1 20 k)) : ∃ F' : Bl, f1_loses F S = some (sumL ((rl (F.2.1 18) (F.2.1 19) (F.2.1 20) n).filter P), F') ∧ Ff [18, 19, 20] [5] F F' ∧ F'.1 5 = Int32.ofNat ((rl (F.2.1 18) (F.2.1 19) (F.2.1 20) n).filter (fun x => !P x)).length ∧ rl (F'.2.1 18) (F'.2.1 19) (F'.2.1 20) ((rl (F.2.1 18) (F.2.1 19) (F.2.1 20) n).filter (fun x => !P x)).length = (rl (F.2.1 18) (F.2.1 19) (F.2.1 20) n).filter (fun x => !P x) := by
  obtain ⟨F', h1, ⟨h2, h3⟩, h4, h5, h6⟩ := f1_loses_eq (S := S) hn h12
  have hk := klF_filter (f := F.2.1 18) (g := F.2.1 19) (h := F.2.1 20) (S := S) (P := P) n hS
  rw [hk.1] at h2 h6
  rw [hk.2] at h1
  refine ⟨F', h1, ⟨fun f hf => h3 f (fun z => hf (by rw [z]; exact List.mem_cons_self)), fun k hk => ?_, h5⟩, h2, h6⟩
  simp only [List.mem_cons, List.not_mem_nil, or_false, not_or] at hk
  exact h4 k hk.1 hk.2.1 hk.2.2
end RAW
theorem pop_filter {f g h : Nat → Int32} {P : Tr → Bool} : ∀ n, sumN n (fun r => if P (f r, g r, h r) = true then 1 else 0) = ((rl f g h n).filter P).length
  | 0 => rfl
  | n + 1 => by
    rw [rl_succ, List.filter_append, List.length_append, ← pop_filter n]
    simp only [sumN]
    cases hp : P (f n, g n, h n) <;> simp [hp]
theorem pop_mkS {n : Nat} {p : Nat → Bool} (hn : n ≤ 16) : pop (mkS n p) = sumN n (fun k => if p k = true then 1 else 0) := by
  rw [pop, sumN_ext 16 hn (fun k h1 h2 => by rw [bit_mkS (by omega)]; simp [Nat.not_lt.mpr h1])]
  refine sumN_congr fun k hk => ?_
  rw [bit_mkS (by omega)]
  simp [hk]
theorem sumN_add (n : Nat) (f g : Nat → Nat) : sumN n (fun k => f k + g k) = sumN n f + sumN n g := by
  induction n with
  | zero => rfl
  | succ n ih => simp only [sumN]; rw [ih]; omega
theorem pop_disj {s t : Int32} (h : ∀ k, k < 16 → (bit s k && bit t k) = false) : pop (s ||| t) = pop s + pop t := by
  rw [pop, pop, pop, ← sumN_add]
  refine sumN_congr fun k hk => ?_
  have := h k hk
  rw [bit_or]
  cases h1 : bit s k <;> cases h2 : bit t k <;> simp_all
theorem sumL_two (l : List Tr) (p q : Tr → Bool) : sumL (l.filter p) + sumL ((l.filter (fun x => !p x)).filter q) = sumL (l.filter (fun x => p x || q x)) := by
  induction l with
  | nil => rfl
  | cons x l ih =>
    cases hp : p x with
    | true =>
      simp only [List.filter_cons, hp, Bool.not_true, Bool.true_or, if_true, Bool.false_eq_true, if_false, sumL]
      rw [← ih, Int32.add_assoc]
    | false =>
      cases hq : q x with
      | true =>
        simp only [List.filter_cons, hp, hq, Bool.not_false, Bool.false_or, if_true, Bool.false_eq_true, if_false, sumL]
        rw [← ih, ← Int32.add_assoc, Int32.add_comm _ x.2.2, Int32.add_assoc]
      | false =>
        simp only [List.filter_cons, hp, hq, Bool.not_false, Bool.false_or, if_true, Bool.false_eq_true, if_false]
        exact ih
theorem filter_two (l : List Tr) (p q : Tr → Bool) : (l.filter (fun x => !p x)).filter (fun x => !q x) = l.filter (fun x => !(p x || q x)) := by
  rw [List.filter_filter]
  refine List.filter_congr fun x _ => ?_
  cases p x <;> cases q x <;> rfl
/-! soaking -/
def sok (a : Ar) (t : Nat) : Int32 := if a 9 t = 0 then (if a 7 t ≤ a 8 t then 0 else a 7 t - a 8 t) else a 7 t
theorem sok_bd {a : Ar} (g : GV a) {t : Nat} (ht : t < cT a) : 0 ≤ (sok a t).toInt ∧ (sok a t).toInt ≤ 99 := by
  obtain ⟨-, h1, h2, -⟩ := g.1 t ht
  unfold sok
  split
  · split
    · decide
    · rename_i hc
      rw [Int32.le_iff_toInt_le] at hc
      rw [tI_sub (by omega) (by omega)]; omega
  · exact h1
theorem sok_max {a : Ar} (g : GV a) {t : Nat} (ht : t < cT a) : (if (0 : Int32) < a 7 t - a 8 t then a 7 t - a 8 t else 0) = if a 7 t ≤ a 8 t then 0 else a 7 t - a 8 t := by
  obtain ⟨-, h1, h2, -⟩ := g.1 t ht
  have e : ((0 : Int32) < a 7 t - a 8 t) ↔ ¬ a 7 t ≤ a 8 t := by
    rw [Int32.lt_iff_toInt_lt, Int32.le_iff_toInt_le, tI_sub (by omega) (by omega)]
    show (0 : Int) < _ ↔ _
    omega
  by_cases hc : a 7 t ≤ a 8 t
  · rw [if_neg (fun z => e.mp z hc), if_pos hc]
  · rw [if_pos (e.mpr hc), if_neg hc]
theorem f1_goes_soak {F : Bl} {a : Ar} {by9 : Int32} (g : GR a) (h : FR F a) : f1_goes F by9 = bnd (f1_breaks (bS (bI F 6 (F.1 6 + 1)) 14 (fun j => if j < cT a then sok a j else F.2.1 14 j)) by9) (fun s1 => bnd (f1_lands s1) (fun s2 => bnd (f1_sinksAll s2) (fun s3 => some (s3.1 25, s3)))) := by
  have h8 := g.1.2.1.2
  unfold f1_goes
  have e0 : bS (bI F 6 (F.1 6 + 1)) 14 (fun j => if j < 0 then sok a j else F.2.1 14 j) = bI F 6 (F.1 6 + 1) := by
    have : (fun j => if j < 0 then sok a j else F.2.1 14 j) = (bI F 6 (F.1 6 + 1)).2.1 14 := by funext j; simp [bI]
    rw [this, bS_self]
  refine Eq.trans ?_ (loop_seq (body := g1_goes_12 by9) (fun k => (bS (bI F 6 (F.1 6 + 1)) 14 (fun j => if j < k then sok a j else F.2.1 14 j), Int32.ofNat k)) (cT a) (by omega) ?_ ?_)
  · (try dsimp only); rw [e0]; rfl
  · intro K k hk
    simp only [g1_goes_12]
    have e2 : (bS (bI F 6 (F.1 6 + 1)) 14 (fun j => if j < k then sok a j else F.2.1 14 j)).1 2 = Int32.ofNat (cT a) := h.nT g.1
    have e16 : (bS (bI F 6 (F.1 6 + 1)) 14 (fun j => if j < k then sok a j else F.2.1 14 j)).2.1 16 k = a 9 k := h.state hk
    have e14 : (bS (bI F 6 (F.1 6 + 1)) 14 (fun j => if j < k then sok a j else F.2.1 14 j)).2.1 14 k = a 7 k := by
      rw [← h.bears hk]; simp [bS]
    have e15 : (bS (bI F 6 (F.1 6 + 1)) 14 (fun j => if j < k then sok a j else F.2.1 14 j)).2.1 15 k = a 8 k := h.soak hk
    rw [e2, if_on hk (by omega), chk_h (zI_in (by omega) (by decide)), zI_nat (by omega), e16, zI_succ]
    have key : ∀ v, v = sok a k → bA (bS (bI F 6 (F.1 6 + 1)) 14 (fun j => if j < k then sok a j else F.2.1 14 j)) 14 k v = bS (bI F 6 (F.1 6 + 1)) 14 (fun j => if j < k + 1 then sok a j else F.2.1 14 j) := by
      intro v hv
      rw [bA, bS_bS]
      congr 1
      funext j
      simp only [upd]
      by_cases e : j = k
      · subst e; simp [hv]
      · have h2 : (j < k + 1) = (j < k) := propext ⟨fun z => by omega, fun z => by omega⟩
        simp [e, h2, bS]
    by_cases hz : a 9 k = 0
    · rw [if_pos hz, chk_h (zI_in (by omega) (by decide)), chk_h (zI_in (by omega) (by decide)), chk_h (zI_in (by omega) (by decide)), e14, e15, sok_max g.2.2 hk, ltv_s, key _ (by unfold sok; rw [if_pos hz])]
    · rw [if_neg hz, ← key (sok a k) rfl]
      have : bA (bS (bI F 6 (F.1 6 + 1)) 14 (fun j => if j < k then sok a j else F.2.1 14 j)) 14 k (sok a k) = bS (bI F 6 (F.1 6 + 1)) 14 (fun j => if j < k then sok a j else F.2.1 14 j) := by
        rw [bA, bS_bS]
        congr 1
        funext j
        simp only [upd]
        by_cases e : j = k
        · subst e
          have : sok a j = F.2.1 14 j := by unfold sok; rw [if_neg hz, h.bears hk]
          simp [this]
        · simp [e, bS]
      rw [this]
  · intro K
    simp only [g1_goes_12]
    have e2 : (bS (bI F 6 (F.1 6 + 1)) 14 (fun j => if j < cT a then sok a j else F.2.1 14 j)).1 2 = Int32.ofNat (cT a) := h.nT g.1
    rw [e2, if_off]
theorem f3_mileBy_soak {M : Bl} {by9 : Int32} (g : GR M.2.1) : f3_mileBy M by9 = loop (g3_mileBy_90 by9) FU (bI (bS (bA M 1 6 (M.2.1 1 6 + 1)) 7 (fun j => if j < cT M.2.1 then sok M.2.1 j else M.2.1 7 j)) 52 0, Int32.ofNat (cR M.2.1) - 1) := by
  have h8 := g.1.2.1.2
  unfold f3_mileBy
  have e0 : bS (bA M 1 6 (M.2.1 1 6 + 1)) 7 (fun j => if j < 0 then sok M.2.1 j else M.2.1 7 j) = bA M 1 6 (M.2.1 1 6 + 1) := by
    have : (fun j => if j < 0 then sok M.2.1 j else M.2.1 7 j) = (bA M 1 6 (M.2.1 1 6 + 1)).2.1 7 := by funext j; simp [bA, bS]
    rw [this, bS_self]
  refine Eq.trans ?_ (loop_seq (body := g3_mileBy_13 by9) (fun k => (bS (bA M 1 6 (M.2.1 1 6 + 1)) 7 (fun j => if j < k then sok M.2.1 j else M.2.1 7 j), Int32.ofNat k)) (cT M.2.1) (by omega) ?_ ?_)
  · (try dsimp only); rw [e0]; rfl
  · intro K k hk
    simp only [g3_mileBy_13]
    have e2 : (bS (bA M 1 6 (M.2.1 1 6 + 1)) 7 (fun j => if j < k then sok M.2.1 j else M.2.1 7 j)).2.1 1 3 = Int32.ofNat (cT M.2.1) := g.1.2.1.1
    have e16 : (bS (bA M 1 6 (M.2.1 1 6 + 1)) 7 (fun j => if j < k then sok M.2.1 j else M.2.1 7 j)).2.1 9 k = M.2.1 9 k := rfl
    have e14 : (bS (bA M 1 6 (M.2.1 1 6 + 1)) 7 (fun j => if j < k then sok M.2.1 j else M.2.1 7 j)).2.1 7 k = M.2.1 7 k := by simp [bS]
    have e15 : (bS (bA M 1 6 (M.2.1 1 6 + 1)) 7 (fun j => if j < k then sok M.2.1 j else M.2.1 7 j)).2.1 8 k = M.2.1 8 k := rfl
    rw [e2, if_on hk (by omega), chk_h (zI_in (by omega) (by decide)), zI_nat (by omega), e16, zI_succ]
    have key : ∀ v, v = sok M.2.1 k → bA (bS (bA M 1 6 (M.2.1 1 6 + 1)) 7 (fun j => if j < k then sok M.2.1 j else M.2.1 7 j)) 7 k v = bS (bA M 1 6 (M.2.1 1 6 + 1)) 7 (fun j => if j < k + 1 then sok M.2.1 j else M.2.1 7 j) := by
      intro v hv
      show bS (bS (bA M 1 6 (M.2.1 1 6 + 1)) 7 _) 7 _ = _
      rw [bS_bS]
      congr 1
      funext j
      simp only [upd]
      by_cases e : j = k
      · subst e; simp [hv]
      · have h2 : (j < k + 1) = (j < k) := propext ⟨fun z => by omega, fun z => by omega⟩
        simp [e, h2, bS]
    by_cases hz : M.2.1 9 k = 0
    · rw [if_pos hz, chk_h (zI_in (by omega) (by decide)), chk_h (zI_in (by omega) (by decide)), e14, e15]
      by_cases hc : M.2.1 7 k ≤ M.2.1 8 k
      · rw [if_pos hc, chk_h (zI_in (by omega) (by decide)), key 0 (by unfold sok; rw [if_pos hz, if_pos hc])]
      · rw [if_neg hc, chk_h (zI_in (by omega) (by decide)), chk_h (zI_in (by omega) (by decide)), chk_h (zI_in (by omega) (by decide)), key _ (by unfold sok; rw [if_pos hz, if_neg hc])]
    · rw [if_neg hz, ← key (sok M.2.1 k) rfl]
      have : bA (bS (bA M 1 6 (M.2.1 1 6 + 1)) 7 (fun j => if j < k then sok M.2.1 j else M.2.1 7 j)) 7 k (sok M.2.1 k) = bS (bA M 1 6 (M.2.1 1 6 + 1)) 7 (fun j => if j < k then sok M.2.1 j else M.2.1 7 j) := by
        show bS (bS (bA M 1 6 (M.2.1 1 6 + 1)) 7 _) 7 _ = _
        rw [bS_bS]
        congr 1
        funext j
        simp only [upd]
        by_cases e : j = k
        · subst e
          have : sok M.2.1 j = M.2.1 7 j := by unfold sok; rw [if_neg hz]
          simp [this]
        · simp [e, bS]
      rw [this]
  · intro K
    simp only [g3_mileBy_13]
    have e2 : (bS (bA M 1 6 (M.2.1 1 6 + 1)) 7 (fun j => if j < cT M.2.1 then sok M.2.1 j else M.2.1 7 j)).2.1 1 3 = Int32.ofNat (cT M.2.1) := g.1.2.1.1
    have e4 : (bI (bS (bA M 1 6 (M.2.1 1 6 + 1)) 7 (fun j => if j < cT M.2.1 then sok M.2.1 j else M.2.1 7 j)) 52 0).2.1 1 4 = Int32.ofNat (cR M.2.1) := g.1.2.2.1.1
    rw [e2, if_off, e4]

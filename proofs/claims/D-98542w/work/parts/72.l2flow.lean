/-! PLAIN LAW: what a flow has to do with the Model's arrays; the flow's pieces -/
set_option maxRecDepth 100000
def mF (F : Bl) : Nat → Nat → Int32
  | 0, _ => F.1 6
  | 1, _ => F.1 4
  | 2, _ => F.1 5
  | 3, i => F.2.1 11 i
  | 4, i => F.2.1 12 i
  | 5, i => F.2.1 14 i
  | 6, i => F.2.1 16 i
  | 7, i => F.2.1 17 i
  | 8, i => F.2.1 18 i
  | 9, i => F.2.1 19 i
  | _, i => F.2.1 20 i
def mM (a : Ar) : Nat → Nat → Int32
  | 0, _ => a 1 6
  | 1, _ => a 1 1
  | 2, _ => a 1 4
  | 3, i => a 4 i
  | 4, i => a 5 i
  | 5, i => a 7 i
  | 6, i => a 9 i
  | 7, i => a 10 i
  | 8, i => a 11 i
  | 9, i => a 12 i
  | _, i => a 13 i
/-- what acts change: alike -/
def MR (nO nT : Nat) (f g : Nat → Nat → Int32) : Prop := f 0 0 = g 0 0 ∧ f 1 0 = g 1 0 ∧ f 2 0 = g 2 0 ∧ (∀ i, i < nO → f 3 i = g 3 i) ∧ (∀ i, i < nT → f 4 i = g 4 i ∧ f 5 i = g 5 i ∧ f 6 i = g 6 i ∧ (g 6 i = 2 → f 7 i = g 7 i) ∧ (g 6 i ≠ 2 → g 7 i = -2)) ∧ ∀ i, i < (g 2 0).toNatClampNeg → f 8 i = g 8 i ∧ f 9 i = g 9 i ∧ f 10 i = g 10 i
/-- what stays as told: alike -/
def FC (F : Bl) (a : Ar) : Prop := F.1 0 = a 1 0 ∧ F.1 1 = a 1 2 ∧ F.1 2 = a 1 3 ∧ F.1 3 = a 1 5 ∧ (∀ i, i < cO a → F.2.1 9 i = a 2 i ∧ F.2.1 10 i = a 3 i) ∧ (∀ i, i < cT a → F.2.1 13 i = a 6 i ∧ F.2.1 15 i = a 8 i) ∧ ∀ i, i < cX a → F.2.1 21 i = a 14 i ∧ F.2.1 22 i = a 15 i
def FR (F : Bl) (a : Ar) : Prop := FC F a ∧ MR (cO a) (cT a) (mF F) (mM a)
section FR
variable {F : Bl} {a : Ar}
theorem FR.miles (h : FR F a) : F.1 0 = a 1 0 := h.1.1
theorem FR.nO (h : FR F a) (g : GC a) : F.1 1 = Int32.ofNat (cO a) := h.1.2.1.trans g.1.1
theorem FR.nT (h : FR F a) (g : GC a) : F.1 2 = Int32.ofNat (cT a) := h.1.2.2.1.trans g.2.1.1
theorem FR.nX (h : FR F a) (g : GC a) : F.1 3 = Int32.ofNat (cX a) := h.1.2.2.2.1.trans g.2.2.2.1.1
theorem FR.nR (h : FR F a) (g : GC a) : F.1 5 = Int32.ofNat (cR a) := h.2.2.2.1.trans g.2.2.1.1
theorem FR.now (h : FR F a) : F.1 6 = a 1 6 := h.2.1
theorem FR.store (h : FR F a) : F.1 4 = a 1 1 := h.2.2.1
theorem FR.landing (h : FR F a) {i : Nat} (hi : i < cO a) : F.2.1 9 i = a 2 i := (h.1.2.2.2.2.1 i hi).1
theorem FR.mass (h : FR F a) {i : Nat} (hi : i < cO a) : F.2.1 10 i = a 3 i := (h.1.2.2.2.2.1 i hi).2
theorem FR.place (h : FR F a) {i : Nat} (hi : i < cO a) : F.2.1 11 i = a 4 i := h.2.2.2.2.1 i hi
theorem FR.owner (h : FR F a) {i : Nat} (hi : i < cT a) : F.2.1 12 i = a 5 i := (h.2.2.2.2.2.1 i hi).1
theorem FR.weight (h : FR F a) {i : Nat} (hi : i < cT a) : F.2.1 13 i = a 6 i := (h.1.2.2.2.2.2.1 i hi).1
theorem FR.bears (h : FR F a) {i : Nat} (hi : i < cT a) : F.2.1 14 i = a 7 i := (h.2.2.2.2.2.1 i hi).2.1
theorem FR.soak (h : FR F a) {i : Nat} (hi : i < cT a) : F.2.1 15 i = a 8 i := (h.1.2.2.2.2.2.1 i hi).2
theorem FR.state (h : FR F a) {i : Nat} (hi : i < cT a) : F.2.1 16 i = a 9 i := (h.2.2.2.2.2.1 i hi).2.2.1
theorem FR.sunkAt (h : FR F a) {i : Nat} (hi : i < cT a) (h2 : a 9 i = 2) : F.2.1 17 i = a 10 i := (h.2.2.2.2.2.1 i hi).2.2.2.1 h2
theorem FR.notSunk (h : FR F a) {i : Nat} (hi : i < cT a) (h2 : a 9 i ≠ 2) : a 10 i = -2 := (h.2.2.2.2.2.1 i hi).2.2.2.2 h2
theorem FR.ropeA (h : FR F a) {i : Nat} (hi : i < cR a) : F.2.1 18 i = a 11 i := (h.2.2.2.2.2.2 i hi).1
theorem FR.ropeB (h : FR F a) {i : Nat} (hi : i < cR a) : F.2.1 19 i = a 12 i := (h.2.2.2.2.2.2 i hi).2.1
theorem FR.strength (h : FR F a) {i : Nat} (hi : i < cR a) : F.2.1 20 i = a 13 i := (h.2.2.2.2.2.2 i hi).2.2
theorem FR.rapidMile (h : FR F a) {i : Nat} (hi : i < cX a) : F.2.1 21 i = a 14 i := (h.1.2.2.2.2.2.2 i hi).1
theorem FR.force (h : FR F a) {i : Nat} (hi : i < cX a) : F.2.1 22 i = a 15 i := (h.1.2.2.2.2.2.2 i hi).2
end FR
/-! who is a thing, an owner, a rope -/
def isK (n : Nat) (v : Int32) : Bool := decide (0 ≤ v) && decide (v < Int32.ofNat n)
theorem isK_iff {n : Nat} {v : Int32} (hn : n < 2147483648) : isK n v = true ↔ ∃ k, k < n ∧ v = Int32.ofNat k := by
  rw [isK, Bool.and_eq_true, decide_eq_true_eq, decide_eq_true_eq]
  constructor
  · rintro ⟨h1, h2⟩
    rw [zI_of h1, zI_lt (zI_lt31 v) hn] at h2
    exact ⟨_, h2, zI_of h1⟩
  · rintro ⟨k, hk, rfl⟩
    rw [zI_pos (by omega), zI_lt (by omega) hn]
    exact ⟨trivial, hk⟩
theorem isK_nI {n k : Nat} (hn : n < 2147483648) (hk : k < 2147483648) : isK n (Int32.ofNat k) = decide (k < n) := by
  simp only [isK, zI_lt hk hn, zI_pos hk, decide_true, Bool.true_and]
theorem isK_case {α : Type} {A B : α} {n : Nat} {v : Int32} (hn : n < 2147483648) : (if v < 0 then A else if Int32.ofNat n ≤ v then A else B) = if isK n v = true then B else A := by
  by_cases h1 : v < 0
  · rw [if_pos h1, if_neg]
    rw [isK, Bool.and_eq_true, decide_eq_true_eq]
    exact fun z => absurd h1 (Int32.not_lt.mpr z.1)
  · rw [if_neg h1]
    by_cases h2 : Int32.ofNat n ≤ v
    · rw [if_pos h2, if_neg]
      rw [isK, Bool.and_eq_true, decide_eq_true_eq, decide_eq_true_eq]
      exact fun z => absurd z.2 (Int32.not_lt.mpr h2)
    · rw [if_neg h2, if_pos]
      rw [isK, Bool.and_eq_true, decide_eq_true_eq, decide_eq_true_eq]
      exact ⟨Int32.not_lt.mp h1, Int32.not_le.mp h2⟩
theorem if_b2 {α : Type} {A B : α} {x y : Bool} : (if b2 x = b2 y then A else B) = if x = y then A else B := by cases x <;> cases y <;> rfl
theorem f3_in_eq (v lo hi : Int64) : f3_in v lo hi = some (b2 (decide (lo ≤ v) && decide (v ≤ hi))) := by
  unfold f3_in
  by_cases h1 : lo ≤ v
  · rw [if_neg (Int32.not_lt.mpr ((lg_cmp_ge v lo).mpr h1))]
    by_cases h2 : v ≤ hi
    · rw [if_neg (Int32.not_lt.mpr ((lg_cmp_le v hi).mpr h2))]; simp [h1, h2, b2]
    · rw [if_pos (Int32.not_le.mp (fun z => h2 ((lg_cmp_le v hi).mp z)))]; simp [h2, b2]
  · rw [if_pos (Int32.not_le.mp (fun z => h1 ((lg_cmp_ge v lo).mp z)))]; simp [h1, b2]
theorem to64_le (x y : Int32) : (x.toInt64 ≤ y.toInt64) = (x ≤ y) := by
  rw [Int64.le_iff_toInt_le, Int32.le_iff_toInt_le, Int32.toInt_toInt64, Int32.toInt_toInt64]
theorem f3_in32 (v lo hi : Int32) : f3_in v.toInt64 lo.toInt64 hi.toInt64 = some (b2 (decide (lo ≤ v) && decide (v ≤ hi))) := by
  rw [f3_in_eq]; simp only [to64_le]
theorem f0_in32 (v lo hi : Int32) : f0_in v.toInt64 lo.toInt64 hi.toInt64 = some (b2 (decide (lo ≤ v) && decide (v ≤ hi))) := f3_in32 v lo hi
theorem le_pred {n : Nat} {v : Int32} (hn : n < 2147483648) : (v ≤ Int32.ofNat n - 1) = (v < Int32.ofNat n) := by
  rw [Int32.le_iff_toInt_le, Int32.lt_iff_toInt_lt, tI_sub (by rw [zI_int hn]; show (-2147483648 : Int) ≤ n - 1; omega) (by rw [zI_int hn]; show (n : Int) - 1 < _; omega), zI_int hn]
  show (v.toInt ≤ n - 1) = _
  exact propext ⟨fun h => by omega, fun h => by omega⟩
theorem f3_inK {n : Nat} {v : Int32} (hn : n < 2147483648) : f3_in v.toInt64 (0 : Int64) (Int32.ofNat n - 1).toInt64 = some (b2 (isK n v)) := by
  have h := f3_in32 v 0 (Int32.ofNat n - 1)
  simp only [le_pred hn] at h
  exact h
section ISK
variable {M F : Bl} {a : Ar} {v : Int32}
theorem f3_isThing_eq (g : GC M.2.1) : f3_isThing M v = some (b2 (isK (cT M.2.1) v)) := by
  unfold f3_isThing
  rw [g.2.1.1, f3_inK (by have := g.2.1.2; omega), bnd_s, chk_h (isB_b2 _)]
theorem f3_isOwner_eq (g : GC M.2.1) : f3_isOwner M v = some (b2 (isK (cO M.2.1) v)) := by
  unfold f3_isOwner
  rw [g.1.1, f3_inK (by have := g.1.2; omega), bnd_s, chk_h (isB_b2 _)]
theorem f3_isRope_eq (g : GC M.2.1) : f3_isRope M v = some (b2 (isK (cR M.2.1) v)) := by
  unfold f3_isRope
  rw [g.2.2.1.1, f3_inK (by have := g.2.2.1.2; omega), bnd_s, chk_h (isB_b2 _)]
def isAf (a : Ar) (v : Int32) : Bool := isK (cT a) v && decide (a 9 v.toNatClampNeg = 0)
theorem f3_isAfloat_eq (g : GC M.2.1) : f3_isAfloat M v = some (b2 (isAf M.2.1 v)) := by
  unfold f3_isAfloat isAf
  rw [f3_isThing_eq g, bnd_s, if_bit]
  have h8 := g.2.1.2
  cases h : isK (cT M.2.1) v with
  | false => rfl
  | true =>
    obtain ⟨k, hk, rfl⟩ := (isK_iff (by omega)).mp h
    rw [if_pos rfl, chk_h (zI_in (by omega) (by decide)), zI_nat (by omega)]
    by_cases hz : M.2.1 9 k = 0
    · rw [if_pos hz]; simp [hz, b2]
    · rw [if_neg hz]; simp [hz, b2]
theorem f1_isAfloat_eq (g : GC a) (h : FR F a) : f1_isAfloat F v = some (b2 (isAf a v)) := by
  unfold f1_isAfloat isAf
  have h8 := g.2.1.2
  rw [h.nT g, isK_case (by omega)]
  cases hk : isK (cT a) v with
  | false => rfl
  | true =>
    obtain ⟨k, hk2, rfl⟩ := (isK_iff (by omega)).mp hk
    rw [if_pos rfl, chk_h (zI_in (by omega) (by decide)), zI_nat (by omega), h.state hk2]
    by_cases hz : a 9 k = 0
    · rw [if_pos hz]; simp [hz, b2]
    · rw [if_neg hz]; simp [hz, b2]
end ISK
section FL
variable {F : Bl} {a : Ar}
theorem f1_afloat_eq (g : GC a) (h : FR F a) : f1_afloat F = some (sAf a) := by
  have h8 := g.2.1.2
  unfold f1_afloat sAf
  refine loop_seq (fun k => (mkS k (fun t => decide (a 9 t = 0)), Int32.ofNat k)) (cT a) (by omega) ?_ ?_
  · intro K k hk
    simp only [g1_afloat_4]
    rw [h.nT g, if_on hk (by omega), chk_h (zI_in (by omega) (by decide)), zI_nat (by omega), zI_succ, h.state hk]
    by_cases hz : a 9 k = 0
    · rw [if_pos hz, mkS_yes (by omega) (by simp [hz])]
    · rw [if_neg hz, mkS_no0 (by simp [hz])]
  · intro K
    simp only [g1_afloat_4]
    rw [h.nT g, if_off]
theorem f1_allRopes_eq (g : GC a) (h : FR F a) : f1_allRopes F = some (sRp a) := by
  unfold f1_allRopes sRp
  rw [h.nR g, mkS_all g.2.2.1.2]
theorem bit_all {k : Nat} (h : k < 32) : bit (-1 : Int32) k = true := (by decide +kernel : ∀ k, k < 32 → bit (-1 : Int32) k = true) k h
noncomputable def pc (a : Ar) (rp : Int32) (t : Nat) : Int32 := piece a (-1) rp t
theorem g1_piece_in (g : GC a) (hr : RE a) (h : FR F a) {rp s : Int32} (K7 : Int32 × Int32 → Option Int32) : loop (g1_pieceBy_18 F rp K7) FU (s, (0 : Int32), (0 : Int32)) = K7 (pas a (-1) rp (cR a) s, if pas a (-1) rp (cR a) s = s then 0 else 1) := by
  have h12 := g.2.2.1.2
  have e0 : (if pas a (-1) rp 0 s = s then (0 : Int32) else 1) = 0 := if_pos rfl
  refine Eq.trans ?_ (loop_seq (body := g1_pieceBy_18 F rp K7) (fun k => (pas a (-1) rp k s, (if pas a (-1) rp k s = s then (0 : Int32) else 1), Int32.ofNat k)) (cR a) (by omega) ?_ ?_)
  · (try dsimp only); rw [e0]; rfl
  · intro K k hk
    have hA : eA a k < 8 := (hr k hk).1.2
    have hB : eB a k < 8 := (hr k hk).2.2
    simp only [g1_pieceBy_18]
    rw [h.nR g, if_on hk (by omega), zI_nat (by omega), zI_succ, has_bit0 (by omega), bnd_s, if_bit, h.ropeA hk, h.ropeB hk, (hr k hk).1.1, (hr k hk).2.1, has_bit0 (by omega), has_bit0 (by omega), bnd_s, bnd_s, chk_h (zI_in (by omega) (by decide)), chk_h (zI_in (by omega) (by decide)), chk_h (zI_in (by omega) (by decide)), ltv_s, if_b2]
    have et : ((1 : Int32) <<< (Int32.ofNat (eA a k) &&& 31)) ||| ((1 : Int32) <<< (Int32.ofNat (eB a k) &&& 31)) = two a k := by
      rw [two, (hr k hk).1.1, (hr k hk).2.1]
    rw [et]
    show _ = K (stp a (-1) rp k (pas a (-1) rp k s), (if stp a (-1) rp k (pas a (-1) rp k s) = s then (0 : Int32) else 1), _)
    have hsub : ∀ u, bit s u = true → bit (pas a (-1) rp k s) u = true := fun u hu => pas_mono hu k
    generalize pas a (-1) rp k s = v at hsub
    unfold stp
    rw [bit_all (by omega), bit_all (by omega)]
    cases h1 : bit rp k with
    | false => simp
    | true =>
      simp only [Bool.and_self, Bool.true_and, if_true]
      by_cases h2 : bit v (eA a k) = bit v (eB a k)
      · rw [if_pos h2]
        have e : (if (bit v (eA a k) || bit v (eB a k)) = true then v ||| two a k else v) = v := by
          cases h3 : bit v (eA a k) with
          | false => rw [← h2, h3]; rfl
          | true =>
            rw [← h2, h3]
            refine bit_ext fun j hj => ?_
            simp only [Bool.or_self, if_true]
            rw [bit_or, bit_two hr hk hj]
            by_cases ea : j = eA a k
            · subst ea; simp [h3]
            · by_cases eb : j = eB a k
              · subst eb; simp [← h2, h3]
              · simp [ea, eb]
        rw [e]
      · rw [if_neg h2, chk_h (zI_in (by omega) (by decide))]
        have h3 : (bit v (eA a k) || bit v (eB a k)) = true := by
          cases h3 : bit v (eA a k) <;> cases h4 : bit v (eB a k) <;> simp_all
        rw [h3, if_pos rfl]
        have hne : ¬ v ||| two a k = s := by
          intro z
          have g1 : bit (v ||| two a k) (eA a k) = true := by rw [bit_or, bit_two hr hk (by omega)]; simp
          have g2 : bit (v ||| two a k) (eB a k) = true := by rw [bit_or, bit_two hr hk (by omega)]; simp
          rw [z] at g1 g2
          exact h2 (by rw [hsub _ g1, hsub _ g2])
        rw [if_neg hne]
  · intro K
    simp only [g1_pieceBy_18]
    rw [h.nR g, if_off]
theorem f1_pieceBy_eq (g : GC a) (hr : RE a) (h : FR F a) {rp : Int32} {t : Nat} (ht : t < 8) : f1_pieceBy F (Int32.ofNat t) rp = some (pc a rp t) := by
  unfold f1_pieceBy pc
  refine loop_meas (S := Int32 × Int32) (fun s => bit s.1 t = true ∧ (∀ u, u < 32 → bit s.1 u = true → bit (piece a (-1) rp t) u = true) ∧ (s.2 = 0 → Clo a (-1) rp s.1)) (fun s => if s.2 = 0 then 0 else cnt0 s.1 + 1) (fun _ => some (piece a (-1) rp t)) ?_ ?_ ?_
  · rintro K ⟨s, f⟩ ⟨h1, h2, h3⟩ hK
    simp only [g1_pieceBy_7]
    by_cases hf : f = 0
    · rw [if_pos hf]
      exact congrArg some (piece_uniq hr h1 (h3 hf) h2)
    · rw [if_neg hf, g1_piece_in g hr h]
      refine hK _ ⟨pas_mono h1 _, pas_in hr h2 _ (Nat.le_refl _), fun hz => ?_⟩ ?_
      · have hz : (if pas a (-1) rp (cR a) s = s then (0 : Int32) else 1) = 0 := hz
        by_cases e : pas a (-1) rp (cR a) s = s
        · show Clo a (-1) rp (pas a (-1) rp (cR a) s)
          rw [e]; exact pas_clo hr e
        · rw [if_neg e] at hz; cases hz
      · show (if (if pas a (-1) rp (cR a) s = s then (0 : Int32) else 1) = 0 then 0 else _) < if f = 0 then 0 else _
        rw [if_neg hf]
        by_cases e : pas a (-1) rp (cR a) s = s
        · rw [if_pos (if_pos e)]; exact Nat.succ_pos _
        · rw [if_neg (by rw [if_neg e]; decide)]
          exact Nat.succ_lt_succ (cnt0_lt (fun u _ hu => pas_mono hu _) (fun u hu hb => piece_lt hu (pas_in hr h2 _ (Nat.le_refl _) u hu hb)) e)
  · refine ⟨by rw [bit_shl (by omega) (by omega)]; simp, fun u hu hb => ?_, fun h => by cases h⟩
    rw [bit_shl (by omega) hu] at hb
    have e : u = t := by simpa using hb
    subst e
    exact piece_self ht
  · show (if (1 : Int32) = 0 then 0 else cnt0 ((1 : Int32) <<< (Int32.ofNat t &&& 31)) + 1) < _
    rw [if_neg (by decide)]
    have : cnt0 ((1 : Int32) <<< (Int32.ofNat t &&& 31)) ≤ 8 * 1 := sumN_le 8 (fun k _ => by split <;> omega)
    omega
end FL
/-! laws of pieces -/
section PC
variable {a : Ar} {rp W : Int32} {t u : Nat}
/-- ropes join what is afloat -/
def RA (a : Ar) : Prop := RE a ∧ ∀ k, k < cR a → eA a k < eB a k ∧ eA a k < cT a ∧ eB a k < cT a ∧ a 9 (eA a k) = 0 ∧ a 9 (eB a k) = 0
theorem bit_af (hu : u < 32) : bit (sAf a) u = (decide (u < cT a) && decide (a 9 u = 0)) := by rw [sAf, bit_mkS hu]
theorem Clo_af (h : RA a) {Q : Int32} : Clo a (sAf a) rp Q ↔ Clo a (-1) rp Q := by
  constructor
  · intro hc k hk h1 _ _
    obtain ⟨-, g1, g2, g3, g4⟩ := h.2 k hk
    have hA : eA a k < 8 := (h.1 k hk).1.2
    have hB : eB a k < 8 := (h.1 k hk).2.2
    exact hc k hk h1 (by rw [bit_af (by omega)]; simp [g1, g3]) (by rw [bit_af (by omega)]; simp [g2, g4])
  · intro hc k hk h1 _ _
    have hA : eA a k < 8 := (h.1 k hk).1.2
    have hB : eB a k < 8 := (h.1 k hk).2.2
    exact hc k hk h1 (bit_all (by omega)) (bit_all (by omega))
theorem piece_af (h : RA a) : piece a (sAf a) rp t = pc a rp t := by
  refine bit_ext fun u hu => ?_
  rw [Bool.eq_iff_iff, pc, piece_bit hu, piece_bit hu]
  simp only [Clo_af h]
theorem pc_self (ht : t < 8) : bit (pc a rp t) t = true := piece_self ht
theorem pc_lt (hu : u < 32) (h : bit (pc a rp t) u = true) : u < 8 := piece_lt hu h
theorem pc_clo (hr : RE a) {k : Nat} (hk : k < cR a) (h1 : bit rp k = true) : bit (pc a rp t) (eA a k) = bit (pc a rp t) (eB a k) := by
  have hA : eA a k < 8 := (hr k hk).1.2
  have hB : eB a k < 8 := (hr k hk).2.2
  exact piece_clo hr t k hk h1 (bit_all (by omega)) (bit_all (by omega))
theorem pc_min (hu : u < 32) (h : bit (pc a rp t) u = true) {Q : Int32} (h1 : bit Q t = true) (h2 : ∀ k, k < cR a → bit rp k = true → bit Q (eA a k) = bit Q (eB a k)) : bit Q u = true :=
  piece_min hu h h1 (fun k hk g _ _ => h2 k hk g)
/-- one that hangs together with it has the same piece -/
theorem piece_eq (hr : RE a) (ht : t < 8) (hu : u < 8) (h : bit (piece a W rp t) u = true) : piece a W rp u = piece a W rp t := by
  have hsub : ∀ x y v, x < 8 → y < 8 → v < 32 → bit (piece a W rp x) y = true → bit (piece a W rp y) v = true → bit (piece a W rp x) v = true :=
    fun x y v _ _ hv h1 h2 => piece_min hv h2 h1 (piece_clo hr x)
  have hback : bit (piece a W rp u) t = true := by
    cases hb : bit (piece a W rp u) t with
    | true => rfl
    | false =>
      exfalso
      have hq : ∀ v, v < 32 → bit (piece a W rp u ^^^ (-1 : Int32)) v = !bit (piece a W rp u) v := fun v hv => bit_not _ hv
      have := piece_min (by omega) h (Q := piece a W rp u ^^^ (-1 : Int32)) (by rw [hq t (by omega), hb]; rfl) (fun k hk h1 h2 h3 => by
        have hA : eA a k < 8 := (hr k hk).1.2
        have hB : eB a k < 8 := (hr k hk).2.2
        rw [hq _ (by omega), hq _ (by omega), piece_clo hr u k hk h1 h2 h3])
      rw [hq u (by omega), piece_self hu] at this
      cases this
  refine bit_ext fun v hv => ?_
  rw [Bool.eq_iff_iff]
  exact ⟨fun hb => hsub t u v ht hu hv h hb, fun hb => hsub u t v hu ht hv hback hb⟩
theorem pc_eq (hr : RE a) (ht : t < 8) (hu : u < 8) (h : bit (pc a rp t) u = true) : pc a rp u = pc a rp t := piece_eq hr ht hu h
theorem pc_af (h : RA a) (ht : t < cT a) (h8 : cT a ≤ 8) (h0 : a 9 t = 0) (hu : u < 32) (hb : bit (pc a rp t) u = true) : u < cT a ∧ a 9 u = 0 := by
  have := pc_min hu hb (Q := sAf a) (by rw [bit_af (by omega)]; simp [ht, h0]) (fun k hk _ => by
    obtain ⟨-, g1, g2, g3, g4⟩ := h.2 k hk
    have hA : eA a k < 8 := (h.1 k hk).1.2
    have hB : eB a k < 8 := (h.1 k hk).2.2
    rw [bit_af (by omega), bit_af (by omega)]; simp [g1, g2, g3, g4])
  rw [bit_af hu] at this
  simpa using this
end PC

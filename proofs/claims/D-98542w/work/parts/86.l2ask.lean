/-! PLAIN LAW: what is asked of a river -/
set_option maxRecDepth 100000
theorem NR.gc {a : Ar} {p : Int32} (h : NR a p) : GC a := by
  have e : ∀ i, i < 8 → (a 1 i).toNatClampNeg = 0 := fun i hi => by rw [h.1 i hi]; rfl
  refine ⟨⟨?_, ?_⟩, ⟨?_, ?_⟩, ⟨?_, ?_⟩, ⟨?_, ?_⟩, ?_, ?_⟩
  · unfold cO; rw [e 2 (by omega), h.1 2 (by omega)]; rfl
  · unfold cO; rw [e 2 (by omega)]; omega
  · unfold cT; rw [e 3 (by omega), h.1 3 (by omega)]; rfl
  · unfold cT; rw [e 3 (by omega)]; omega
  · unfold cR; rw [e 4 (by omega), h.1 4 (by omega)]; rfl
  · unfold cR; rw [e 4 (by omega)]; omega
  · unfold cX; rw [e 5 (by omega), h.1 5 (by omega)]; rfl
  · unfold cX; rw [e 5 (by omega)]; omega
  · unfold cF; rw [e 7 (by omega), h.1 7 (by omega)]; rfl
  · unfold cF; rw [e 7 (by omega)]; omega
theorem NR.nO {a : Ar} {p : Int32} (h : NR a p) : cO a = 0 := by unfold cO; rw [h.1 2 (by omega)]; rfl
theorem NR.nT {a : Ar} {p : Int32} (h : NR a p) : cT a = 0 := by unfold cT; rw [h.1 3 (by omega)]; rfl
theorem NR.nR {a : Ar} {p : Int32} (h : NR a p) : cR a = 0 := by unfold cR; rw [h.1 4 (by omega)]; rfl
theorem RV.gc {x : Nat → Bl} {M : Bl} (h : RV x M) : GC M.2.1 := by
  rcases h with ⟨-, h⟩ | ⟨-, h⟩
  · exact h.gc
  · exact h.2.1.1
theorem isK_zero (v : Int32) : isK 0 v = false := by
  cases h : isK 0 v with
  | false => rfl
  | true => obtain ⟨k, hk, -⟩ := (isK_iff (by decide)).mp h; omega
section Q
variable {x : Nat → Bl} {M : Bl} {v v1 v2 v3 : Int32}
theorem f0_isThing_eq (h : RV x M) : f0_isThing x v = some (b2 (isK (cT M.2.1) v)) := by
  unfold f0_isThing
  rcases h with ⟨hz, h⟩ | ⟨hz, h⟩
  · rw [if_pos hz, h.nT, isK_zero]; rfl
  · have h8 := h.2.1.1.2.1.2
    rw [if_neg hz, chk_h (decide_eq_true hz), h.1.nT h.2.1.1, isK_case (by omega)]
    cases isK (cT M.2.1) v <;> rfl
theorem f0_isOwner_eq (h : RV x M) : f0_isOwner x v = some (b2 (isK (cO M.2.1) v)) := by
  unfold f0_isOwner
  rcases h with ⟨hz, h⟩ | ⟨hz, h⟩
  · rw [if_pos hz, h.nO, isK_zero]; rfl
  · have h8 := h.2.1.1.1.2
    rw [if_neg hz, chk_h (decide_eq_true hz), h.1.nO h.2.1.1, isK_case (by omega)]
    cases isK (cO M.2.1) v <;> rfl
theorem f0_isRope_eq (h : RV x M) : f0_isRope x v = some (b2 (isK (cR M.2.1) v)) := by
  unfold f0_isRope
  rcases h with ⟨hz, h⟩ | ⟨hz, h⟩
  · rw [if_pos hz, h.nR, isK_zero]; rfl
  · have h8 := h.2.1.1.2.2.1.2
    rw [if_neg hz, chk_h (decide_eq_true hz), h.1.nR h.2.1.1, isK_case (by omega)]
    cases isK (cR M.2.1) v <;> rfl
theorem f0_isAfloat_eq (h : RV x M) : f0_isAfloat x v = some (b2 (isAf M.2.1 v)) := by
  unfold f0_isAfloat
  rcases h with ⟨hz, h⟩ | ⟨hz, h⟩
  · rw [if_pos hz]
    have : isAf M.2.1 v = false := by unfold isAf; rw [h.nT, isK_zero]; rfl
    rw [this]; rfl
  · rw [if_neg hz, chk_h (decide_eq_true hz), f1_isAfloat_eq h.2.1.1 h.1, bnd_s, if_bit]
    cases isAf M.2.1 v <;> rfl
theorem RV.of_K {n : Nat} (h : RV x M) (hn : n = cT M.2.1 ∨ n = cO M.2.1 ∨ n = cR M.2.1) (hk : isK n v = true) : ¬ (x 0).1 0 = 0 ∧ RVa (x 1) M.2.1 (M.1 55) := by
  rcases h with ⟨hz, h⟩ | h
  · have : n = 0 := by rcases hn with e | e | e <;> rw [e]
                       · exact h.nT
                       · exact h.nO
                       · exact h.nR
    rw [this, isK_zero] at hk; cases hk
  · exact h
theorem isAf_K (hk : isAf M.2.1 v = true) : isK (cT M.2.1) v = true := by
  unfold isAf at hk; rw [Bool.and_eq_true] at hk; exact hk.1
theorem f1_pieceOf_eq {F : Bl} {a : Ar} {t : Nat} (g : GR a) (h : FR F a) (ht : t < 8) : f1_pieceOf F (Int32.ofNat t) = some (pc a (sRp a) t) := by
  unfold f1_pieceOf
  rw [f1_allRopes_eq g.1 h, bnd_s, f1_pieceBy_eq g.1 g.2.1.1 h ht, bnd_s]
theorem f3_pieceOf_eq {t : Nat} (g : GR M.2.1) (ht : t < 8) : f3_pieceOf M (Int32.ofNat t) = some (pc M.2.1 (sRp M.2.1) t) := by
  unfold f3_pieceOf
  rw [f3_afloat_eq g.1, bnd_s, f3_allRopes_eq g.1, bnd_s, f3_hangsWith_eq g.1 g.2.1.1 ht, bnd_s, piece_af g.2.1]
theorem thing_sim (h : RV x M) : ∃ r, f0_thing x v1 v2 = some r ∧ f3_thing M v1 v2 = some r := by
  unfold f0_thing f3_thing
  rw [f0_isThing_eq h, f3_isThing_eq h.gc, bnd_s, bnd_s, if_bit, if_bit]
  cases hk : isK (cT M.2.1) v1 with
  | false => exact ⟨_, rfl, rfl⟩
  | true =>
    obtain ⟨hz, hv⟩ := h.of_K (Or.inl rfl) hk
    have h8 := hv.2.1.1.2.1.2
    rw [f0_isAfloat_eq h]
    obtain ⟨k, hk2, rfl⟩ := (isK_iff (by omega)).mp hk
    have hin : inB (Int32.ofNat k) 8 = true := zI_in (by omega) (by decide)
    have hkk : (Int32.ofNat k).toNatClampNeg = k := zI_nat (by omega)
    have hcf : decide (¬ (x 0).1 0 = 0) = true := decide_eq_true hz
    simp only [if_true, hin, hkk, hcf, chk_t, bnd_s, if_bit, f1_pieceOf_eq hv.2.1 hv.1 (show k < 8 by omega), f3_pieceOf_eq hv.2.1 (show k < 8 by omega), hv.1.owner hk2, hv.1.weight hk2, hv.1.bears hk2, hv.1.soak hk2, hv.1.state hk2]
    by_cases c0 : v2 = 0
    · simp only [if_pos c0]; exact ⟨_, rfl, rfl⟩
    by_cases c1 : v2 = 1
    · simp only [if_neg c0, if_pos c1]; exact ⟨_, rfl, rfl⟩
    by_cases c2 : v2 = 2
    · simp only [if_neg c0, if_neg c1, if_pos c2]; exact ⟨_, rfl, rfl⟩
    by_cases c3 : v2 = 3
    · simp only [if_neg c0, if_neg c1, if_neg c2, if_pos c3]; exact ⟨_, rfl, rfl⟩
    by_cases c4 : v2 = 4
    · simp only [if_neg c0, if_neg c1, if_neg c2, if_neg c3, if_pos c4]; exact ⟨_, rfl, rfl⟩
    by_cases c5 : v2 = 5
    · simp only [if_neg c0, if_neg c1, if_neg c2, if_neg c3, if_neg c4, if_pos c5]
      have e : isAf M.2.1 (Int32.ofNat k) = decide (M.2.1 9 k = 0) := by unfold isAf; rw [hk, hkk]; rfl
      rw [e]
      by_cases hs : M.2.1 9 k = 0
      · rw [if_pos (decide_eq_true hs), if_pos hs]; exact ⟨_, rfl, rfl⟩
      · rw [if_neg (by simpa using hs), if_neg hs]; exact ⟨_, rfl, rfl⟩
    · simp only [if_neg c0, if_neg c1, if_neg c2, if_neg c3, if_neg c4, if_neg c5]; exact ⟨_, rfl, rfl⟩
theorem rope_sim (h : RV x M) : ∃ r, f0_rope x v1 v2 = some r ∧ f3_rope M v1 v2 = some r := by
  unfold f0_rope f3_rope
  rw [f0_isRope_eq h, f3_isRope_eq h.gc, bnd_s, bnd_s, if_bit, if_bit]
  cases hk : isK (cR M.2.1) v1 with
  | false => exact ⟨_, rfl, rfl⟩
  | true =>
    obtain ⟨hz, hv⟩ := h.of_K (Or.inr (Or.inr rfl)) hk
    have h12 := hv.2.1.1.2.2.1.2
    obtain ⟨k, hk2, rfl⟩ := (isK_iff (by omega)).mp hk
    have hin : inB (Int32.ofNat k) 12 = true := zI_in (by omega) (by decide)
    have hkk : (Int32.ofNat k).toNatClampNeg = k := zI_nat (by omega)
    have hcf : decide (¬ (x 0).1 0 = 0) = true := decide_eq_true hz
    simp only [if_true, hin, hkk, hcf, chk_t, hv.1.ropeA hk2, hv.1.ropeB hk2, hv.1.strength hk2]
    by_cases c0 : v2 = 0
    · simp only [if_pos c0]; exact ⟨_, rfl, rfl⟩
    by_cases c1 : v2 = 1
    · simp only [if_neg c0, if_pos c1]; exact ⟨_, rfl, rfl⟩
    by_cases c2 : v2 = 2
    · simp only [if_neg c0, if_neg c1, if_pos c2]; exact ⟨_, rfl, rfl⟩
    · simp only [if_neg c0, if_neg c1, if_neg c2]; exact ⟨_, rfl, rfl⟩
/-! rapids -/
def foP (a : Ar) (v : Int32) (k : Nat) : Bool := decide (a 14 k = v)
def sFo (a : Ar) (v : Int32) : Int32 := if fsN (foP a v) (cX a) < cX a then a 15 (fsN (foP a v) (cX a)) else 0
theorem f3_forceAt_eq (g : GC M.2.1) : f3_forceAt M v = some (sFo M.2.1 v) := by
  obtain ⟨-, -, -, ⟨hX, h6⟩, -⟩ := g
  have hs := fsN_spec (foP M.2.1 v) (cX M.2.1)
  have hl := fsN_le (foP M.2.1 v) (cX M.2.1)
  unfold f3_forceAt sFo
  refine loop_seq (fun k => Int32.ofNat k) (fsN (foP M.2.1 v) (cX M.2.1)) (by omega) ?_ ?_
  · intro K k hk
    have hp := hs.1 k hk
    unfold foP at hp
    simp only [g3_forceAt_2]
    rw [hX, if_on (by omega) (by omega), chk_h (zI_in (by omega) (by decide)), zI_nat (by omega), if_neg (by simpa using hp), zI_succ]
  · intro K
    simp only [g3_forceAt_2]
    by_cases hc : fsN (foP M.2.1 v) (cX M.2.1) < cX M.2.1
    · have hp := hs.2 hc
      rw [hX, if_on hc (by omega), if_pos hc, chk_h (zI_in (by omega) (by decide)), chk_h (zI_in (by omega) (by decide)), zI_nat (by omega), if_pos (by simpa [foP] using hp)]
    · rw [if_neg hc, show fsN (foP M.2.1 v) (cX M.2.1) = cX M.2.1 by omega, hX, if_off]
theorem f1_forceAt_eq {F : Bl} {a : Ar} (g : GC a) (h : FR F a) : f1_forceAt F v = some (sFo a v) := by
  have h6 := g.2.2.2.1.2
  have hs := fsN_spec (foP a v) (cX a)
  have hl := fsN_le (foP a v) (cX a)
  unfold f1_forceAt sFo
  refine loop_seq (fun k => Int32.ofNat k) (fsN (foP a v) (cX a)) (by omega) ?_ ?_
  · intro K k hk
    have hp := hs.1 k hk
    unfold foP at hp
    simp only [g1_forceAt_2]
    rw [h.nX g, if_on (by omega) (by omega), chk_h (zI_in (by omega) (by decide)), zI_nat (by omega), h.rapidMile (by omega), if_neg (by simpa using hp), zI_succ]
  · intro K
    simp only [g1_forceAt_2]
    by_cases hc : fsN (foP a v) (cX a) < cX a
    · have hp := hs.2 hc
      rw [h.nX g, if_on hc (by omega), if_pos hc, chk_h (zI_in (by omega) (by decide)), chk_h (zI_in (by omega) (by decide)), zI_nat (by omega), h.rapidMile hc, h.force hc, if_pos (by simpa [foP] using hp)]
    · rw [if_neg hc, show fsN (foP a v) (cX a) = cX a by omega, h.nX g, if_off]
theorem isRiver_no (h : NR M.2.1 (M.1 55)) : f3_isRiver M = some 0 := by
  unfold f3_isRiver; rw [h.1 0 (by omega)]; rfl
theorem isRiver_yes (g : GR M.2.1) : f3_isRiver M = some 1 := by
  unfold f3_isRiver
  have h := g.2.2.2.2.1.1
  rw [if_neg]
  rw [Int32.le_iff_toInt_le]
  show ¬ (M.2.1 1 0).toInt ≤ 0
  omega
theorem rapid_sim (h : RV x M) : ∃ r, f0_rapid x v = some r ∧ f3_rapid M v = some r := by
  unfold f0_rapid f3_rapid
  rcases h with ⟨hz, h⟩ | ⟨hz, h⟩
  · rw [if_pos hz, isRiver_no h, bnd_s]; exact ⟨_, rfl, rfl⟩
  · rw [if_neg hz, isRiver_yes h.2.1, bnd_s, chk_h (decide_eq_true hz), h.1.miles, if_neg (by decide)]
    have e0 := f0_in32 v 0 (M.2.1 1 0)
    have e3 := f3_in32 v 0 (M.2.1 1 0)
    change f0_in v.toInt64 (0 : Int64) (M.2.1 1 0).toInt64 = _ at e0
    change f3_in v.toInt64 (0 : Int64) (M.2.1 1 0).toInt64 = _ at e3
    rw [e0, e3, bnd_s, bnd_s, if_bit, if_bit]
    cases (decide (0 ≤ v) && decide (v ≤ M.2.1 1 0)) with
    | false => exact ⟨_, rfl, rfl⟩
    | true =>
      simp only [if_true]
      rw [chk_h (decide_eq_true hz), f1_forceAt_eq h.2.1.1 h.1, f3_forceAt_eq h.2.1.1]
      exact ⟨_, rfl, rfl⟩
/-! a part of the flow told anew is no matter -/
theorem RVa.part {F : Bl} {a : Ar} {p : Int32} {g : Nat → Int32} (h : RVa F a p) : RVa (bS F 28 g) a p := h
theorem RL.part {g : Nat → Int32} (h : RL x M) : RL (upX x 1 (bS (x 1) 28 g)) M := by
  refine h.keep Kx.up1 Km.refl ?_
  rcases h.1 with ⟨hz, h⟩ | ⟨hz, h⟩
  · exact Or.inl ⟨by rw [upX_ne (by decide)]; exact hz, h⟩
  · exact Or.inr ⟨by rw [upX_ne (by decide)]; exact hz, by rw [upX_self]; exact h⟩
theorem least_eq {s : Int32} {k : Nat} (hk : k < 32) (h1 : bit s k = true) (h2 : ∀ j, j < k → bit s j = false) : f3_least s = some (Int32.ofNat k) := by
  unfold f3_least
  refine loop_seq (fun k => Int32.ofNat k) k (by omega) ?_ ?_
  · intro K j hj
    simp only [g3_least_2]
    rw [has_bit (by omega), bnd_s, if_bit, h2 j hj, if_neg (by decide), zI_succ]
  · intro K
    simp only [g3_least_2]
    rw [has_bit hk, bnd_s, if_bit, h1, if_pos rfl]
/-- the one ridden is the least of its piece -/
theorem rd_least {a : Ar} {rp q : Int32} (g : GC a) (hr : RA a) : ∀ k t, k ≤ cT a → (rd a rp q k).1 = some t → ∀ j, j < t → bit (pc a rp t) j = false := by
  intro k
  induction k with
  | zero => intro t _ h; cases h
  | succ k ih =>
    intro t hk h j hj
    unfold rd at h
    split at h
    · rename_i hc
      have e : k = t := Option.some.inj h
      subst e
      cases hb : bit (pc a rp k) j with
      | false => rfl
      | true =>
        have h8 := g.2.1.2
        obtain ⟨g1, g2⟩ := pc_af hr (by omega) h8 hc.1 (by omega) hb
        have e := pc_eq hr.1 (show k < 8 by omega) (show j < 8 by omega) hb
        have hm := rd_max (rp := rp) (q := q) k hj g2
        have e2 : cq a rp q j = cq a rp q k := by unfold cq; rw [e]
        omega
    · exact ih t (by omega) h j hj
theorem owner_sim (h : RL x M) : ∃ r x', f0_owner x v1 v2 = some (r, x') ∧ f3_owner M v1 v2 = some r ∧ RL x' M ∧ Kx x x' := by
  have hV := h.1
  unfold f0_owner f3_owner
  rw [f0_isOwner_eq hV, f3_isOwner_eq hV.gc, bnd_s, bnd_s, if_bit, if_bit]
  cases hk : isK (cO M.2.1) v1 with
  | false => exact ⟨_, x, rfl, rfl, h, Kx.refl⟩
  | true =>
    obtain ⟨hz, hv⟩ := hV.of_K (Or.inr (Or.inl rfl)) hk
    have h6 := hv.2.1.1.1.2
    have h8 := hv.2.1.1.2.1.2
    obtain ⟨k, hk2, rfl⟩ := (isK_iff (by omega)).mp hk
    have hin : inB (Int32.ofNat k) 6 = true := zI_in (by omega) (by decide)
    have hkk : (Int32.ofNat k).toNatClampNeg = k := zI_nat (by omega)
    have hcf : decide (¬ (x 0).1 0 = 0) = true := decide_eq_true hz
    simp only [if_true, hin, hkk, hcf, chk_t, hv.1.landing hk2, hv.1.mass hk2, hv.1.place hk2, f1_allRopes_eq hv.2.1.1 hv.1, f3_allRopes_eq hv.2.1.1, bnd_s, f1_parts_eq hv.2.1.1 hv.2.1.2.1.1 hv.1]
    by_cases c0 : v2 = 0
    · simp only [if_pos c0]; exact ⟨_, x, rfl, rfl, h, Kx.refl⟩
    by_cases c1 : v2 = 1
    · simp only [if_neg c0, if_pos c1]; exact ⟨_, x, rfl, rfl, h, Kx.refl⟩
    by_cases c2 : v2 = 2
    · simp only [if_neg c0, if_neg c1, if_pos c2]; exact ⟨_, x, rfl, rfl, h, Kx.refl⟩
    by_cases c3 : v2 = 3
    · simp only [if_neg c0, if_neg c1, if_neg c2, if_pos c3]
      have hcf2 : decide (¬ ((upX x 1 (bS (x 1) 28 (paV (x 1) M.2.1 (sRp M.2.1) (cT M.2.1)))) 0).1 0 = 0) = true := by rw [upX_ne (by decide)]; exact hcf
      rw [hcf2, chk_t, upX_self, f1_rides_eq hv.2.1.1 hv.2.1.2.1 hv.1.parts PA_parts hk2, bnd_s, f3_riddenBy_eq hv.2.1.1 hv.2.1.2.1 hk2, bnd_s]
      refine ⟨_, _, rfl, ?_, h.part, Kx.up1⟩
      cases hx : rdr M.2.1 (sRp M.2.1) k with
      | none => rfl
      | some t =>
        have ht := rdr_some hx
        show (if pc M.2.1 (sRp M.2.1) t = 0 then _ else _) = some (Int32.ofNat t)
        rw [if_neg (fun z => by have := pc_self (a := M.2.1) (rp := sRp M.2.1) (t := t) (by omega); rw [z, bit_zero] at this; cases this)]
        have hx2 : (rd M.2.1 (sRp M.2.1) (Int32.ofNat k) (cT M.2.1)).1 = some t := by
          unfold rdr at hx; rw [if_pos ht.2.2] at hx; exact hx
        show bnd (f3_least (pc M.2.1 (sRp M.2.1) t)) (fun r8 => some r8) = _
        rw [least_eq (by omega) (pc_self (by omega)) (rd_least hv.2.1.1 hv.2.1.2.1 _ _ (Nat.le_refl _) hx2), bnd_s]
    · simp only [if_neg c0, if_neg c1, if_neg c2, if_neg c3]; exact ⟨_, x, rfl, rfl, h, Kx.refl⟩
theorem margin_sim (h : RL x M) : ∃ r x', f0_margin x v = some (r, x') ∧ f3_margin M v = some r ∧ RL x' M ∧ Kx x x' := by
  have hV := h.1
  unfold f0_margin f3_margin
  rw [f0_isAfloat_eq hV, f3_isAfloat_eq hV.gc, bnd_s, bnd_s, if_bit, if_bit]
  cases hk : isAf M.2.1 v with
  | false => exact ⟨_, x, rfl, rfl, h, Kx.refl⟩
  | true =>
    obtain ⟨hz, hv⟩ := hV.of_K (Or.inl rfl) (isAf_K hk)
    have h8 := hv.2.1.1.2.1.2
    obtain ⟨k, hk2, rfl⟩ := (isK_iff (by omega)).mp (isAf_K hk)
    have hkk : (Int32.ofNat k).toNatClampNeg = k := zI_nat (by omega)
    have h9 : M.2.1 9 k = 0 := by
      unfold isAf at hk; rw [Bool.and_eq_true, hkk] at hk; exact of_decide_eq_true hk.2
    simp only [if_true]
    rw [chk_h (decide_eq_true hz), f3_pieceOf_eq hv.2.1 (by omega), bnd_s, f3_allRopes_eq hv.2.1.1, bnd_s, f3_marginOf_eq hv.2.1.1 hv.2.1.2.1 hk2, bnd_s]
    unfold f1_marginOf
    have hp := PA_parts (F := x 1) (a := M.2.1) (rp := sRp M.2.1) k hk2
    rw [if_pos h9] at hp
    rw [f1_allRopes_eq hv.2.1.1 hv.1, bnd_s, f1_parts_eq hv.2.1.1 hv.2.1.2.1.1 hv.1, bnd_s, chk_h (zI_in (by omega) (by decide)), hkk, hp, f1_bearsOf_eq hv.2.1.1 hv.1.parts, bnd_s, chk_h (zI_in (by omega) (by decide)), f1_ridersOf_eq hv.2.1.1 hv.2.1.2.1 hv.1.parts PA_parts, bnd_s, bnd2_s]
    exact ⟨_, _, rfl, rfl, h.part, Kx.up1⟩
end Q

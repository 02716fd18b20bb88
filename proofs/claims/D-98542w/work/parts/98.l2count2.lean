/-! PLAIN LAW: pieces, weak things, count; printed by gen/l2count.py -/
set_option maxRecDepth 100000
theorem isAf_nI {a : Ar} {k : Nat} (h8 : cT a ≤ 8) (hk : k < 2147483648) : isAf a (Int32.ofNat k) = (decide (k < cT a) && decide (a 9 k = 0)) := by
  unfold isAf; rw [isK_nI (by omega) hk, zI_nat hk]
theorem small_pc {a : Ar} {rp : Int32} {t : Nat} : ∀ k, 12 ≤ k → k < 32 → bit (pc a rp t) k = false := fun k h1 h2 => by
  cases hb : bit (pc a rp t) k with
  | false => rfl
  | true => have := pc_lt h2 hb; omega
theorem pc_ne {a : Ar} {rp : Int32} {t : Nat} (ht : t < 8) : ¬ pc a rp t = 0 := fun z => by
  have := pc_self (a := a) (rp := rp) ht
  rw [z, bit_zero] at this; cases this
section P
variable {x : Nat → Bl} {M : Bl} {v v1 v2 v3 : Int32}
noncomputable def cPc (a : Ar) (t : Nat) : Int32 := if a 9 t = 0 then (if Int32.ofNat (lowB (pc a (sRp a) t)) = Int32.ofNat t then 1 else 0) else 0
theorem f3_pieces_eq (g : GR M.2.1) : f3_pieces M = some (sumI (cT M.2.1) (cPc M.2.1)) := by
  obtain ⟨hT, h8⟩ := g.1.2.1
  unfold f3_pieces
  refine loop_seq (fun k => (sumI k (cPc M.2.1), Int32.ofNat k)) (cT M.2.1) (by omega) ?_ ?_
  · intro K k hk
    simp only [g3_pieces_4]
    rw [hT, if_on hk (by omega), chk_h (zI_in (by omega) (by decide)), zI_nat (by omega), zI_succ]
    simp only [sumI, cPc]
    by_cases h9 : M.2.1 9 k = 0
    · rw [if_pos h9, if_pos h9, f3_pieceOf_eq g (by omega), bnd_s, (ntz_eq small_pc (pc_ne (by omega))).2.2.2, bnd_s]
      by_cases hq : Int32.ofNat (lowB (pc M.2.1 (sRp M.2.1) k)) = Int32.ofNat k
      · rw [if_pos hq, if_pos hq]
      · rw [if_neg hq, if_neg hq]
    · rw [if_neg h9, if_neg h9]
  · intro K
    simp only [g3_pieces_4]
    rw [hT, if_off]
theorem f0_pieces_eq (hz : ¬ (x 0).1 0 = 0) (hv : RVa (x 1) M.2.1 (M.1 55)) : f0_pieces x = some (sumI (cT M.2.1) (cPc M.2.1)) := by
  obtain ⟨hT, h8⟩ := hv.2.1.1.2.1
  have hcf : decide (¬ (x 0).1 0 = 0) = true := decide_eq_true hz
  unfold f0_pieces
  refine loop_seq (fun k => (sumI k (cPc M.2.1), Int32.ofNat k)) (cT M.2.1) (by omega) ?_ ?_
  · intro K k hk
    simp only [g0_pieces_4]
    rw [hcf, chk_t, hv.1.nT hv.2.1.1, if_on hk (by omega), f0_isAfloat_eq (Or.inr ⟨hz, hv⟩), bnd_s, if_bit, isAf_nI h8 (by omega), zI_succ, decide_eq_true hk, Bool.true_and]
    simp only [sumI, cPc]
    by_cases h9 : M.2.1 9 k = 0
    · rw [if_pos (decide_eq_true h9), if_pos h9, chk_t, f1_pieceOf_eq hv.2.1 hv.1 (by omega), bnd_s, (ntz_eq small_pc (pc_ne (by omega))).2.2.1, bnd_s]
      by_cases hq : Int32.ofNat (lowB (pc M.2.1 (sRp M.2.1) k)) = Int32.ofNat k
      · rw [if_pos hq, if_pos hq]
      · rw [if_neg hq, if_neg hq]
    · rw [if_neg (by simpa using h9), if_neg h9]
  · intro K
    simp only [g0_pieces_4]
    rw [hcf, chk_t, hv.1.nT hv.2.1.1, if_off]
/-! weak things -/
theorem f1_ropesAt_eq {F : Bl} {a : Ar} {S : Int32} (g : GC a) (hr : RA a) (h : FR F a) : f1_ropesAt F S = some (mkS (cR a) (fun r => tch S (a 11 r, a 12 r, a 13 r))) := by
  have h12 := g.2.2.1.2
  rw [f1_ropesAt_raw (h.nR g) h12 (by
    rw [h.rls]; intro y hy; have := RA_iff.mp hr y hy; exact ⟨this.1, this.2.1⟩)]
  congr 1
  refine bit_ext fun k hk => ?_
  rw [bit_mkS hk, bit_mkS hk]
  by_cases c : k < cR a
  · rw [h.ropeA c, h.ropeB c, h.strength c]
  · simp [c]
/-- a piece without one of its things, by its ropes -/
theorem pc_without {a : Ar} (g : GC a) (hr : RA a) {t u : Nat} (ht : t < 8) (hu : u < 8) (hW : bit (pc a (sRp a) t &&& (((1 : Int32) <<< (Int32.ofNat t &&& 31)) ^^^ (-1 : Int32))) u = true) : pc a (sRp a &&& (mkS (cR a) (fun r => tch ((1 : Int32) <<< (Int32.ofNat t &&& 31)) (a 11 r, a 12 r, a 13 r)) ^^^ (-1 : Int32))) u = piece a (pc a (sRp a) t &&& (((1 : Int32) <<< (Int32.ofNat t &&& 31)) ^^^ (-1 : Int32))) (sRp a) u := by
  have h12 := g.2.2.1.2
  have eW : ∀ j, j < 32 → bit (pc a (sRp a) t &&& (((1 : Int32) <<< (Int32.ofNat t &&& 31)) ^^^ (-1 : Int32))) j = (bit (pc a (sRp a) t) j && !decide (j = t)) := fun j hj => by
    rw [bit_and, bit_not _ hj, bit_shl (by omega) hj]
  have eR : ∀ k, k < cR a → bit (sRp a &&& (mkS (cR a) (fun r => tch ((1 : Int32) <<< (Int32.ofNat t &&& 31)) (a 11 r, a 12 r, a 13 r)) ^^^ (-1 : Int32))) k = !(decide (eA a k = t) || decide (eB a k = t)) := fun k hk => by
    obtain ⟨⟨-, a2⟩, -, b2⟩ := hr.1 k hk
    rw [bit_and, bit_not _ (by omega), bit_mkS (by omega), sRp, bit_mkS (by omega)]
    have e1 : tch ((1 : Int32) <<< (Int32.ofNat t &&& 31)) (a 11 k, a 12 k, a 13 k) = (decide (eA a k = t) || decide (eB a k = t)) := by
      show (bit _ (eA a k) || bit _ (eB a k)) = _
      rw [bit_shl (by omega) (by omega), bit_shl (by omega) (by omega)]
    rw [e1, decide_eq_true hk]; simp
  have eS : ∀ k, k < cR a → bit (sRp a) k = true := fun k hk => by rw [sRp, bit_mkS (by omega), decide_eq_true hk]; rfl
  have hsub : ∀ j, j < 32 → bit (piece a (pc a (sRp a) t &&& (((1 : Int32) <<< (Int32.ofNat t &&& 31)) ^^^ (-1 : Int32))) (sRp a) u) j = true → bit (pc a (sRp a) t &&& (((1 : Int32) <<< (Int32.ofNat t &&& 31)) ^^^ (-1 : Int32))) j = true := fun j hj h =>
    piece_min hj h hW (fun k hk _ w1 w2 => by rw [w1, w2])
  refine bit_ext fun j hj => ?_
  rw [Bool.eq_iff_iff]
  constructor
  · intro h
    refine pc_min hj h (piece_self hu) (fun k hk hb => ?_)
    rw [eR k hk] at hb
    simp only [Bool.not_eq_true', Bool.or_eq_false_iff, decide_eq_false_iff_not] at hb
    obtain ⟨⟨-, a2⟩, -, b2⟩ := hr.1 k hk
    have hc := pc_clo (a := a) (rp := sRp a) (t := t) hr.1 hk (eS k hk)
    have wA : bit (pc a (sRp a) t &&& (((1 : Int32) <<< (Int32.ofNat t &&& 31)) ^^^ (-1 : Int32))) (eA a k) = bit (pc a (sRp a) t) (eA a k) := by rw [eW _ (by omega)]; simp [hb.1]
    have wB : bit (pc a (sRp a) t &&& (((1 : Int32) <<< (Int32.ofNat t &&& 31)) ^^^ (-1 : Int32))) (eB a k) = bit (pc a (sRp a) t) (eB a k) := by rw [eW _ (by omega)]; simp [hb.2]
    cases hp : bit (pc a (sRp a) t) (eA a k) with
    | true =>
      exact piece_clo hr.1 u k hk (eS k hk) (by rw [wA, hp]) (by rw [wB, ← hc, hp])
    | false =>
      have n1 : bit (piece a (pc a (sRp a) t &&& (((1 : Int32) <<< (Int32.ofNat t &&& 31)) ^^^ (-1 : Int32))) (sRp a) u) (eA a k) = false := by
        cases hx : bit (piece a (pc a (sRp a) t &&& (((1 : Int32) <<< (Int32.ofNat t &&& 31)) ^^^ (-1 : Int32))) (sRp a) u) (eA a k) with
        | false => rfl
        | true => have := hsub _ (by omega) hx; rw [wA, hp] at this; cases this
      have n2 : bit (piece a (pc a (sRp a) t &&& (((1 : Int32) <<< (Int32.ofNat t &&& 31)) ^^^ (-1 : Int32))) (sRp a) u) (eB a k) = false := by
        cases hx : bit (piece a (pc a (sRp a) t &&& (((1 : Int32) <<< (Int32.ofNat t &&& 31)) ^^^ (-1 : Int32))) (sRp a) u) (eB a k) with
        | false => rfl
        | true => have := hsub _ (by omega) hx; rw [wB, ← hc, hp] at this; cases this
      rw [n1, n2]
  · intro h
    refine piece_min hj h (pc_self hu) (fun k hk _ w1 w2 => ?_)
    obtain ⟨⟨-, a2⟩, -, b2⟩ := hr.1 k hk
    rw [eW _ (by omega), Bool.and_eq_true] at w1 w2
    refine pc_clo hr.1 hk ?_
    rw [eR k hk]
    have q1 := w1.2
    have q2 := w2.2
    simp only [Bool.not_eq_true', decide_eq_false_iff_not] at q1 q2
    simp [q1, q2]
noncomputable def wkT (a : Ar) (t : Nat) : Int32 := if (pc a (sRp a) t &&& (((1 : Int32) <<< (Int32.ofNat t &&& 31)) ^^^ (-1 : Int32))) = 0 then 0 else if piece a (pc a (sRp a) t &&& (((1 : Int32) <<< (Int32.ofNat t &&& 31)) ^^^ (-1 : Int32))) (sRp a) (lowB (pc a (sRp a) t &&& (((1 : Int32) <<< (Int32.ofNat t &&& 31)) ^^^ (-1 : Int32)))) = (pc a (sRp a) t &&& (((1 : Int32) <<< (Int32.ofNat t &&& 31)) ^^^ (-1 : Int32))) then 0 else 1
theorem small_wo {a : Ar} {rp S : Int32} {t : Nat} : ∀ k, 12 ≤ k → k < 32 → bit (pc a rp t &&& S) k = false := fun k h1 h2 => by rw [bit_and, small_pc k h1 h2]; rfl
theorem f3_isWeakThing_eq (g : GR M.2.1) {t : Nat} (ht : t < 8) : f3_isWeakThing M (Int32.ofNat t) = some (wkT M.2.1 t) := by
  unfold f3_isWeakThing wkT
  rw [f3_pieceOf_eq g ht, bnd_s]
  by_cases h0 : (pc M.2.1 (sRp M.2.1) t &&& (((1 : Int32) <<< (Int32.ofNat t &&& 31)) ^^^ (-1 : Int32))) = 0
  · rw [if_pos h0, if_pos h0]
  · obtain ⟨l1, l2, l3, l4⟩ := ntz_eq small_wo h0
    have l8 : lowB (pc M.2.1 (sRp M.2.1) t &&& (((1 : Int32) <<< (Int32.ofNat t &&& 31)) ^^^ (-1 : Int32))) < 8 := by
      rw [bit_and, Bool.and_eq_true] at l2; exact pc_lt (by omega) l2.1
    rw [if_neg h0, if_neg h0, l4, bnd_s, f3_allRopes_eq g.1, bnd_s, f3_hangsWith_eq g.1 g.2.1.1 l8, bnd_s]
    split <;> rfl
theorem f0_isWeakThing_eq (hz : ¬ (x 0).1 0 = 0) (hv : RVa (x 1) M.2.1 (M.1 55)) {t : Nat} (ht : t < 8) : f0_isWeakThing x (Int32.ofNat t) = some (wkT M.2.1 t) := by
  have hcf : decide (¬ (x 0).1 0 = 0) = true := decide_eq_true hz
  unfold f0_isWeakThing wkT
  simp only [hcf, chk_t]
  rw [f1_pieceOf_eq hv.2.1 hv.1 ht, bnd_s]
  by_cases h0 : (pc M.2.1 (sRp M.2.1) t &&& (((1 : Int32) <<< (Int32.ofNat t &&& 31)) ^^^ (-1 : Int32))) = 0
  · rw [if_pos h0, if_pos h0]
  · obtain ⟨l1, l2, l3, l4⟩ := ntz_eq small_wo h0
    have l8 : lowB (pc M.2.1 (sRp M.2.1) t &&& (((1 : Int32) <<< (Int32.ofNat t &&& 31)) ^^^ (-1 : Int32))) < 8 := by
      have l2' := l2
      rw [bit_and, Bool.and_eq_true] at l2'; exact pc_lt (by omega) l2'.1
    rw [if_neg h0, if_neg h0, f1_allRopes_eq hv.2.1.1 hv.1, bnd_s, f1_ropesAt_eq hv.2.1.1 hv.2.1.2.1 hv.1, bnd_s, l3, bnd_s, f1_pieceBy_eq hv.2.1.1 hv.2.1.2.1.1 hv.1 l8, bnd_s, pc_without hv.2.1.1 hv.2.1.2.1 ht l8 l2]
    split <;> rfl
noncomputable def wkR (a : Ar) (k : Nat) : Bool := bit (pc a (sRp a &&& (((1 : Int32) <<< (Int32.ofNat k &&& 31)) ^^^ (-1 : Int32))) (eA a k)) (eB a k)
theorem f0_weak_ropes (hz : ¬ (x 0).1 0 = 0) (hv : RVa (x 1) M.2.1 (M.1 55)) : loop (g0_weak_75 x) FU ((0 : Int32), (0 : Int32)) = some (mkS (cR M.2.1) (fun k => !wkR M.2.1 k)) := by
  have hcf : decide (¬ (x 0).1 0 = 0) = true := decide_eq_true hz
  have h12 := hv.2.1.1.2.2.1.2
  refine loop_seq (fun k => (mkS k (fun k => !wkR M.2.1 k), Int32.ofNat k)) (cR M.2.1) (by omega) ?_ ?_
  · intro K k hk
    obtain ⟨⟨a1, a2⟩, b1, b2⟩ := hv.2.1.2.1.1 k hk
    simp only [g0_weak_75, hcf, chk_t]
    have hin : inB (Int32.ofNat k) 12 = true := zI_in (by omega) (by decide)
    have hkk : (Int32.ofNat k).toNatClampNeg = k := zI_nat (by omega)
    rw [hv.1.nR hv.2.1.1, if_on hk (by omega)]
    simp only [hin, hkk, chk_t]
    rw [f1_allRopes_eq hv.2.1.1 hv.1, bnd_s, hv.1.ropeA hk, hv.1.ropeB hk, a1, b1, f1_pieceBy_eq hv.2.1.1 hv.2.1.2.1.1 hv.1 (by omega), bnd_s, has_bit0 (by omega), bnd_s, if_bit, zI_succ]
    cases hb : wkR M.2.1 k with
    | false =>
      unfold wkR at hb
      rw [hb, if_neg (by decide), mkS_yes (by omega) (by unfold wkR; rw [hb]; rfl)]
    | true =>
      unfold wkR at hb
      rw [hb, if_pos rfl, mkS_no0 (by unfold wkR; rw [hb]; rfl)]
  · intro K
    simp only [g0_weak_75, hcf, chk_t]
    rw [hv.1.nR hv.2.1.1, if_off]
theorem f0_weak_things (hz : ¬ (x 0).1 0 = 0) (hv : RVa (x 1) M.2.1 (M.1 55)) : loop (g0_weak_28 x) FU ((0 : Int32), (0 : Int32)) = some (mkS (cT M.2.1) (fun k => decide (M.2.1 9 k = 0) && decide (¬ wkT M.2.1 k = 0))) := by
  have hcf : decide (¬ (x 0).1 0 = 0) = true := decide_eq_true hz
  have h8 := hv.2.1.1.2.1.2
  refine loop_seq (fun k => (mkS k (fun k => decide (M.2.1 9 k = 0) && decide (¬ wkT M.2.1 k = 0)), Int32.ofNat k)) (cT M.2.1) (by omega) ?_ ?_
  · intro K k hk
    simp only [g0_weak_28]
    rw [hcf, chk_t, hv.1.nT hv.2.1.1, if_on hk (by omega), f0_isAfloat_eq (Or.inr ⟨hz, hv⟩), bnd_s, if_bit, isAf_nI h8 (by omega), zI_succ, decide_eq_true hk, Bool.true_and]
    by_cases h9 : M.2.1 9 k = 0
    · rw [if_pos (decide_eq_true h9), f0_isWeakThing_eq hz hv (by omega), bnd_s]
      by_cases hw : wkT M.2.1 k = 0
      · rw [if_pos hw, mkS_no0 (by simp [hw])]
      · rw [if_neg hw, mkS_yes (by omega) (by simp [hw, h9])]
    · rw [if_neg (by simpa using h9), mkS_no0 (by simp [h9])]
  · intro K
    simp only [g0_weak_28]
    rw [hcf, chk_t, hv.1.nT hv.2.1.1, if_off]
theorem f3_weak_ropes (g : GR M.2.1) : loop (g3_weak_23 M (0 : Int32)) FU ((0 : Int32), (0 : Int32)) = some (mkS (cR M.2.1) (fun k => !wkR M.2.1 k)) := by
  obtain ⟨hR, h12⟩ := g.1.2.2.1
  refine loop_seq (fun k => (mkS k (fun k => !wkR M.2.1 k), Int32.ofNat k)) (cR M.2.1) (by omega) ?_ ?_
  · intro K k hk
    obtain ⟨⟨a1, a2⟩, b1, b2⟩ := g.2.1.1 k hk
    simp only [g3_weak_23]
    have hin : inB (Int32.ofNat k) 12 = true := zI_in (by omega) (by decide)
    have hkk : (Int32.ofNat k).toNatClampNeg = k := zI_nat (by omega)
    rw [hR, if_on hk (by omega), if_true]
    simp only [hin, hkk, chk_t]
    rw [f3_afloat_eq g.1, bnd_s, f3_allRopes_eq g.1, bnd_s, a1, b1, f3_hangsWith_eq g.1 g.2.1.1 (by omega), bnd_s, piece_af g.2.1, has_bit (by omega), bnd_s, if_bit, zI_succ]
    cases hb : wkR M.2.1 k with
    | false =>
      unfold wkR at hb
      rw [hb, if_neg (by decide), mkS_yes (by omega) (by unfold wkR; rw [hb]; rfl)]
    | true =>
      unfold wkR at hb
      rw [hb, if_pos rfl, mkS_no0 (by unfold wkR; rw [hb]; rfl)]
  · intro K
    simp only [g3_weak_23]
    rw [hR, if_off]
    refine loop_seq (body := g3_weak_91 M (0 : Int32)) (fun _ => (mkS (cR M.2.1) (fun k => !wkR M.2.1 k), (0 : Int32))) 0 (by omega) (fun K k hk => by omega) ?_
    intro K
    simp only [g3_weak_91]
    rw [if_neg (show ¬ (0 : Int32) = 1 by decide), ite_self]
theorem f3_weak_things (g : GR M.2.1) : loop (g3_weak_23 M (1 : Int32)) FU ((0 : Int32), (0 : Int32)) = some (mkS (cT M.2.1) (fun k => decide (M.2.1 9 k = 0) && decide (¬ wkT M.2.1 k = 0))) := by
  obtain ⟨hT, h8⟩ := g.1.2.1
  refine loop_seq (body := g3_weak_23 M (1 : Int32)) (fun _ => ((0 : Int32), (0 : Int32))) 0 (by omega) (fun K k hk => by omega) ?_
  intro K
  simp only [g3_weak_23]
  rw [if_neg (show ¬ (1 : Int32) = 0 by decide), ite_self]
  refine loop_seq (fun k => (mkS k (fun k => decide (M.2.1 9 k = 0) && decide (¬ wkT M.2.1 k = 0)), Int32.ofNat k)) (cT M.2.1) (by omega) ?_ ?_
  · intro K k hk
    simp only [g3_weak_91]
    rw [hT, if_on hk (by omega), if_true, chk_h (zI_in (by omega) (by decide)), zI_nat (by omega), zI_succ]
    by_cases h9 : M.2.1 9 k = 0
    · rw [if_pos h9, f3_isWeakThing_eq g (by omega), bnd_s]
      by_cases hw : wkT M.2.1 k = 0
      · rw [if_pos hw, mkS_no0 (by simp [hw])]
      · rw [if_neg hw, mkS_yes (by omega) (by simp [hw, h9])]
    · rw [if_neg h9, mkS_no0 (by simp [h9])]
  · intro K
    simp only [g3_weak_91]
    rw [hT, if_off]
theorem weak_sim (h : RL x M) : ∃ r, f0_weak x v1 = some r ∧ f3_weak M v1 = some r := by
  unfold f0_weak f3_weak
  rcases h.1 with ⟨hz, hn⟩ | ⟨hz, hv⟩
  · rw [if_pos hz, isRiver_no hn, bnd_s]; exact ⟨_, rfl, rfl⟩
  · rw [if_neg hz, isRiver_yes hv.2.1, bnd_s, if_neg (show ¬ (1 : Int32) = 0 by decide)]
    have e0 := f0_in32 v1 0 1
    have e3 := f3_in32 v1 0 1
    change f0_in v1.toInt64 (0 : Int64) (1 : Int64) = _ at e0
    change f3_in v1.toInt64 (0 : Int64) (1 : Int64) = _ at e3
    rw [e0, e3, bnd_s, bnd_s, if_bit, if_bit]
    cases hc : (decide (0 ≤ v1) && decide (v1 ≤ 1)) with
    | false => exact ⟨_, rfl, rfl⟩
    | true =>
      simp only [if_true]
      rw [Bool.and_eq_true, decide_eq_true_eq, decide_eq_true_eq] at hc
      obtain ⟨n, rfl, hn, -⟩ := nn_le hc.1 hc.2
      have z1 : (1 : Int32).toInt = 1 := rfl
      rcases (show n = 0 ∨ n = 1 by omega) with rfl | rfl
      · rw [if_neg (show ¬ Int32.ofNat 0 = 1 by decide)]
        exact ⟨_, f0_weak_ropes hz hv, f3_weak_ropes hv.2.1⟩
      · rw [if_pos (show Int32.ofNat 1 = 1 from rfl)]
        exact ⟨_, f0_weak_things hz hv, f3_weak_things hv.2.1⟩
theorem count_sim (h : RL x M) : ∃ r, f0_count x v1 = some r ∧ f3_count M v1 = some r := by
  obtain ⟨T, -, tT1, tT2, -⟩ := h.2.2.1
  obtain ⟨R, -, tR1, tR2, -⟩ := h.2.2.2.1
  have hd := h.2.2.2.2.1.1
  unfold f0_count f3_count
  by_cases h0 : v1 = 0
  · subst h0
    have ein : f0_in ((0 : Int32)).toInt64 (0 : Int64) (13 : Int64) = some 1 := by decide
    rw [if_neg (show ¬ (0 : Int32) = 6 by decide), if_neg (show ¬ (0 : Int32) = 12 by decide), if_neg (show ¬ (0 : Int32) = 13 by decide), ein, bnd_s, if_neg (show ¬ (1 : Int32) = 0 by decide)]
    rw [if_pos (show (0 : Int32) = 0 from rfl)]
    rcases h.1 with ⟨hz, hn⟩ | ⟨hz, hv⟩
    · rw [if_pos hz, hn.1 0 (by omega)]; exact ⟨_, rfl, rfl⟩
    · rw [if_neg hz, if_pos (show (0 : Int32) = 0 from rfl), chk_h (decide_eq_true hz), hv.1.miles]; exact ⟨_, rfl, rfl⟩
  by_cases h1 : v1 = 1
  · subst h1
    have ein : f0_in ((1 : Int32)).toInt64 (0 : Int64) (13 : Int64) = some 1 := by decide
    rw [if_neg (show ¬ (1 : Int32) = 6 by decide), if_neg (show ¬ (1 : Int32) = 12 by decide), if_neg (show ¬ (1 : Int32) = 13 by decide), ein, bnd_s, if_neg (show ¬ (1 : Int32) = 0 by decide)]
    rw [if_neg (show ¬ (1 : Int32) = 0 by decide), if_pos (show (1 : Int32) = 1 from rfl)]
    rcases h.1 with ⟨hz, hn⟩ | ⟨hz, hv⟩
    · rw [if_pos hz, hn.1 1 (by omega)]; exact ⟨_, rfl, rfl⟩
    · rw [if_neg hz, if_neg (show ¬ (1 : Int32) = 0 by decide), if_pos (show (1 : Int32) = 1 from rfl), chk_h (decide_eq_true hz), hv.1.store]; exact ⟨_, rfl, rfl⟩
  by_cases h2 : v1 = 2
  · subst h2
    have ein : f0_in ((2 : Int32)).toInt64 (0 : Int64) (13 : Int64) = some 1 := by decide
    rw [if_neg (show ¬ (2 : Int32) = 6 by decide), if_neg (show ¬ (2 : Int32) = 12 by decide), if_neg (show ¬ (2 : Int32) = 13 by decide), ein, bnd_s, if_neg (show ¬ (1 : Int32) = 0 by decide)]
    rw [if_neg (show ¬ (2 : Int32) = 0 by decide), if_neg (show ¬ (2 : Int32) = 1 by decide), if_pos (show (2 : Int32) = 2 from rfl)]
    rcases h.1 with ⟨hz, hn⟩ | ⟨hz, hv⟩
    · rw [if_pos hz, hn.1 2 (by omega)]; exact ⟨_, rfl, rfl⟩
    · rw [if_neg hz, if_neg (show ¬ (2 : Int32) = 0 by decide), if_neg (show ¬ (2 : Int32) = 1 by decide), if_pos (show (2 : Int32) = 2 from rfl), chk_h (decide_eq_true hz), hv.1.1.2.1]; exact ⟨_, rfl, rfl⟩
  by_cases h3 : v1 = 3
  · subst h3
    have ein : f0_in ((3 : Int32)).toInt64 (0 : Int64) (13 : Int64) = some 1 := by decide
    rw [if_neg (show ¬ (3 : Int32) = 6 by decide), if_neg (show ¬ (3 : Int32) = 12 by decide), if_neg (show ¬ (3 : Int32) = 13 by decide), ein, bnd_s, if_neg (show ¬ (1 : Int32) = 0 by decide)]
    rw [if_neg (show ¬ (3 : Int32) = 0 by decide), if_neg (show ¬ (3 : Int32) = 1 by decide), if_neg (show ¬ (3 : Int32) = 2 by decide), if_pos (show (3 : Int32) = 3 from rfl)]
    rcases h.1 with ⟨hz, hn⟩ | ⟨hz, hv⟩
    · rw [if_pos hz, hn.1 3 (by omega)]; exact ⟨_, rfl, rfl⟩
    · rw [if_neg hz, if_neg (show ¬ (3 : Int32) = 0 by decide), if_neg (show ¬ (3 : Int32) = 1 by decide), if_neg (show ¬ (3 : Int32) = 2 by decide), if_pos (show (3 : Int32) = 3 from rfl), chk_h (decide_eq_true hz), hv.1.1.2.2.1]; exact ⟨_, rfl, rfl⟩
  by_cases h4 : v1 = 4
  · subst h4
    have ein : f0_in ((4 : Int32)).toInt64 (0 : Int64) (13 : Int64) = some 1 := by decide
    rw [if_neg (show ¬ (4 : Int32) = 6 by decide), if_neg (show ¬ (4 : Int32) = 12 by decide), if_neg (show ¬ (4 : Int32) = 13 by decide), ein, bnd_s, if_neg (show ¬ (1 : Int32) = 0 by decide)]
    rw [if_neg (show ¬ (4 : Int32) = 0 by decide), if_neg (show ¬ (4 : Int32) = 1 by decide), if_neg (show ¬ (4 : Int32) = 2 by decide), if_neg (show ¬ (4 : Int32) = 3 by decide), if_pos (show (4 : Int32) = 4 from rfl)]
    rcases h.1 with ⟨hz, hn⟩ | ⟨hz, hv⟩
    · rw [if_pos hz, hn.1 4 (by omega)]; exact ⟨_, rfl, rfl⟩
    · have e4 : (x 1).1 5 = M.2.1 1 4 := hv.1.2.2.2.1
      rw [if_neg hz, if_neg (show ¬ (4 : Int32) = 0 by decide), if_neg (show ¬ (4 : Int32) = 1 by decide), if_neg (show ¬ (4 : Int32) = 2 by decide), if_neg (show ¬ (4 : Int32) = 3 by decide), if_pos (show (4 : Int32) = 4 from rfl), chk_h (decide_eq_true hz), e4]; exact ⟨_, rfl, rfl⟩
  by_cases h5 : v1 = 5
  · subst h5
    have ein : f0_in ((5 : Int32)).toInt64 (0 : Int64) (13 : Int64) = some 1 := by decide
    rw [if_neg (show ¬ (5 : Int32) = 6 by decide), if_neg (show ¬ (5 : Int32) = 12 by decide), if_neg (show ¬ (5 : Int32) = 13 by decide), ein, bnd_s, if_neg (show ¬ (1 : Int32) = 0 by decide)]
    rw [if_neg (show ¬ (5 : Int32) = 0 by decide), if_neg (show ¬ (5 : Int32) = 1 by decide), if_neg (show ¬ (5 : Int32) = 2 by decide), if_neg (show ¬ (5 : Int32) = 3 by decide), if_neg (show ¬ (5 : Int32) = 4 by decide), if_pos (show (5 : Int32) = 5 from rfl)]
    rcases h.1 with ⟨hz, hn⟩ | ⟨hz, hv⟩
    · rw [if_pos hz, hn.1 5 (by omega)]; exact ⟨_, rfl, rfl⟩
    · rw [if_neg hz, if_neg (show ¬ (5 : Int32) = 0 by decide), if_neg (show ¬ (5 : Int32) = 1 by decide), if_neg (show ¬ (5 : Int32) = 2 by decide), if_neg (show ¬ (5 : Int32) = 3 by decide), if_neg (show ¬ (5 : Int32) = 4 by decide), if_pos (show (5 : Int32) = 5 from rfl), chk_h (decide_eq_true hz), hv.1.1.2.2.2.1]; exact ⟨_, rfl, rfl⟩
  by_cases h6 : v1 = 6
  · subst h6
    rw [if_neg (show ¬ (6 : Int32) = 0 by decide), if_neg (show ¬ (6 : Int32) = 1 by decide), if_neg (show ¬ (6 : Int32) = 2 by decide), if_neg (show ¬ (6 : Int32) = 3 by decide), if_neg (show ¬ (6 : Int32) = 4 by decide), if_neg (show ¬ (6 : Int32) = 5 by decide), if_pos (show (6 : Int32) = 6 from rfl), if_pos (show (6 : Int32) = 6 from rfl), tR1, tR2]; exact ⟨_, rfl, rfl⟩
  by_cases h7 : v1 = 7
  · subst h7
    have ein : f0_in ((7 : Int32)).toInt64 (0 : Int64) (13 : Int64) = some 1 := by decide
    rw [if_neg (show ¬ (7 : Int32) = 6 by decide), if_neg (show ¬ (7 : Int32) = 12 by decide), if_neg (show ¬ (7 : Int32) = 13 by decide), ein, bnd_s, if_neg (show ¬ (1 : Int32) = 0 by decide)]
    rw [if_neg (show ¬ (7 : Int32) = 0 by decide), if_neg (show ¬ (7 : Int32) = 1 by decide), if_neg (show ¬ (7 : Int32) = 2 by decide), if_neg (show ¬ (7 : Int32) = 3 by decide), if_neg (show ¬ (7 : Int32) = 4 by decide), if_neg (show ¬ (7 : Int32) = 5 by decide), if_neg (show ¬ (7 : Int32) = 6 by decide), if_pos (show (7 : Int32) = 7 from rfl)]
    rcases h.1 with ⟨hz, hn⟩ | ⟨hz, hv⟩
    · rw [if_pos hz, hn.1 6 (by omega)]; exact ⟨_, rfl, rfl⟩
    · rw [if_neg hz, if_neg (show ¬ (7 : Int32) = 0 by decide), if_neg (show ¬ (7 : Int32) = 1 by decide), if_neg (show ¬ (7 : Int32) = 2 by decide), if_neg (show ¬ (7 : Int32) = 3 by decide), if_neg (show ¬ (7 : Int32) = 4 by decide), if_neg (show ¬ (7 : Int32) = 5 by decide), if_pos (show (7 : Int32) = 7 from rfl), chk_h (decide_eq_true hz), hv.1.now]; exact ⟨_, rfl, rfl⟩
  by_cases h8 : v1 = 8
  · subst h8
    have ein : f0_in ((8 : Int32)).toInt64 (0 : Int64) (13 : Int64) = some 1 := by decide
    rw [if_neg (show ¬ (8 : Int32) = 6 by decide), if_neg (show ¬ (8 : Int32) = 12 by decide), if_neg (show ¬ (8 : Int32) = 13 by decide), ein, bnd_s, if_neg (show ¬ (1 : Int32) = 0 by decide)]
    rw [if_neg (show ¬ (8 : Int32) = 0 by decide), if_neg (show ¬ (8 : Int32) = 1 by decide), if_neg (show ¬ (8 : Int32) = 2 by decide), if_neg (show ¬ (8 : Int32) = 3 by decide), if_neg (show ¬ (8 : Int32) = 4 by decide), if_neg (show ¬ (8 : Int32) = 5 by decide), if_neg (show ¬ (8 : Int32) = 6 by decide), if_neg (show ¬ (8 : Int32) = 7 by decide), if_pos (show (8 : Int32) = 8 from rfl)]
    rcases h.1 with ⟨hz, hn⟩ | ⟨hz, hv⟩
    · have e3 : f3_pieces M = some 0 := by
        have e := hn.nT
        have eT := hn.1 3 (by omega)
        unfold f3_pieces
        refine loop_seq (body := g3_pieces_4 M) (fun _ => ((0 : Int32), (0 : Int32))) 0 (by omega) (fun K k hk => by omega) ?_
        intro K
        simp only [g3_pieces_4]
        rw [eT, if_pos (Int32.le_refl _)]
      rw [if_pos hz, e3, bnd_s]; exact ⟨_, rfl, rfl⟩
    · rw [if_neg hz, if_neg (show ¬ (8 : Int32) = 0 by decide), if_neg (show ¬ (8 : Int32) = 1 by decide), if_neg (show ¬ (8 : Int32) = 2 by decide), if_neg (show ¬ (8 : Int32) = 3 by decide), if_neg (show ¬ (8 : Int32) = 4 by decide), if_neg (show ¬ (8 : Int32) = 5 by decide), if_neg (show ¬ (8 : Int32) = 7 by decide), if_pos (show (8 : Int32) = 8 from rfl), f0_pieces_eq hz hv, f3_pieces_eq hv.2.1, bnd_s]; exact ⟨_, rfl, rfl⟩
  by_cases h9 : v1 = 9
  · subst h9
    have ein : f0_in ((9 : Int32)).toInt64 (0 : Int64) (13 : Int64) = some 1 := by decide
    rw [if_neg (show ¬ (9 : Int32) = 6 by decide), if_neg (show ¬ (9 : Int32) = 12 by decide), if_neg (show ¬ (9 : Int32) = 13 by decide), ein, bnd_s, if_neg (show ¬ (1 : Int32) = 0 by decide)]
    rw [if_neg (show ¬ (9 : Int32) = 0 by decide), if_neg (show ¬ (9 : Int32) = 1 by decide), if_neg (show ¬ (9 : Int32) = 2 by decide), if_neg (show ¬ (9 : Int32) = 3 by decide), if_neg (show ¬ (9 : Int32) = 4 by decide), if_neg (show ¬ (9 : Int32) = 5 by decide), if_neg (show ¬ (9 : Int32) = 6 by decide), if_neg (show ¬ (9 : Int32) = 7 by decide), if_neg (show ¬ (9 : Int32) = 8 by decide), if_pos (show (9 : Int32) = 9 from rfl)]
    rcases h.1 with ⟨hz, hn⟩ | ⟨hz, hv⟩
    · rw [if_pos hz, f3_afloat_eq hn.gc, bnd_s]
      refine ⟨_, rfl, ?_⟩
      unfold sAf; rw [hn.nT]; rfl
    · rw [if_neg hz, if_neg (show ¬ (9 : Int32) = 0 by decide), if_neg (show ¬ (9 : Int32) = 1 by decide), if_neg (show ¬ (9 : Int32) = 2 by decide), if_neg (show ¬ (9 : Int32) = 3 by decide), if_neg (show ¬ (9 : Int32) = 4 by decide), if_neg (show ¬ (9 : Int32) = 5 by decide), if_neg (show ¬ (9 : Int32) = 7 by decide), if_neg (show ¬ (9 : Int32) = 8 by decide), if_pos (show (9 : Int32) = 9 from rfl), chk_h (decide_eq_true hz), f1_afloat_eq hv.2.1.1 hv.1, f3_afloat_eq hv.2.1.1, bnd_s]; exact ⟨_, rfl, rfl⟩
  by_cases h10 : v1 = 10
  · subst h10
    have ein : f0_in ((10 : Int32)).toInt64 (0 : Int64) (13 : Int64) = some 1 := by decide
    rw [if_neg (show ¬ (10 : Int32) = 6 by decide), if_neg (show ¬ (10 : Int32) = 12 by decide), if_neg (show ¬ (10 : Int32) = 13 by decide), ein, bnd_s, if_neg (show ¬ (1 : Int32) = 0 by decide)]
    rw [if_neg (show ¬ (10 : Int32) = 0 by decide), if_neg (show ¬ (10 : Int32) = 1 by decide), if_neg (show ¬ (10 : Int32) = 2 by decide), if_neg (show ¬ (10 : Int32) = 3 by decide), if_neg (show ¬ (10 : Int32) = 4 by decide), if_neg (show ¬ (10 : Int32) = 5 by decide), if_neg (show ¬ (10 : Int32) = 6 by decide), if_neg (show ¬ (10 : Int32) = 7 by decide), if_neg (show ¬ (10 : Int32) = 8 by decide), if_neg (show ¬ (10 : Int32) = 9 by decide), if_pos (show (10 : Int32) = 10 from rfl)]
    rcases h.1 with ⟨hz, hn⟩ | ⟨hz, hv⟩
    · rw [if_pos hz, hn.1 7 (by omega)]; exact ⟨_, rfl, rfl⟩
    · rw [if_neg hz, if_neg (show ¬ (10 : Int32) = 0 by decide), if_neg (show ¬ (10 : Int32) = 1 by decide), if_neg (show ¬ (10 : Int32) = 2 by decide), if_neg (show ¬ (10 : Int32) = 3 by decide), if_neg (show ¬ (10 : Int32) = 4 by decide), if_neg (show ¬ (10 : Int32) = 5 by decide), if_neg (show ¬ (10 : Int32) = 7 by decide), if_neg (show ¬ (10 : Int32) = 8 by decide), if_neg (show ¬ (10 : Int32) = 9 by decide), if_pos (show (10 : Int32) = 10 from rfl), chk_h (decide_eq_true hz), hv.2.2.1.1]; exact ⟨_, rfl, rfl⟩
  by_cases h11 : v1 = 11
  · subst h11
    have ein : f0_in ((11 : Int32)).toInt64 (0 : Int64) (13 : Int64) = some 1 := by decide
    rw [if_neg (show ¬ (11 : Int32) = 6 by decide), if_neg (show ¬ (11 : Int32) = 12 by decide), if_neg (show ¬ (11 : Int32) = 13 by decide), ein, bnd_s, if_neg (show ¬ (1 : Int32) = 0 by decide)]
    rw [if_neg (show ¬ (11 : Int32) = 0 by decide), if_neg (show ¬ (11 : Int32) = 1 by decide), if_neg (show ¬ (11 : Int32) = 2 by decide), if_neg (show ¬ (11 : Int32) = 3 by decide), if_neg (show ¬ (11 : Int32) = 4 by decide), if_neg (show ¬ (11 : Int32) = 5 by decide), if_neg (show ¬ (11 : Int32) = 6 by decide), if_neg (show ¬ (11 : Int32) = 7 by decide), if_neg (show ¬ (11 : Int32) = 8 by decide), if_neg (show ¬ (11 : Int32) = 9 by decide), if_neg (show ¬ (11 : Int32) = 10 by decide), if_pos (show (11 : Int32) = 11 from rfl)]
    rcases h.1 with ⟨hz, hn⟩ | ⟨hz, hv⟩
    · rw [if_pos hz, hn.2]; exact ⟨_, rfl, rfl⟩
    · rw [if_neg hz, if_neg (show ¬ (11 : Int32) = 0 by decide), if_neg (show ¬ (11 : Int32) = 1 by decide), if_neg (show ¬ (11 : Int32) = 2 by decide), if_neg (show ¬ (11 : Int32) = 3 by decide), if_neg (show ¬ (11 : Int32) = 4 by decide), if_neg (show ¬ (11 : Int32) = 5 by decide), if_neg (show ¬ (11 : Int32) = 7 by decide), if_neg (show ¬ (11 : Int32) = 8 by decide), if_neg (show ¬ (11 : Int32) = 9 by decide), if_neg (show ¬ (11 : Int32) = 10 by decide), chk_h (decide_eq_true hz), hv.2.2.2.1]; exact ⟨_, rfl, rfl⟩
  by_cases h12 : v1 = 12
  · subst h12
    rw [if_neg (show ¬ (12 : Int32) = 0 by decide), if_neg (show ¬ (12 : Int32) = 1 by decide), if_neg (show ¬ (12 : Int32) = 2 by decide), if_neg (show ¬ (12 : Int32) = 3 by decide), if_neg (show ¬ (12 : Int32) = 4 by decide), if_neg (show ¬ (12 : Int32) = 5 by decide), if_neg (show ¬ (12 : Int32) = 6 by decide), if_neg (show ¬ (12 : Int32) = 7 by decide), if_neg (show ¬ (12 : Int32) = 8 by decide), if_neg (show ¬ (12 : Int32) = 9 by decide), if_neg (show ¬ (12 : Int32) = 10 by decide), if_neg (show ¬ (12 : Int32) = 11 by decide), if_pos (show (12 : Int32) = 12 from rfl), if_neg (show ¬ (12 : Int32) = 6 by decide), if_pos (show (12 : Int32) = 12 from rfl), hd]; exact ⟨_, rfl, rfl⟩
  by_cases h13 : v1 = 13
  · subst h13
    rw [if_neg (show ¬ (13 : Int32) = 0 by decide), if_neg (show ¬ (13 : Int32) = 1 by decide), if_neg (show ¬ (13 : Int32) = 2 by decide), if_neg (show ¬ (13 : Int32) = 3 by decide), if_neg (show ¬ (13 : Int32) = 4 by decide), if_neg (show ¬ (13 : Int32) = 5 by decide), if_neg (show ¬ (13 : Int32) = 6 by decide), if_neg (show ¬ (13 : Int32) = 7 by decide), if_neg (show ¬ (13 : Int32) = 8 by decide), if_neg (show ¬ (13 : Int32) = 9 by decide), if_neg (show ¬ (13 : Int32) = 10 by decide), if_neg (show ¬ (13 : Int32) = 11 by decide), if_neg (show ¬ (13 : Int32) = 12 by decide), if_pos (show (13 : Int32) = 13 from rfl), if_neg (show ¬ (13 : Int32) = 6 by decide), if_neg (show ¬ (13 : Int32) = 12 by decide), if_pos (show (13 : Int32) = 13 from rfl), tT1, tT2]; exact ⟨_, rfl, rfl⟩
  have e0 := f0_in32 v1 0 13
  change f0_in v1.toInt64 (0 : Int64) (13 : Int64) = _ at e0
  rw [if_neg h6, if_neg h12, if_neg h13, e0, bnd_s, if_bit]
  cases hc : (decide (0 ≤ v1) && decide (v1 ≤ 13)) with
  | false =>
    rw [if_neg (by decide), if_neg h0, if_neg h1, if_neg h2, if_neg h3, if_neg h4, if_neg h5, if_neg h6, if_neg h7, if_neg h8, if_neg h9, if_neg h10, if_neg h11, if_neg h12, if_neg h13]; exact ⟨_, rfl, rfl⟩
  | true =>
    exfalso
    rw [Bool.and_eq_true, decide_eq_true_eq, decide_eq_true_eq] at hc
    obtain ⟨n, rfl, hn, -⟩ := nn_le hc.1 hc.2
    have z : (13 : Int32).toInt = 13 := rfl
    rcases (show n = 0 ∨ n = 1 ∨ n = 2 ∨ n = 3 ∨ n = 4 ∨ n = 5 ∨ n = 6 ∨ n = 7 ∨ n = 8 ∨ n = 9 ∨ n = 10 ∨ n = 11 ∨ n = 12 ∨ n = 13 by omega) with rfl | rfl | rfl | rfl | rfl | rfl | rfl | rfl | rfl | rfl | rfl | rfl | rfl | rfl
    · exact h0 rfl
    · exact h1 rfl
    · exact h2 rfl
    · exact h3 rfl
    · exact h4 rfl
    · exact h5 rfl
    · exact h6 rfl
    · exact h7 rfl
    · exact h8 rfl
    · exact h9 rfl
    · exact h10 rfl
    · exact h11 rfl
    · exact h12 rfl
    · exact h13 rfl
end P

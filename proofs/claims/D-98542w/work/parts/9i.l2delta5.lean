/-! PLAIN LAW: delta -/
set_option maxRecDepth 100000
section D
variable {x : Nat → Bl} {M : Bl} {v1 : Int32}
theorem f3_delta_71 (hr : GR M.2.1) : loop (g3_delta_71 v1) FU (Mg M (mk0 M.2.1), (0 : Int32), (0 : Int32), (1 : Int32)) = some ((if v1 = 0 then (lnK M.2.1 (mk0 M.2.1, 0, 0) 704).2.1 else (lnK M.2.1 (mk0 M.2.1, 0, 0) 704).2.2), Mg M (lnK M.2.1 (mk0 M.2.1, 0, 0) 704).1) := by
  obtain ⟨hT, h8⟩ := hr.1.2.1
  have hw : wB M.2.1 := fun t ht => (hr.2.2.1 t ht).1
  refine loop_meas (body := g3_delta_71 v1) (fun s => ∃ p c, c ≤ p ∧ p ≤ 704 ∧ s.1 = Mg M (lnK M.2.1 (mk0 M.2.1, 0, 0) p).1 ∧ s.2.1 = (lnK M.2.1 (mk0 M.2.1, 0, 0) p).2.1 ∧ s.2.2.1 = (lnK M.2.1 (mk0 M.2.1, 0, 0) p).2.2 ∧ s.2.2.1 = Int32.ofNat c ∧ (s.2.2.2 = 1 ∨ (s.2.2.2 = 0 ∧ lnK M.2.1 (mk0 M.2.1, 0, 0) 704 = lnK M.2.1 (mk0 M.2.1, 0, 0) p))) (fun s => if s.2.2.2 = 0 then 0 else 706 - s.2.2.1.toNatClampNeg) (fun _ => some ((if v1 = 0 then (lnK M.2.1 (mk0 M.2.1, 0, 0) 704).2.1 else (lnK M.2.1 (mk0 M.2.1, 0, 0) 704).2.2), Mg M (lnK M.2.1 (mk0 M.2.1, 0, 0) 704).1)) ?_ ⟨0, 0, Nat.le_refl _, by omega, rfl, rfl, rfl, rfl, Or.inl rfl⟩ (by
    show (if (1 : Int32) = 0 then 0 else 706 - (0 : Int32).toNatClampNeg) < _
    rw [if_neg (by decide)]; omega)
  rintro K ⟨s, v2, v3, v4⟩ ⟨p, c, hcp, hp, e1, e2, e3, e4, e5'⟩ hK
  dsimp only at e1 e2 e3 e4 e5'
  simp only [g3_delta_71]
  rcases e5' with h1 | ⟨h0, hall⟩
  · subst h1
    rw [if_neg (show ¬ (1 : Int32) = 0 by decide), e1]
    have hm := lnK_mI (a := M.2.1) (s := (mk0 M.2.1, 0, 0)) (mk0_mI h8) p
    rw [f3_delta_85 hr hm]
    cases hb : bst M.2.1 (lnK M.2.1 (mk0 M.2.1, 0, 0) p).1 64 with
    | none =>
      rw [show e5 none = -1 from rfl, show e6 none = -1 from rfl, if_pos rfl]
      unfold g3_delta_220
      rw [if_pos rfl]
      refine hK _ ⟨p, c, hcp, hp, rfl, e2, e3, e4, Or.inr ⟨rfl, lnK_none hw hp hb⟩⟩ ?_
      show (if (0 : Int32) = 0 then 0 else _) < (if (1 : Int32) = 0 then 0 else 706 - v3.toNatClampNeg)
      rw [if_pos rfl, if_neg (by decide), e4, zI_nat (by omega)]; omega
    | some m =>
      obtain ⟨q, q1, q2, q3⟩ := lnK_next hw hp hb
      obtain ⟨m1, m2, -⟩ := (bst_spec (a := M.2.1) (g := (lnK M.2.1 (mk0 M.2.1, 0, 0) p).1) 64).2 m hb
      obtain ⟨hx, l1, l2⟩ := lv_len hw m2
      have hi : m / 8 < cT M.2.1 := by omega
      have hne : ¬ e5 (some m) = -1 := fun z => by
        have := congrArg Int32.toInt z
        rw [show e5 (some m) = Int32.ofNat (m / 8) from rfl, zI_int (by omega)] at this
        have e : Int32.toInt (-1) = -1 := rfl
        omega
      rw [if_neg hne, show e5 (some m) = Int32.ofNat (m / 8) from rfl, show e6 (some m) = Int32.ofNat (m % 8) from rfl]
      unfold g3_delta_220
      rw [if_neg (show ¬ (1 : Int32) = 0 by decide), ropeB_eq hr hi hx.2, bnd_s, chk_h (zI_in (by omega) (by decide)), chk_h (zI_in (by omega) (by decide)), zI_nat (by omega), zI_nat (by omega), Mg_67 hi, Mg_67 hx.2, f3_delta_262 hr]
      have ez : v3 + 1 = Int32.ofNat (c + 1) := by rw [e4, zI_succ]
      refine hK _ ⟨q, c + 1, by omega, q2, by rw [q3], by rw [q3]; show v2 + Int32.ofNat (lenN M.2.1 (m / 8) (m % 8)) = _; rw [e2]; rfl, by rw [q3]; show v3 + 1 = _; rw [e3], ez, Or.inl rfl⟩ ?_
      show (if (1 : Int32) = 0 then 0 else 706 - (v3 + 1).toNatClampNeg) < (if (1 : Int32) = 0 then 0 else 706 - v3.toNatClampNeg)
      rw [if_neg (by decide), if_neg (by decide), ez, e4, zI_nat (by omega), zI_nat (by omega)]; omega
  · subst h0
    rw [if_pos rfl, hall, e1, e2, e3]
    split <;> rfl
theorem f3_delta_21 (hr : GR M.2.1) : loop (g3_delta_21 v1) FU (M, (0 : Int32)) = some ((if v1 = 0 then (lnK M.2.1 (mk0 M.2.1, 0, 0) 704).2.1 else (lnK M.2.1 (mk0 M.2.1, 0, 0) 704).2.2), Mg M (lnK M.2.1 (mk0 M.2.1, 0, 0) 704).1) := by
  obtain ⟨hT, h8⟩ := hr.1.2.1
  refine Eq.trans ?_ (loop_seq (body := g3_delta_21 v1) (fun k => (bS M 67 (fun t => if t < k then mk0 M.2.1 t else M.2.1 67 t), Int32.ofNat k)) (cT M.2.1) (by omega) ?_ ?_)
  · (try dsimp only)
    have e : (fun t => if t < 0 then mk0 M.2.1 t else M.2.1 67 t) = M.2.1 67 := by funext t; simp
    rw [e, bS_self]; rfl
  · intro K k hk
    simp only [g3_delta_21]
    have eT : (bS M 67 (fun t => if t < k then mk0 M.2.1 t else M.2.1 67 t)).2.1 1 3 = Int32.ofNat (cT M.2.1) := hT
    have e9 : (bS M 67 (fun t => if t < k then mk0 M.2.1 t else M.2.1 67 t)).2.1 9 = M.2.1 9 := rfl
    have hrX : GR (bS M 67 (fun t => if t < k then mk0 M.2.1 t else M.2.1 67 t)).2.1 := hr
    have epc : pc (bS M 67 (fun t => if t < k then mk0 M.2.1 t else M.2.1 67 t)).2.1 (sRp (bS M 67 (fun t => if t < k then mk0 M.2.1 t else M.2.1 67 t)).2.1) k = pc M.2.1 (sRp M.2.1) k := rfl
    have enx : ∀ r : Int32, r = mk0 M.2.1 k → bA (bS M 67 (fun t => if t < k then mk0 M.2.1 t else M.2.1 67 t)) 67 k r = bS M 67 (fun t => if t < k + 1 then mk0 M.2.1 t else M.2.1 67 t) := by
      intro r hr
      unfold bA
      rw [bS_bS]
      congr 1
      funext t
      simp only [bS, if_true]
      unfold upd
      by_cases e : t = k
      · subst e; rw [if_pos rfl, if_pos (by omega), hr]
      · rw [if_neg e]
        show (if t < k then mk0 M.2.1 t else M.2.1 67 t) = _
        by_cases c : t < k
        · rw [if_pos c, if_pos (by omega)]
        · rw [if_neg c, if_neg (by omega)]
    rw [eT, if_on hk (by omega), chk_h (zI_in (by omega) (by decide)), zI_nat (by omega), e9, zI_succ]
    by_cases h9 : M.2.1 9 k = 0
    · rw [if_pos h9, f3_pieceOf_eq hrX (by omega), bnd_s, epc, (ntz_eq small_pc (pc_ne (by omega))).2.2.2, bnd_s, chk_h (zI_in (by omega) (by decide)), enx _ (by unfold mk0; rw [if_pos h9])]
    · rw [if_neg h9, chk_h (zI_in (by omega) (by decide)), enx _ (by unfold mk0; rw [if_neg h9])]
  · intro K
    simp only [g3_delta_21]
    have eT : (bS M 67 (fun t => if t < cT M.2.1 then mk0 M.2.1 t else M.2.1 67 t)).2.1 1 3 = Int32.ofNat (cT M.2.1) := hT
    rw [eT, if_off]
    exact f3_delta_71 hr
theorem delta_sim (h : RL x M) : Sim x M (f0_delta x v1) (f3_delta M v1) := by
  unfold f0_delta f3_delta
  rcases h.1 with ⟨hz, hn⟩ | ⟨hz, hv⟩
  · rw [if_pos hz, isRiver_no hn, bnd_s]; exact Sim.same h _
  · rw [if_neg hz, isRiver_yes hv.2.1, bnd_s, if_neg (show ¬ (1 : Int32) = 0 by decide)]
    have e0 := f0_in32 v1 0 1
    have e3 := f3_in32 v1 0 1
    change f0_in v1.toInt64 (0 : Int64) (1 : Int64) = _ at e0
    change f3_in v1.toInt64 (0 : Int64) (1 : Int64) = _ at e3
    rw [e0, e3, bnd_s, bnd_s, if_bit, if_bit]
    cases hc : (decide (0 ≤ v1) && decide (v1 ≤ 1)) with
    | false => exact Sim.same h _
    | true =>
      simp only [if_true]
      rw [f0_delta_marks hz hv, f3_delta_21 hv.2.1, show (704 : Nat) = 64 * 11 from rfl, lnK_all]
      generalize allK M.2.1 11 (mk0 M.2.1, 0, 0) = s
      have kx : Kx x (Xg x M.2.1 ((x 0).2.1 25) s.1) := by
        unfold Xg
        refine ⟨fun f hf => by rw [upX_self]; rfl, fun f hf => ?_, fun j hj => upX_ne (by intro e; subst e; revert hj; decide)⟩
        rw [upX_self]
        have : ¬ f = 25 := by intro e; subst e; revert hf; decide
        simp [bS, this]
      have km : Fm [67] [] [] M (Mg M s.1) := Fm.bs (by decide)
      have kM : Km M (Mg M s.1) := Km.of km
      have hag : AG (Mg M s.1).2.1 M.2.1 := ⟨fun i _ => km.sc i (by simp), fun i _ => by rw [km.arr 2, km.arr 3, km.arr 4, km.arr 14, km.arr 15, km.arr 16, km.arr 17, km.arr 18]; exact ⟨rfl, rfl, rfl, rfl, rfl, rfl, rfl, rfl⟩, fun i _ => by rw [km.arr 5, km.arr 6, km.arr 7, km.arr 8, km.arr 9, km.arr 10]; exact ⟨rfl, rfl, rfl, rfl, rfl, rfl⟩, fun i _ => by rw [km.arr 11, km.arr 12, km.arr 13]; exact ⟨rfl, rfl, rfl⟩⟩
      refine ⟨_, _, _, rfl, rfl, h.keep kx kM (Or.inr ⟨by rw [Xg_0]; exact hz, ?_⟩), kx, kM⟩
      rw [Xg_1, km.fld 55]
      exact hv.congr hag (fun i _ => by rw [km.arr 53]) rfl
end D

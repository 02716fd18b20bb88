/-! PLAIN LAW: delta, the Model's loops -/
set_option maxRecDepth 100000
def Mg (M : Bl) (g : Nat → Int32) : Bl := bS M 67 (ov (cT M.2.1) g (M.2.1 67))
def e5 : Option Nat → Int32
  | none => -1
  | some m => Int32.ofNat (m / 8)
def e6 : Option Nat → Int32
  | none => -1
  | some m => Int32.ofNat (m % 8)
section D
variable {M : Bl} {v1 v2 v3 : Int32} {g : Nat → Int32}
theorem Mg_o {k : Nat} (hk : k ≠ 67) : (Mg M g).2.1 k = M.2.1 k := by simp [Mg, bS, hk]
theorem Mg_67 {t : Nat} (ht : t < cT M.2.1) : (Mg M g).2.1 67 t = g t := by
  show ov (cT M.2.1) g (M.2.1 67) t = g t
  unfold ov; rw [if_pos ht]
theorem ropeB_eq (hr : GR M.2.1) {i j : Nat} (hi : i < cT M.2.1) (hj : j < cT M.2.1) : f3_ropeBetween (Mg M g) (Int32.ofNat i) (Int32.ofNat j) = some (Int32.ofNat (lenN M.2.1 i j)) := by
  have h8 := hr.1.2.1.2
  have e6 : (Mg M g).2.1 6 = M.2.1 6 := Mg_o (by decide)
  have := f3_ropeBetween_eq (M := Mg M g) (i := i) (j := j) (by omega) (by omega) (by rw [e6]; exact (hr.2.2.1 i hi).1) (by rw [e6]; exact (hr.2.2.1 j hj).1)
  rw [this]; unfold lenN; rw [e6]
theorem f3_delta_in (hr : GR M.2.1) (hm : mI M.2.1 g) {K71 : Bl × Int32 × Int32 × Int32 → Option (Int32 × Bl)} {K85 : Int32 × Int32 × Int32 → Option (Int32 × Bl)} {i : Nat} (hi : i < cT M.2.1) : loop (g3_delta_102 (Mg M g) v1 v2 v3 (Int32.ofNat i) K71 K85) FU (e5 (bst M.2.1 g (8 * i)), e6 (bst M.2.1 g (8 * i)), Int32.ofNat i + 1) = K85 (e5 (bst M.2.1 g (8 * (i + 1))), e6 (bst M.2.1 g (8 * (i + 1))), Int32.ofNat (i + 1)) := by
  obtain ⟨hT, h8⟩ := hr.1.2.1
  have hT' : (Mg M g).2.1 1 3 = Int32.ofNat (cT M.2.1) := by rw [Mg_o (by decide)]; exact hT
  have elo : bst M.2.1 g (8 * i + (i + 1)) = bst M.2.1 g (8 * i) := bst_skip (i + 1) (fun j h1 h2 => lv_no (by omega))
  have ehi : bst M.2.1 g (8 * (i + 1)) = bst M.2.1 g (8 * i + cT M.2.1) := by
    have := bst_skip (a := M.2.1) (g := g) (m := 8 * i + cT M.2.1) (8 - cT M.2.1) (fun j h1 h2 => lv_no (by omega))
    rwa [show 8 * i + cT M.2.1 + (8 - cT M.2.1) = 8 * (i + 1) by omega] at this
  rw [ehi]
  refine Eq.trans ?_ (loop_seq (body := g3_delta_102 (Mg M g) v1 v2 v3 (Int32.ofNat i) K71 K85) (fun k => (e5 (bst M.2.1 g (8 * i + (i + 1 + k))), e6 (bst M.2.1 g (8 * i + (i + 1 + k))), Int32.ofNat (i + 1 + k))) (cT M.2.1 - (i + 1)) (by omega) ?_ ?_)
  · (try dsimp only)
    rw [Nat.add_zero, elo, zI_succ]
  · intro K k hk
    have hj : i + 1 + k < cT M.2.1 := by omega
    show g3_delta_102 (Mg M g) v1 v2 v3 (Int32.ofNat i) K71 K85 K _ = K (e5 (bst M.2.1 g (8 * i + (i + 1 + k) + 1)), e6 (bst M.2.1 g (8 * i + (i + 1 + k) + 1)), Int32.ofNat (i + 1 + k + 1))
    generalize hjj : i + 1 + k = j at hj ⊢
    have hij : i < j := by omega
    have d8 : (8 * i + j) / 8 = i := by omega
    have m8 : (8 * i + j) % 8 = j := by omega
    have hin : inB (Int32.ofNat i) 8 = true := zI_in (by omega) (by decide)
    have hjn : inB (Int32.ofNat j) 8 = true := zI_in (by omega) (by decide)
    have hki : (Int32.ofNat i).toNatClampNeg = i := zI_nat (by omega)
    have hkj : (Int32.ofNat j).toNatClampNeg = j := zI_nat (by omega)
    have z1 : ¬ (1 : Int32) = 0 := by decide
    have elv : lv M.2.1 g (8 * i + j) = ((decide (M.2.1 9 i = 0) && decide (M.2.1 9 j = 0)) && !decide (g i = g j)) := by
      unfold lv; rw [d8, m8, decide_eq_true hij, decide_eq_true hj]; simp
    have ebs : bst M.2.1 g (8 * i + j + 1) = (if lv M.2.1 g (8 * i + j) = true then (match bst M.2.1 g (8 * i + j) with
      | none => some (8 * i + j)
      | some m0 => if lnM M.2.1 m0 ≤ lnM M.2.1 (8 * i + j) then some m0 else some (8 * i + j)) else bst M.2.1 g (8 * i + j)) := rfl
    simp only [g3_delta_102, g3_delta_157]
    rw [hT', if_on hj (by omega), hin, hjn]
    simp only [chk_t, hki, hkj, Mg_67 hi, Mg_67 hj, if_true]
    rw [ebs, elv]
    by_cases c1 : M.2.1 9 i = 0
    · have g1 : ¬ g i = -1 := fun z => (hm i hi).mp z c1
      rw [if_neg g1, decide_eq_true c1, Bool.true_and]
      by_cases c2 : M.2.1 9 j = 0
      · have g2 : ¬ g j = -1 := fun z => (hm j hj).mp z c2
        rw [if_neg g2, decide_eq_true c2, Bool.true_and]
        by_cases c3 : g i = g j
        · rw [if_pos c3, decide_eq_true c3, if_neg (by decide), zI_succ]
        · rw [if_neg c3, if_neg z1, decide_eq_false c3, if_pos (show (!false) = true from rfl)]
          cases hb : bst M.2.1 g (8 * i + j) with
          | none =>
            rw [show e5 none = -1 from rfl, if_pos rfl, zI_succ]
            show K (Int32.ofNat i, Int32.ofNat j, _) = K (Int32.ofNat ((8 * i + j) / 8), Int32.ofNat ((8 * i + j) % 8), _)
            rw [d8, m8]
          | some m0 =>
            obtain ⟨b1, b2, -⟩ := (bst_spec (a := M.2.1) (g := g) (8 * i + j)).2 m0 hb
            have hx : m0 / 8 < m0 % 8 ∧ m0 % 8 < cT M.2.1 := by
              refine Classical.byContradiction fun z => ?_
              rw [lv_no z] at b2; cases b2
            have hne : ¬ Int32.ofNat (m0 / 8) = -1 := fun z => by
              have := congrArg Int32.toInt z
              rw [zI_int (by omega)] at this
              have e : Int32.toInt (-1) = -1 := rfl
              omega
            have hw : wB M.2.1 := fun t ht => (hr.2.2.1 t ht).1
            have l1 := (lenI_eq (hw i hi) (hw j hj)).2
            have l2 := (lenI_eq (hw (m0 / 8) (by omega)) (hw (m0 % 8) hx.2)).2
            rw [show e5 (some m0) = Int32.ofNat (m0 / 8) from rfl, show e6 (some m0) = Int32.ofNat (m0 % 8) from rfl, if_neg hne, ropeB_eq hr hi hj, ropeB_eq hr (show m0 / 8 < cT M.2.1 by omega) hx.2, bnd_s, bnd_s, zif_le (by omega) (by omega)]
            show (if lenN M.2.1 (m0 / 8) (m0 % 8) ≤ lenN M.2.1 i j then _ else _) = K (e5 (if lnM M.2.1 m0 ≤ lnM M.2.1 (8 * i + j) then some m0 else some (8 * i + j)), e6 (if lnM M.2.1 m0 ≤ lnM M.2.1 (8 * i + j) then some m0 else some (8 * i + j)), _)
            have el : lnM M.2.1 (8 * i + j) = lenN M.2.1 i j := by unfold lnM; rw [d8, m8]
            rw [el]
            by_cases cl : lenN M.2.1 (m0 / 8) (m0 % 8) ≤ lenN M.2.1 i j
            · rw [if_pos cl, if_pos (show lnM M.2.1 m0 ≤ lenN M.2.1 i j from cl), zI_succ]; rfl
            · rw [if_neg cl, if_neg (show ¬ lnM M.2.1 m0 ≤ lenN M.2.1 i j from cl), zI_succ]
              show K (Int32.ofNat i, Int32.ofNat j, _) = K (Int32.ofNat ((8 * i + j) / 8), Int32.ofNat ((8 * i + j) % 8), _)
              rw [d8, m8]
      · have g2 : g j = -1 := (hm j hj).mpr c2
        rw [if_pos g2, decide_eq_false c2, Bool.false_and, if_neg (by decide), zI_succ]
    · have g1 : g i = -1 := (hm i hi).mpr c1
      rw [if_pos g1, decide_eq_false c1, Bool.false_and, Bool.false_and, if_neg (by decide), zI_succ]
  · intro K
    show g3_delta_102 (Mg M g) v1 v2 v3 (Int32.ofNat i) K71 K85 K _ = _
    rw [show i + 1 + (cT M.2.1 - (i + 1)) = cT M.2.1 by omega]
    simp only [g3_delta_102]
    rw [hT', if_off, zI_succ]
theorem f3_delta_85 (hr : GR M.2.1) (hm : mI M.2.1 g) {K71 : Bl × Int32 × Int32 × Int32 → Option (Int32 × Bl)} : loop (g3_delta_85 (Mg M g) v1 v2 v3 K71) FU ((-1 : Int32), (-1 : Int32), (0 : Int32)) = g3_delta_220 K71 (Mg M g) v1 v2 v3 (e5 (bst M.2.1 g 64)) (e6 (bst M.2.1 g 64)) (if e5 (bst M.2.1 g 64) = -1 then 0 else 1) := by
  obtain ⟨hT, h8⟩ := hr.1.2.1
  have hT' : (Mg M g).2.1 1 3 = Int32.ofNat (cT M.2.1) := by rw [Mg_o (by decide)]; exact hT
  have ehi : bst M.2.1 g 64 = bst M.2.1 g (8 * cT M.2.1) := by
    have := bst_skip (a := M.2.1) (g := g) (m := 8 * cT M.2.1) (64 - 8 * cT M.2.1) (fun j h1 h2 => lv_no (by omega))
    rwa [show 8 * cT M.2.1 + (64 - 8 * cT M.2.1) = 64 by omega] at this
  rw [ehi]
  refine loop_seq (body := g3_delta_85 (Mg M g) v1 v2 v3 K71) (fun k => (e5 (bst M.2.1 g (8 * k)), e6 (bst M.2.1 g (8 * k)), Int32.ofNat k)) (cT M.2.1) (by omega) ?_ ?_
  · intro K k hk
    simp only [g3_delta_85]
    rw [hT', if_on hk (by omega), f3_delta_in hr hm hk]
  · intro K
    simp only [g3_delta_85]
    rw [hT', if_off]
    by_cases c : e5 (bst M.2.1 g (8 * cT M.2.1)) = -1
    · rw [if_pos c, if_pos c]
    · rw [if_neg c, if_neg c]
theorem f3_delta_262 (hr : GR M.2.1) {K71 : Bl × Int32 × Int32 × Int32 → Option (Int32 × Bl)} {v4 u w : Int32} : loop (g3_delta_262 v1 v2 v3 v4 u w K71) FU (Mg M g, (0 : Int32)) = K71 (Mg M (joinG g u w), v2, v3, v4) := by
  obtain ⟨hT, h8⟩ := hr.1.2.1
  refine Eq.trans ?_ (loop_seq (body := g3_delta_262 v1 v2 v3 v4 u w K71) (fun k => (bS M 67 (fun t => if t < k then joinG g u w t else ov (cT M.2.1) g (M.2.1 67) t), Int32.ofNat k)) (cT M.2.1) (by omega) ?_ ?_)
  · rfl
  · intro K k hk
    simp only [g3_delta_262]
    have eT : (bS M 67 (fun t => if t < k then joinG g u w t else ov (cT M.2.1) g (M.2.1 67) t)).2.1 1 3 = Int32.ofNat (cT M.2.1) := hT
    have e67 : (bS M 67 (fun t => if t < k then joinG g u w t else ov (cT M.2.1) g (M.2.1 67) t)).2.1 67 k = g k := by
      show (if k < k then _ else ov (cT M.2.1) g (M.2.1 67) k) = g k
      rw [if_neg (by omega)]; unfold ov; rw [if_pos hk]
    have enx : ∀ r : Int32, r = joinG g u w k → bA (bS M 67 (fun t => if t < k then joinG g u w t else ov (cT M.2.1) g (M.2.1 67) t)) 67 k r = bS M 67 (fun t => if t < k + 1 then joinG g u w t else ov (cT M.2.1) g (M.2.1 67) t) := by
      intro r hr
      unfold bA
      rw [bS_bS]
      congr 1
      funext t
      simp only [bS, if_true]
      unfold upd
      by_cases e : t = k
      · subst e; rw [if_pos rfl, if_pos (by omega), hr]
      · rw [if_neg e]
        show (if t < k then joinG g u w t else ov (cT M.2.1) g (M.2.1 67) t) = _
        by_cases c : t < k
        · rw [if_pos c, if_pos (by omega)]
        · rw [if_neg c, if_neg (by omega)]
    rw [eT, if_on hk (by omega), chk_h (zI_in (by omega) (by decide)), chk_h (zI_in (by omega) (by decide)), chk_h (zI_in (by omega) (by decide)), zI_nat (by omega), e67, zI_succ]
    by_cases hg : g k = u
    · rw [if_pos hg, enx w (by unfold joinG; rw [if_pos hg])]
    · rw [if_neg hg, chk_h (zI_in (by omega) (by decide)), enx (g k) (by unfold joinG; rw [if_neg hg])]
  · intro K
    simp only [g3_delta_262]
    have eT : (bS M 67 (fun t => if t < cT M.2.1 then joinG g u w t else ov (cT M.2.1) g (M.2.1 67) t)).2.1 1 3 = Int32.ofNat (cT M.2.1) := hT
    rw [eT, if_off]
    unfold Mg
    congr 3
    funext t
    unfold ov
    by_cases c : t < cT M.2.1
    · rw [if_pos c, if_pos c]
    · rw [if_neg c, if_neg c, if_neg c]
end D

/-! PLAIN LAW: plan -/
set_option maxRecDepth 100000
theorem getD_app {L : List Int32} {v : Int32} {i : Nat} (h : i < L.length + 1) : (L ++ [v]).getD i 0 = if i = L.length then v else L.getD i 0 := by
  rw [List.getD_eq_getElem?_getD, List.getD_eq_getElem?_getD]
  by_cases c : i = L.length
  · rw [if_pos c, c, List.getElem?_concat_length]; rfl
  · rw [if_neg c, List.getElem?_append_left (by omega)]
theorem bS_id {s : Bl} {f : Nat} : bS s f (s.2.1 f) = s := by
  refine Prod.ext rfl (Prod.ext ?_ rfl)
  funext g
  show (if g = f then s.2.1 f else s.2.1 g) = s.2.1 g
  by_cases c : g = f
  · rw [if_pos c, c]
  · rw [if_neg c]
theorem noR_get {L : List Int32} {n k : Nat} {row : Nat → Nat} (hk : k < L.length) : noR (fun k => L.getD k 0) n row k = decide (1 < rnB (fun i => bit L[k] (row i)) n) := by
  have e : L.getD k 0 = L[k] := by rw [List.getD_eq_getElem?_getD, List.getElem?_eq_getElem hk, Option.getD_some]
  unfold noR
  exact decide_eq_decide.mpr (by dsimp only; rw [e])
theorem stR_iff {L : List Int32} {n : Nat} {row : Nat → Nat} : stR (fun k => L.getD k 0) L.length n row = true ↔ ∀ s, s ∈ L → ¬ 1 < rnB (fun i => bit s (row i)) n := by
  unfold stR
  rw [decide_eq_true_iff]
  have hs := fsN_spec (noR (fun k => L.getD k 0) n row) L.length
  have hl := fsN_le (noR (fun k => L.getD k 0) n row) L.length
  constructor
  · intro h s hsm
    obtain ⟨k, hk, e⟩ := List.mem_iff_getElem.mp hsm
    have h1 := hs.1 k (by omega)
    rw [noR_get hk] at h1
    have h1 := of_decide_eq_false h1
    rw [e] at h1; exact h1
  · intro h hlt
    have h1 := hs.2 hlt
    rw [noR_get hlt] at h1
    exact h _ (List.getElem_mem hlt) (of_decide_eq_true h1)
theorem stR_cg {L L2 : List Int32} {n : Nat} (h : ∀ s, s ∈ L ↔ s ∈ L2) : stR (fun k => L.getD k 0) L.length n = stR (fun k => L2.getD k 0) L2.length n := by
  funext row
  rw [Bool.eq_iff_iff, stR_iff, stR_iff]
  exact ⟨fun g s hs => g s ((h s).mpr hs), fun g s hs => g s ((h s).mp hs)⟩
noncomputable def gpO (a : Ar) (o : Nat) : Bool := decide (a 1 6 < a 2 o) && lnB a (a 2 o) (cT a)
noncomputable def gpM (a : Ar) (nw j : Nat) : Bool := lnB a (Int32.ofNat (nw + 1 + j)) (cT a)
noncomputable def glO (a : Ar) (n : Nat) : List Int32 := apL (gpO a) (fun o => ltS a (a 2 o)) n
noncomputable def glM (a : Ar) (nw n : Nat) : List Int32 := apL (gpM a nw) (fun j => ltS a (Int32.ofNat (nw + 1 + j))) n
noncomputable def gqO (a : Ar) (n : Nat) : Bool := acL (gpO a) (fun o => okS a (a 2 o)) n
noncomputable def gqM (a : Ar) (nw n : Nat) : Bool := acL (gpM a nw) (fun j => okS a (Int32.ofNat (nw + 1 + j))) n
theorem lnB_own {a : Ar} (g : GR a) {v : Int32} (h : lnB a v (cT a) = true) : ∃ o, o < cO a ∧ a 2 o = v := by
  obtain ⟨t, ht, e⟩ := (anyB_iff _).mp h
  rw [Bool.and_eq_true, decide_eq_true_iff] at e
  have hO6 := g.1.1.2
  obtain ⟨q, hq, e2⟩ := (isK_iff (by omega)).mp (g.2.2.1 t ht).2.2.2
  refine ⟨q, hq, ?_⟩
  rw [← e.2]; unfold landT; rw [e2, zI_nat (by omega)]
/-- the same sets, the same answer -/
theorem gl_same {a : Ar} (g : GR a) {nw ml : Nat} (h6 : a 1 6 = Int32.ofNat nw) (h0 : a 1 0 = Int32.ofNat ml) (hml : nw ≤ ml ∧ ml ≤ 99) : (∀ s, s ∈ glO a (cO a) ↔ s ∈ glM a nw (ml - nw)) ∧ gqO a (cO a) = gqM a nw (ml - nw) := by
  have hO6 := g.1.1.2
  have key1 : ∀ o, o < cO a → gpO a o = true → ∃ j, j < ml - nw ∧ a 2 o = Int32.ofNat (nw + 1 + j) ∧ gpM a nw j = true := by
    intro o ho hp
    unfold gpO at hp
    rw [Bool.and_eq_true, decide_eq_true_iff] at hp
    have h2 := (g.2.2.2.1 o ho).2
    rw [h0, zI_int (by omega)] at h2
    have e : a 2 o = Int32.ofNat (a 2 o).toNatClampNeg := zI_of (by rw [Int32.le_iff_toInt_le]; show (0 : Int) ≤ _; omega)
    have e3 := zI_lt31 (a 2 o)
    generalize (a 2 o).toNatClampNeg = w at e e3
    rw [e, zI_int e3] at h2
    rw [e, h6, zI_lt (by omega) e3] at hp
    refine ⟨w - (nw + 1), by omega, by rw [e]; congr 1; omega, ?_⟩
    unfold gpM
    rw [show nw + 1 + (w - (nw + 1)) = w by omega]; exact hp.2
  have key2 : ∀ j, j < ml - nw → gpM a nw j = true → ∃ o, o < cO a ∧ a 2 o = Int32.ofNat (nw + 1 + j) ∧ gpO a o = true := by
    intro j hj hp
    obtain ⟨o, ho, e⟩ := lnB_own g hp
    refine ⟨o, ho, e, ?_⟩
    unfold gpO
    rw [e, decide_eq_true (show a 1 6 < Int32.ofNat (nw + 1 + j) by rw [h6, zI_lt (by omega) (by omega)]; omega), Bool.true_and]
    exact hp
  constructor
  · intro s
    unfold glO glM
    rw [apL_mem, apL_mem]
    constructor
    · rintro ⟨o, ho, hp, e⟩
      obtain ⟨j, hj, e2, hp2⟩ := key1 o ho hp
      exact ⟨j, hj, hp2, by rw [e, e2]⟩
    · rintro ⟨j, hj, hp, e⟩
      obtain ⟨o, ho, e2, hp2⟩ := key2 j hj hp
      exact ⟨o, ho, hp2, by rw [e, e2]⟩
  · unfold gqO gqM
    rw [Bool.eq_iff_iff, acL_iff, acL_iff]
    constructor
    · intro h j hj hp
      obtain ⟨o, ho, e2, hp2⟩ := key2 j hj hp
      have := h o ho hp2
      rw [e2] at this; exact this
    · intro h o ho hp
      obtain ⟨j, hj, e2, hp2⟩ := key1 o ho hp
      have := h j hj hp2
      rw [e2]; exact this
theorem glM_len {a : Ar} (g : GR a) {nw N : Nat} (hb : nw + N ≤ 99) : (glM a nw N).length ≤ 6 := by
  have hO6 := g.1.1.2
  unfold glM
  rw [apL_len]
  refine Nat.le_trans (cntB_own (L := fun o => (a 2 o).toNatClampNeg - (nw + 1)) (cO a) _ (fun j hj hp => ?_)) hO6
  obtain ⟨o, ho, e⟩ := lnB_own g hp
  refine ⟨o, ho, ?_⟩
  rw [e, zI_nat (by omega)]; omega
section P
variable {x y : Nat → Bl} {M s : Bl} {v v1 v2 v3 : Int32}
theorem stB_zero (g : GR M.2.1) {S : Int32} : stB M.2.1 S 0 = sFl M.2.1 S := by
  unfold stB sFl
  refine sumI_congr fun t ht => ?_
  have h := (g.2.2.1 t ht).2.1
  have e : skd (M.2.1 7 t) (M.2.1 8 t) 0 = M.2.1 7 t := by
    unfold skd
    rw [Int32.mul_zero, Int32.sub_zero]
    by_cases c : M.2.1 7 t ≤ 0
    · rw [if_pos c]
      rw [Int32.le_iff_toInt_le] at c
      have c : (M.2.1 7 t).toInt ≤ (0 : Int) := c
      exact (Int32.toInt_inj.mp (by show (M.2.1 7 t).toInt = (0 : Int); omega)).symm
    · rw [if_neg c]
  rw [e]
theorem f0_gathers_eq (hz : ¬ (x 0).1 0 = 0) (g : GR M.2.1) (hf : FR (x 1) M.2.1) : ∃ h : Nat → Int32, (∀ i, i < (glO M.2.1 (cO M.2.1)).length → h i = (glO M.2.1 (cO M.2.1)).getD i 0) ∧ f0_gathersTogether x (sAf M.2.1) = some (b2 (brn M.2.1 (sAf M.2.1) && gqO M.2.1 (cO M.2.1)), upX x 0 (bI (bS (x 0) 17 h) 18 (Int32.ofNat (glO M.2.1 (cO M.2.1)).length))) := by
  have hO6 := g.1.1.2
  have hlen : ∀ n, (glO M.2.1 n).length ≤ n := fun n => by unfold glO; rw [apL_len]; exact cntB_le n
  have key : ∀ b : Bool, ∃ q, loop (g0_gathersTogether_22 (sAf M.2.1)) FU (upX x 0 (bI (x 0) 18 0), b2 b, (0 : Int32)) = some q ∧ ∃ h : Nat → Int32, (∀ i, i < (glO M.2.1 (cO M.2.1)).length → h i = (glO M.2.1 (cO M.2.1)).getD i 0) ∧ q = (b2 (b && gqO M.2.1 (cO M.2.1)), upX x 0 (bI (bS (x 0) 17 h) 18 (Int32.ofNat (glO M.2.1 (cO M.2.1)).length))) := by
    intro b
    refine loop_post (fun s : (Nat → Bl) × Int32 × Int32 => ∃ o h, o ≤ cO M.2.1 ∧ (∀ i, i < (glO M.2.1 o).length → h i = (glO M.2.1 o).getD i 0) ∧ s = (upX x 0 (bI (bS (x 0) 17 h) 18 (Int32.ofNat (glO M.2.1 o).length)), b2 (b && gqO M.2.1 o), Int32.ofNat o)) (fun s => 100 - s.2.2.toNatClampNeg) _ ?_ ⟨0, (x 0).2.1 17, Nat.zero_le _, fun i hi => absurd hi (Nat.not_lt_zero i), by
      rw [bS_id]; show _ = (_, b2 (b && true), _); rw [Bool.and_true]; rfl⟩ (by show 100 - 0 < _; omega)
    rintro K s ⟨o, h, ho, hh, rfl⟩ IH
    have hln := hlen o
    generalize hy : upX x 0 (bI (bS (x 0) 17 h) 18 (Int32.ofNat (glO M.2.1 o).length)) = y at IH ⊢
    have y0 : y 0 = bI (bS (x 0) 17 h) 18 (Int32.ofNat (glO M.2.1 o).length) := by rw [← hy, upX_self]
    have y1 : y 1 = x 1 := by rw [← hy, upX_ne (by decide)]
    have hzy : ¬ (y 0).1 0 = 0 := by rw [y0]; exact hz
    have hcf : decide (¬ (y 0).1 0 = 0) = true := decide_eq_true hzy
    have hfy : FR (y 1) M.2.1 := by rw [y1]; exact hf
    simp only [g0_gathersTogether_22]
    rw [chk_h hcf, hfy.nO g.1, zif_le (by omega) (by omega)]
    by_cases hend : cO M.2.1 ≤ o
    · have e : o = cO M.2.1 := by omega
      subst e
      rw [if_pos hend, chk_h (isB_b2 _)]
      exact ⟨_, rfl, h, hh, by rw [hy]⟩
    · rw [if_neg hend]
      have hon : inB (Int32.ofNat o) 6 = true := zI_in (by omega) (by decide)
      have no : (Int32.ofNat o).toNatClampNeg = o := zI_nat (by omega)
      rw [chk_h hcf, chk_h hon, chk_h hcf, no, hfy.now, hfy.landing (by omega)]
      have hg1 : glO M.2.1 (o + 1) = if gpO M.2.1 o = true then glO M.2.1 o ++ [ltS M.2.1 (M.2.1 2 o)] else glO M.2.1 o := rfl
      have hq1 : gqO M.2.1 (o + 1) = (gqO M.2.1 o && (!gpO M.2.1 o || okS M.2.1 (M.2.1 2 o))) := rfl
      have skip : gpO M.2.1 o = false → ∃ r, K (y, b2 (b && gqO M.2.1 o), Int32.ofNat o + (1 : Int32)) = some r ∧ ∃ h, (∀ i, i < (glO M.2.1 (cO M.2.1)).length → h i = (glO M.2.1 (cO M.2.1)).getD i 0) ∧ r = (b2 (b && gqO M.2.1 (cO M.2.1)), upX x 0 (bI (bS (x 0) 17 h) 18 (Int32.ofNat (glO M.2.1 (cO M.2.1)).length))) := by
        intro hp
        rw [hp] at hg1 hq1
        simp only [Bool.false_eq_true, if_false, Bool.not_false, Bool.true_or, Bool.and_true] at hg1 hq1
        refine IH _ ⟨o + 1, h, by omega, by rw [hg1]; exact hh, by rw [hg1, hq1, hy, zI_succ]⟩ ?_
        dsimp only
        rw [zI_succ, zI_nat (by omega), no]; omega
      by_cases c : M.2.1 1 6 < M.2.1 2 o
      · rw [if_pos c, g68_eq hzy g hfy]
        by_cases c2 : lnB M.2.1 (M.2.1 2 o) (cT M.2.1) = true
        · rw [if_pos c2]
          have hp : gpO M.2.1 o = true := by unfold gpO; rw [decide_eq_true c, c2]; rfl
          rw [hp] at hg1 hq1
          simp only [if_true, Bool.not_true, Bool.false_or] at hg1 hq1
          unfold g0_gathersTogether_188
          have hin : inB (Int32.ofNat (glO M.2.1 o).length) 6 = true := zI_in (by omega) (by decide)
          have e18 : (y 0).1 18 = Int32.ofNat (glO M.2.1 o).length := by rw [y0]; simp [bI]
          rw [e18, chk_h hin, ltv_s, zI_nat (by omega), upX_upX, upX_self]
          have e3 : (bA (y 0) 17 (glO M.2.1 o).length (ltS M.2.1 (M.2.1 2 o))).1 18 + 1 = Int32.ofNat ((glO M.2.1 o).length + 1) := by
            show (y 0).1 18 + 1 = _
            rw [e18, zI_succ]
          rw [e3, b2_and, y0]
          refine IH _ ⟨o + 1, upd h (glO M.2.1 o).length (ltS M.2.1 (M.2.1 2 o)), by omega, ?_, ?_⟩ ?_
          · rw [hg1]
            intro i hi
            rw [List.length_append] at hi
            have hi : i < (glO M.2.1 o).length + 1 := hi
            rw [getD_app hi]
            unfold upd
            by_cases ci : i = (glO M.2.1 o).length
            · rw [if_pos ci, if_pos ci]
            · rw [if_neg ci, if_neg ci]; exact hh i (by omega)
          · rw [hg1, hq1, zI_succ, Bool.and_assoc, List.length_append]
            refine Prod.ext ?_ rfl
            dsimp only
            rw [← hy, upX_upX]
            congr 1
            refine Prod.ext ?_ (Prod.ext ?_ rfl)
            · funext f
              by_cases cf : f = 18
              · subst cf; simp [bI]
              · simp [bI, bA, bS, cf]
            · funext f
              by_cases cf : f = 17
              · subst cf; simp [bI, bA, bS]
              · simp [bI, bA, bS, cf]
          · dsimp only
            rw [zI_succ, zI_nat (by omega), no]; omega
        · rw [if_neg c2]
          refine skip ?_
          unfold gpO
          cases e : lnB M.2.1 (M.2.1 2 o) (cT M.2.1) with
          | true => exact absurd e c2
          | false => rw [Bool.and_false]
      · rw [if_neg c]
        refine skip ?_
        unfold gpO; rw [decide_eq_false c, Bool.false_and]
  unfold f0_gathersTogether
  have hz1 : ¬ ((upX x 0 (bI (x 0) 18 0)) 0).1 0 = 0 := by rw [upX_self]; exact hz
  rw [f0_bearsThen_eq hz1 g (by rw [upX_ne (by decide)]; exact hf), bnd_s, stB_zero g]
  have hbr : brn M.2.1 (sAf M.2.1) = decide (¬ sFl M.2.1 (sAf M.2.1) - sWt M.2.1 (sAf M.2.1) < 0) := by unfold brn; exact decide_eq_decide.mpr (by rw [bears_neg g])
  obtain ⟨q, k1, h, k2, k3⟩ := key (brn M.2.1 (sAf M.2.1))
  refine ⟨h, k2, ?_⟩
  rw [← k3, ← k1, hbr]
  by_cases c : sFl M.2.1 (sAf M.2.1) - sWt M.2.1 (sAf M.2.1) < 0
  · rw [if_pos c, decide_eq_false (fun z => z c)]; rfl
  · rw [if_neg c, decide_eq_true c]; rfl
end P

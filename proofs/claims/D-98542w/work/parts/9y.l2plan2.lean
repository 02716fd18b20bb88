/-! PLAIN LAW: plan, both sides -/
set_option maxRecDepth 100000
section P
variable {x y : Nat → Bl} {M s : Bl} {v v1 v2 v3 : Int32}
theorem GR.b60 {h : Nat → Int32} (g : GR M.2.1) : GR (bS M 60 h).2.1 := g
theorem f3_laysLater_eq (g : GR M.2.1) {nw ml : Nat} (h6 : M.2.1 1 6 = Int32.ofNat nw) (h0 : M.2.1 1 0 = Int32.ofNat ml) (hml : nw ≤ ml ∧ ml ≤ 99) : ∃ h : Nat → Int32, (∀ i, i < (glM M.2.1 nw (ml - nw)).length → h i = (glM M.2.1 nw (ml - nw)).getD i 0) ∧ f3_laysLater M (sAf M.2.1) = some (b2 (brn M.2.1 (sAf M.2.1) && gqM M.2.1 nw (ml - nw)), bI (bS M 60 h) 61 (Int32.ofNat (glM M.2.1 nw (ml - nw)).length)) := by
  have hlen : ∀ n, n ≤ ml - nw → (glM M.2.1 nw n).length ≤ 6 := fun n hn => glM_len g (by omega)
  have key : ∀ b : Bool, ∃ q, loop (g3_laysLater_34 (sAf M.2.1)) FU (bI M 61 0, b2 b, Int32.ofNat (nw + 1 + 0)) = some q ∧ ∃ h : Nat → Int32, (∀ i, i < (glM M.2.1 nw (ml - nw)).length → h i = (glM M.2.1 nw (ml - nw)).getD i 0) ∧ q = (b2 (b && gqM M.2.1 nw (ml - nw)), bI (bS M 60 h) 61 (Int32.ofNat (glM M.2.1 nw (ml - nw)).length)) := by
    intro b
    refine loop_post (fun s : Bl × Int32 × Int32 => ∃ j h, j ≤ ml - nw ∧ (∀ i, i < (glM M.2.1 nw j).length → h i = (glM M.2.1 nw j).getD i 0) ∧ s = (bI (bS M 60 h) 61 (Int32.ofNat (glM M.2.1 nw j).length), b2 (b && gqM M.2.1 nw j), Int32.ofNat (nw + 1 + j))) (fun s => 300 - s.2.2.toNatClampNeg) _ ?_ ⟨0, M.2.1 60, Nat.zero_le _, fun i hi => absurd hi (Nat.not_lt_zero i), by
      rw [bS_id]; show _ = (_, b2 (b && true), _); rw [Bool.and_true]; rfl⟩ (by omega)
    rintro K s ⟨j, h, hj, hh, rfl⟩ IH
    have hln := hlen j hj
    have e60 : ∀ f, (bI (bS M 60 h) 61 (Int32.ofNat (glM M.2.1 nw j).length)).2.1 1 f = M.2.1 1 f := fun f => rfl
    simp only [g3_laysLater_34]
    rw [e60, h0, zif_lt (by omega) (by omega)]
    by_cases hend : ml < nw + 1 + j
    · have e : j = ml - nw := by omega
      subst e
      rw [if_pos hend, chk_h (isB_b2 _)]
      exact ⟨_, rfl, h, hh, rfl⟩
    · rw [if_neg hend]
      have g60 : GR (bI (bS M 60 h) 61 (Int32.ofNat (glM M.2.1 nw j).length)).2.1 := g
      have h53 := g53_eq (v := Int32.ofNat (nw + 1 + j)) (b := b && gqM M.2.1 nw j) (K := K) g60
      have h53 : loop (g3_laysLater_53 (bI (bS M 60 h) 61 (Int32.ofNat (glM M.2.1 nw j).length)) (sAf M.2.1) (b2 (b && gqM M.2.1 nw j)) (Int32.ofNat (nw + 1 + j)) K) FU ((0 : Int32), (0 : Int32), (0 : Int32)) = if lnB M.2.1 (Int32.ofNat (nw + 1 + j)) (cT M.2.1) = true then g3_laysLater_237 K (bI (bS M 60 h) 61 (Int32.ofNat (glM M.2.1 nw j).length)) (sAf M.2.1) (Int32.ofNat (nw + 1 + j)) (ltS M.2.1 (Int32.ofNat (nw + 1 + j))) (b2 ((b && gqM M.2.1 nw j) && okS M.2.1 (Int32.ofNat (nw + 1 + j)))) else K (bI (bS M 60 h) 61 (Int32.ofNat (glM M.2.1 nw j).length), b2 (b && gqM M.2.1 nw j), Int32.ofNat (nw + 1 + j) + (1 : Int32)) := h53
      rw [h53]
      have hg1 : glM M.2.1 nw (j + 1) = if gpM M.2.1 nw j = true then glM M.2.1 nw j ++ [ltS M.2.1 (Int32.ofNat (nw + 1 + j))] else glM M.2.1 nw j := rfl
      have hq1 : gqM M.2.1 nw (j + 1) = (gqM M.2.1 nw j && (!gpM M.2.1 nw j || okS M.2.1 (Int32.ofNat (nw + 1 + j)))) := rfl
      have eN : Int32.ofNat (nw + 1 + j) + (1 : Int32) = Int32.ofNat (nw + 1 + (j + 1)) := zI_succ _
      by_cases c2 : lnB M.2.1 (Int32.ofNat (nw + 1 + j)) (cT M.2.1) = true
      · have hp : gpM M.2.1 nw j = true := c2
        rw [if_pos c2]
        rw [hp] at hg1 hq1
        simp only [if_true, Bool.not_true, Bool.false_or] at hg1 hq1
        unfold g3_laysLater_237
        have hin : inB (Int32.ofNat (glM M.2.1 nw j).length) 7 = true := zI_in (by omega) (by decide)
        have e61 : (bI (bS M 60 h) 61 (Int32.ofNat (glM M.2.1 nw j).length)).1 61 = Int32.ofNat (glM M.2.1 nw j).length := by simp [bI]
        rw [e61, chk_h hin, zI_nat (by omega)]
        have e3 : (bA (bI (bS M 60 h) 61 (Int32.ofNat (glM M.2.1 nw j).length)) 60 (glM M.2.1 nw j).length (ltS M.2.1 (Int32.ofNat (nw + 1 + j)))).1 61 + 1 = Int32.ofNat ((glM M.2.1 nw j).length + 1) := by
          show (bI (bS M 60 h) 61 (Int32.ofNat (glM M.2.1 nw j).length)).1 61 + 1 = _
          rw [e61, zI_succ]
        rw [e3, eN]
        refine IH _ ⟨j + 1, upd h (glM M.2.1 nw j).length (ltS M.2.1 (Int32.ofNat (nw + 1 + j))), by omega, ?_, ?_⟩ ?_
        · rw [hg1]
          intro i hi
          rw [List.length_append] at hi
          have hi : i < (glM M.2.1 nw j).length + 1 := hi
          rw [getD_app hi]
          unfold upd
          by_cases ci : i = (glM M.2.1 nw j).length
          · rw [if_pos ci, if_pos ci]
          · rw [if_neg ci, if_neg ci]; exact hh i (by omega)
        · rw [hg1, hq1, Bool.and_assoc, List.length_append]
          refine Prod.ext ?_ rfl
          dsimp only
          refine Prod.ext ?_ (Prod.ext ?_ rfl)
          · funext f
            by_cases cf : f = 61
            · subst cf; simp [bI]
            · simp [bI, bA, bS, cf]
          · funext f
            by_cases cf : f = 60
            · subst cf; simp [bI, bA, bS]
            · simp [bI, bA, bS, cf]
        · dsimp only
          rw [zI_nat (by omega), zI_nat (by omega)]; omega
      · have hp : gpM M.2.1 nw j = false := by
          cases e : gpM M.2.1 nw j with
          | true => exact absurd e c2
          | false => rfl
        rw [if_neg c2]
        rw [hp] at hg1 hq1
        simp only [Bool.false_eq_true, if_false, Bool.not_false, Bool.true_or, Bool.and_true] at hg1 hq1
        refine IH _ ⟨j + 1, h, by omega, by rw [hg1]; exact hh, by rw [hg1, hq1, eN]⟩ ?_
        dsimp only
        rw [eN, zI_nat (by omega), zI_nat (by omega)]; omega
  unfold f3_laysLater
  have g61 : GC (bI M 61 0).2.1 := g.1
  have ef : f3_floatOf (bI M 61 0) (sAf M.2.1) = some (sFl M.2.1 (sAf M.2.1)) := f3_floatOf_eq g61
  have ew : f3_weightOf (bI M 61 0) (sAf M.2.1) = some (sWt M.2.1 (sAf M.2.1)) := f3_weightOf_eq g61
  have en : (bI M 61 0).2.1 1 6 + (1 : Int32) = Int32.ofNat (nw + 1 + 0) := by show M.2.1 1 6 + 1 = _; rw [h6, zI_succ]
  rw [ef, ew, bnd_s, bnd_s, en]
  obtain ⟨q, k1, h, k2, k3⟩ := key (brn M.2.1 (sAf M.2.1))
  refine ⟨h, k2, ?_⟩
  rw [← k3, ← k1]
  unfold brn
  by_cases c : sFl M.2.1 (sAf M.2.1) < sWt M.2.1 (sAf M.2.1)
  · rw [if_pos c, decide_eq_false (fun z => z c)]; rfl
  · rw [if_neg c, decide_eq_true c]; rfl
end P

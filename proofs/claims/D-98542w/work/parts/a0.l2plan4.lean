/-! PLAIN LAW: plan_sim -/
set_option maxRecDepth 100000
section P
variable {x y x' : Nat → Bl} {M M' s : Bl} {v v1 v2 v3 : Int32}
/-- side rooms alone change -/
theorem Sim.side {r : Int32} (h : RL x M) (kx : Kx x x') (h1 : x' 1 = x 1) (hf : ∀ f, f < 56 → M'.1 f = M.1 f) (ha : ∀ f, f < 58 ∨ 68 < f → M'.2.1 f = M.2.1 f) : Sim x M (some (r, x')) (some (r, M')) := by
  have km : Km M M' := by
    refine ⟨fun f hf2 => ?_, fun k hk => ?_, fun k _ i => Or.inl (by rw [ha 69 (by omega)]), by rw [ha 1 (by omega)]⟩
    · refine hf f ?_
      simp only [List.mem_cons, List.not_mem_nil, or_false] at hf2
      omega
    · refine ha k ?_
      simp only [List.mem_cons, List.not_mem_nil, or_false] at hk
      omega
  have ag : AG M'.2.1 M.2.1 := by
    refine ⟨fun i _ => by rw [ha 1 (by omega)], fun i _ => ?_, fun i _ => ?_, fun i _ => ?_⟩
    · rw [ha 2 (by omega), ha 3 (by omega), ha 4 (by omega), ha 14 (by omega), ha 15 (by omega), ha 16 (by omega), ha 17 (by omega), ha 18 (by omega)]
      exact ⟨rfl, rfl, rfl, rfl, rfl, rfl, rfl, rfl⟩
    · rw [ha 5 (by omega), ha 6 (by omega), ha 7 (by omega), ha 8 (by omega), ha 9 (by omega), ha 10 (by omega)]
      exact ⟨rfl, rfl, rfl, rfl, rfl, rfl⟩
    · rw [ha 11 (by omega), ha 12 (by omega), ha 13 (by omega)]
      exact ⟨rfl, rfl, rfl⟩
  refine ⟨r, x', M', rfl, rfl, h.keep kx km ?_, kx, km⟩
  rcases h.1 with ⟨hz, hn⟩ | ⟨hz, hv⟩
  · exact Or.inl ⟨by rw [kx.1 0 (by decide)]; exact hz, fun i hi => by rw [ha 1 (by omega)]; exact hn.1 i hi, by rw [hf 55 (by omega)]; exact hn.2⟩
  · exact Or.inr ⟨by rw [kx.1 0 (by decide)]; exact hz, by rw [h1]; exact hv.congr ag (fun i _ => by rw [ha 53 (by omega)]) (hf 55 (by omega))⟩
theorem plan_sim (h : RL x M) : Sim x M (f0_plan x v1) (f3_plan M v1) := by
  unfold f0_plan f3_plan
  rcases h.1 with ⟨hz, hn⟩ | ⟨hz, hv⟩
  · rw [if_pos hz, isRiver_no hn, bnd_s]; exact Sim.same h _
  · have hcf : decide (¬ (x 0).1 0 = 0) = true := decide_eq_true hz
    have g := hv.2.1
    have h8 := g.1.2.1.2
    have hO6 := g.1.1.2
    rw [if_neg hz, isRiver_yes g, bnd_s, if_neg (show ¬ (1 : Int32) = 0 by decide)]
    have e0 := f0_in32 v1 (-1) 6
    have e3 := f3_in32 v1 (-1) 6
    change f0_in v1.toInt64 (-1 : Int64) (6 : Int64) = _ at e0
    change f3_in v1.toInt64 (-1 : Int64) (6 : Int64) = _ at e3
    rw [e0, e3, bnd_s, bnd_s, if_bit, if_bit]
    cases hc1 : (decide (-1 ≤ v1) && decide (v1 ≤ 6)) with
    | false => exact Sim.same h _
    | true =>
      rw [if_pos rfl, if_pos rfl, chk_h hcf, f1_afloat_eq g.1 hv.1, f3_afloat_eq g.1, bnd_s, bnd_s, f3_bits_eq, bitCount_eq (fun k h1 h2 => by rw [bit_af h2, decide_eq_false (by omega)]; rfl), bnd_s, bnd_s]
      have hp16 := pop_le (sAf M.2.1)
      have hA8 : ∀ k, 8 ≤ k → k < 32 → bit (sAf M.2.1) k = false := fun k h1 h2 => by rw [bit_af h2, decide_eq_false (by omega)]; rfl
      have hp8 := pop_8 hA8
      generalize hn : pop (sAf M.2.1) = n at hp16 hp8 ⊢
      have e19 : (upX x 0 (bI (x 0) 19 (Int32.ofNat n)) 0).1 19 = Int32.ofNat n := by rw [upX_self]; simp [bI]
      rw [e19, show (7 : Int32) = Int32.ofNat 7 from rfl, zif_le (by omega) (by omega), zif_le (by omega) (by omega)]
      by_cases h7 : n ≤ 7
      · rw [if_pos h7, if_pos h7, upX_upX, upX_self]
        rw [Bool.and_eq_true, decide_eq_true_iff, decide_eq_true_iff] at hc1
        have hgo := g.2.2.2.2
        have z6 : M.2.1 1 6 = Int32.ofNat (M.2.1 1 6).toNatClampNeg := zI_of (by rw [Int32.le_iff_toInt_le]; show (0 : Int) ≤ _; omega)
        have z0 : M.2.1 1 0 = Int32.ofNat (M.2.1 1 0).toNatClampNeg := zI_of (by rw [Int32.le_iff_toInt_le]; show (0 : Int) ≤ _; omega)
        have b6 := zI_lt31 (M.2.1 1 6)
        have b0 := zI_lt31 (M.2.1 1 0)
        generalize (M.2.1 1 6).toNatClampNeg = nw at z6 b6
        generalize (M.2.1 1 0).toNatClampNeg = ml at z0 b0
        have hml : nw ≤ ml ∧ ml ≤ 99 := by
          rw [z6, z0, zI_int b6, zI_int b0] at hgo
          omega
        obtain ⟨gl1, gl2⟩ := gl_same g z6 z0 hml
        obtain ⟨s', f1, f2, f3⟩ := f3_findsRows_eq g z6 z0 hml hn h7
        rw [f1, bnd_s]
        have hx0 : ¬ ((upX x 0 (bI (bI (x 0) 19 (Int32.ofNat n)) 20 0)) 0).1 0 = 0 := by rw [upX_self]; exact hz
        obtain ⟨hh, k1, k2⟩ := f0_gathers_eq (x := upX x 0 (bI (bI (x 0) 19 (Int32.ofNat n)) 20 0)) hx0 g (by rw [upX_ne (by decide)]; exact hv.1)
        rw [k2, bnd2_s, if_bit, upX_upX, upX_self, gl2]
        rw [← stR_cg gl1] at f3
        have hlO : (glO M.2.1 (cO M.2.1)).length ≤ cO M.2.1 := by unfold glO; rw [apL_len]; exact cntB_le _
        have fin : ∀ (y : Nat → Bl) (S : Int32 × (Nat → Nat)), Kx x y → y 1 = x 1 → (y 0).1 19 = Int32.ofNat n → Sc0 y n S → Sc3 s' n S → Sim x M (g0_plan_71 y v1) (if v1 = (-1 : Int32) then some (s'.1 62, s') else if s'.1 62 = 0 then some ((-2 : Int32), s') else bnd (some (Int32.ofNat n)) (fun r6 => if v1 < r6 then chk (inB v1 8) (some (s'.2.1 59 v1.toNatClampNeg, s')) else some ((-2 : Int32), s'))) := by
          intro y S kx y1 y19 hs0 hs3
          have side : ∀ r, Sim x M (some (r, y)) (some (r, s')) := fun r => Sim.side h kx y1 (fun f hf => f2.1 f (by omega) (by omega)) (fun f hf => f2.2 f (by omega) (by omega) (by omega))
          unfold g0_plan_71
          rw [hs0.1, hs3.1, y19, bnd_s]
          by_cases c1 : v1 = -1
          · rw [if_pos c1, if_pos c1]; exact side _
          · rw [if_neg c1, if_neg c1]
            by_cases c2 : S.1 = 0
            · rw [if_pos c2, if_pos c2]; exact side _
            · rw [if_neg c2, if_neg c2]
              have hv0 : 0 ≤ v1 := by
                rw [Int32.le_iff_toInt_le]
                have h1 := hc1.1
                rw [Int32.le_iff_toInt_le] at h1
                have h1 : (-1 : Int) ≤ v1.toInt := h1
                have h2 : ¬ v1.toInt = -1 := fun z => c1 (Int32.toInt_inj.mp z)
                show (0 : Int) ≤ _; omega
              have e := zI_of hv0
              have hw := zI_lt31 v1
              generalize v1.toNatClampNeg = w at e hw
              subst e
              rw [zif_lt hw (by omega), zif_lt hw (by omega)]
              by_cases c3 : w < n
              · have i7 : inB (Int32.ofNat w) 7 = true := zI_in (by omega) (by decide)
                have i8 : inB (Int32.ofNat w) 8 = true := zI_in (by omega) (by decide)
                rw [if_pos c3, if_pos c3, chk_h i7, chk_h i8, hs0.2 c2 w c3, hs3.2 c2 w c3]
                exact side _
              · rw [if_neg c3, if_neg c3]; exact side _
        generalize hz2 : upX x 0 (bI (bS (bI (bI (x 0) 19 (Int32.ofNat n)) 20 0) 17 hh) 18 (Int32.ofNat (glO M.2.1 (cO M.2.1)).length)) = z
        have zs : z 0 = bI (bS (bI (bI (x 0) 19 (Int32.ofNat n)) 20 0) 17 hh) 18 (Int32.ofNat (glO M.2.1 (cO M.2.1)).length) := by rw [← hz2, upX_self]
        have z1 : z 1 = x 1 := by rw [← hz2, upX_ne (by decide)]
        have zkx : Kx x z := by
          refine ⟨fun f hf => ?_, fun f hf => ?_, fun j hj => ?_⟩
          · simp only [List.mem_cons, List.not_mem_nil, or_false] at hf
            rw [zs]
            rcases hf with rfl | rfl | rfl | rfl <;> simp [bI, bS]
          · simp only [List.mem_cons, List.not_mem_nil, or_false] at hf
            rw [zs]
            rcases hf with rfl | rfl | rfl <;> simp [bI, bS]
          · rw [← hz2]; exact upX_ne (by intro e; subst e; revert hj; decide)
        have z19 : (z 0).1 19 = Int32.ofNat n := by rw [zs]; simp [bI, bS]
        have z18 : (z 0).1 18 = Int32.ofNat (glO M.2.1 (cO M.2.1)).length := by rw [zs]; simp [bI]
        have z17 : (z 0).2.1 17 = hh := by rw [zs]; simp [bI, bS]
        have z20 : (z 0).1 20 = 0 := by rw [zs]; simp [bI, bS]
        have zz : ¬ (z 0).1 0 = 0 := by rw [zkx.1 0 (by decide)]; exact hz
        cases hG : (brn M.2.1 (sAf M.2.1) && gqM M.2.1 nw (ml - nw)) with
        | false =>
          rw [hG] at f3
          exact fin z _ zkx z1 z19 ⟨z20, fun z => absurd rfl z⟩ f3
        | true =>
          rw [hG] at f3
          rw [if_pos rfl]
          have hAlt : ∀ j, (decide (j < 8) && bit (sAf M.2.1) j) = true → j < cT M.2.1 := fun j hj => by
            rw [Bool.and_eq_true, decide_eq_true_iff] at hj
            exact af_lt g.1 (by omega) hj.2
          have eA : (fun j => decide (j < 8) && bit (sAf M.2.1) j) = bit (sAf M.2.1) := by
            funext j
            by_cases c8 : j < 8
            · rw [decide_eq_true c8, Bool.true_and]
            · rw [decide_eq_false c8, Bool.false_and]
              cases e : bit (sAf M.2.1) j with
              | false => rfl
              | true =>
                by_cases c32 : j < 32
                · have := af_lt g.1 c32 e; omega
                · unfold bit at e; rw [BitVec.getLsbD_of_ge _ _ (by omega)] at e; cases e
          obtain ⟨y', q1, q2, q3, q4⟩ := tries_eq (x0 := z) (A := fun j => decide (j < 8) && bit (sAf M.2.1) j) (TS := fun k => (glO M.2.1 (cO M.2.1)).getD k 0) (m := (glO M.2.1 (cO M.2.1)).length) (n := n) (T := cT M.2.1) ⟨fun j hj => by rw [Bool.and_eq_true, decide_eq_true_iff] at hj; exact hj.1, fun k hk j hj hb => by
            dsimp only at hb
            rw [List.getD_eq_getElem?_getD, List.getElem?_eq_getElem hk, Option.getD_some] at hb
            obtain ⟨o, ho, hp, e⟩ := (apL_mem _).mp (List.getElem_mem hk)
            rw [e] at hb
            unfold ltS at hb
            rw [bit_mkS hj, Bool.and_eq_true, Bool.and_eq_true, decide_eq_true_iff] at hb
            dsimp only
            rw [decide_eq_true (by omega), hb.2.1]; rfl⟩ (by omega) z18 (fun k hk => by rw [z17]; exact k1 k hk) z19 h7 (by rw [z1]; exact hv.1.nT g.1) h8 hAlt (by rw [eA, ← hp8]) zz n 20 0 (fun _ => 0) (fun j => decide (j < 8) && bit (sAf M.2.1) j) (0, fun _ => 0) z (sAf M.2.1) (by omega) (by omega) JR.start (fun j hj => by
              by_cases c8 : j < 8
              · rw [decide_eq_true c8]; simp
              · rw [decide_eq_false c8, hA8 j (by omega) hj]; rfl) Fr0.refl (fun i hi => absurd hi (Nat.not_lt_zero i)) ⟨z20, fun z => absurd rfl z⟩
          rw [eA] at q4
          change f0_triesRows 20 z 0 (sAf M.2.1) = some y' at q1
          rw [q1, bnd_s]
          have kzy : Kx z y' := ⟨fun f hf => q2.1 f (by intro e; subst e; revert hf; decide), fun f hf => q2.2.1 f (by intro e; subst e; revert hf; decide) (by intro e; subst e; revert hf; decide), fun j hj => q2.2.2 j (by intro e; subst e; revert hj; decide)⟩
          exact fin y' _ (zkx.trans kzy) (by rw [q2.2.2 1 (by decide)]; exact z1) (by rw [q2.1 19 (by decide)]; exact z19) q4 f3
      · rw [if_neg h7, if_neg h7]
        refine Sim.side h ⟨fun f hf => ?_, fun f hf => ?_, fun j hj => ?_⟩ ?_ (fun _ _ => rfl) (fun _ _ => rfl)
        · simp only [List.mem_cons, List.not_mem_nil, or_false] at hf
          rw [upX_self]
          rcases hf with rfl | rfl | rfl | rfl <;> simp [bI]
        · rw [upX_self]; rfl
        · exact upX_ne (by intro e; subst e; revert hj; decide)
        · exact upX_ne (by decide)
end P

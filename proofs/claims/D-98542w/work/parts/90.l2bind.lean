/-! PLAIN LAW: bind, cut, saw, push -/
set_option maxRecDepth 100000
section C
variable {x : Nat → Bl} {M : Bl} {v v1 v2 v3 : Int32}
theorem AG.keep {M M' : Bl} (k4 : Ff [53] [55, 56, 57] M M') : AG M'.2.1 M.2.1 := AG_Ff k4 (by simp; omega)
theorem Km.kept {M M' : Bl} (k4 : Ff [53] [55, 56, 57] M M') : Km M M' := Km.ff k4 (by decide) (by rw [(AG.keep k4).1 8 (by omega)]) (by decide)
theorem bind_sim (h : RL x M) : Sim x M (f0_bind x v1 v2 v3) (f3_bind M v1 v2 v3) := by
  have hV := h.1
  unfold f0_bind f3_bind f3_canBind
  rw [f0_isAfloat_eq hV, f3_isAfloat_eq hV.gc, f0_isAfloat_eq hV, f3_isAfloat_eq hV.gc]
  simp only [bnd_s, if_bit]
  cases hk1 : isAf M.2.1 v1 with
  | false => exact Sim.same h _
  | true =>
    cases hk2 : isAf M.2.1 v2 with
    | false => exact Sim.same h _
    | true =>
      obtain ⟨hz, hv⟩ := hV.of_K (Or.inl rfl) (isAf_K hk1)
      have hcf : decide (¬ (x 0).1 0 = 0) = true := decide_eq_true hz
      have h8 := hv.2.1.1.2.1.2
      obtain ⟨i, hi, rfl⟩ := (isK_iff (by omega)).mp (isAf_K hk1)
      obtain ⟨j, hj, rfl⟩ := (isK_iff (by omega)).mp (isAf_K hk2)
      simp only [if_true]
      by_cases hij : i = j
      · subst hij; rw [if_pos rfl, if_pos rfl]; exact Sim.same h _
      have hne : ¬ Int32.ofNat i = Int32.ofNat j := fun z => hij ((zI_inj (by omega) (by omega)).mp z)
      rw [if_neg hne, if_neg hne]
      have e0 := f0_in32 v3 1 9
      have e3 := f3_in32 v3 1 9
      change f0_in v3.toInt64 (1 : Int64) (9 : Int64) = _ at e0
      change f3_in v3.toInt64 (1 : Int64) (9 : Int64) = _ at e3
      rw [e0, e3, bnd_s, bnd_s, if_bit, if_bit]
      cases (decide (1 ≤ v3) && decide (v3 ≤ 9)) with
      | false => exact Sim.same h _
      | true =>
        simp only [if_true]
        obtain ⟨hR, h12⟩ := hv.2.1.1.2.2.1
        have hl := fsN_le (bdP M.2.1 (Int32.ofNat i) (Int32.ofNat j)) (cR M.2.1)
        rw [hcf, chk_t, chk_t, chk_t, f1_ropeOf_eq hv.2.1.1 hv.2.1.2.1 hv.1 (by omega) (by omega) hij, f3_isBound_eq hv.2.1.1, bnd_s, bnd_s, hv.1.store, hv.1.nR hv.2.1.1, hR, if_bit]
        have e12 : (12 : Int32) = Int32.ofNat 12 := rfl
        rw [e12, zif_le (by omega) (by omega), zif_eq (by omega) (by omega)]
        by_cases hb : fsN (bdP M.2.1 (Int32.ofNat i) (Int32.ofNat j)) (cR M.2.1) < cR M.2.1
        · rw [if_pos hb, if_neg (show ¬ Int32.ofNat (fsN (bdP M.2.1 (Int32.ofNat i) (Int32.ofNat j)) (cR M.2.1)) = -1 from fun z => by
            have := congrArg Int32.toInt z
            rw [zI_int (by omega)] at this
            have e : Int32.toInt (-1) = -1 := rfl
            omega), decide_eq_true hb]
          by_cases hs : M.2.1 1 1 < v3
          · rw [if_pos hs]; exact Sim.same h _
          · rw [if_neg hs]
            by_cases hf : 12 ≤ cR M.2.1
            · rw [if_pos hf]; exact Sim.same h _
            · rw [if_neg hf]; exact Sim.same h _
        · rw [if_neg hb, if_pos rfl, decide_eq_false hb]
          by_cases hs : M.2.1 1 1 < v3
          · rw [if_pos hs, if_pos hs]; exact Sim.same h _
          · rw [if_neg hs, if_neg hs]
            by_cases hf : 12 ≤ cR M.2.1
            · rw [if_pos hf, if_pos (by omega)]; exact Sim.same h _
            · rw [if_neg hf, if_neg (by omega)]
              obtain ⟨F1, M1, k1, k2, k3, k4, k5⟩ := kept_sim hz hv
              have hag := AG.keep k4
              have hR1 : M1.2.1 1 4 = Int32.ofNat (cR M.2.1) := by rw [hag.1 4 (by omega)]; exact hR
              have hF5 : F1.1 5 = Int32.ofNat (cR M.2.1) := by rw [k3.fld 5]; exact hv.1.nR hv.2.1.1
              have hcR1 : cR M1.2.1 = cR M.2.1 := hag.eR
              have hs1 : F1.1 4 = M1.2.1 1 1 := k5.1.store
              have hrl1 : rl (F1.2.1 18) (F1.2.1 19) (F1.2.1 20) (cR M.2.1) = rl (M1.2.1 11) (M1.2.1 12) (M1.2.1 13) (cR M.2.1) := by rw [← hcR1]; exact k5.1.rls
              have hok1 := RA_iff.mp k5.2.1.2.1
              have hown := fun t ht => RVa.own k5 (i := t) ht
              have hsti : M1.2.1 9 i = 0 := by
                have e := hag.2.2.1 i (by omega); rw [e.2.2.2.2.1]
                unfold isAf at hk1; rw [Bool.and_eq_true, zI_nat (by omega)] at hk1; exact of_decide_eq_true hk1.2
              have hstj : M1.2.1 9 j = 0 := by
                have e := hag.2.2.1 j (by omega); rw [e.2.2.2.2.1]
                unfold isAf at hk2; rw [Bool.and_eq_true, zI_nat (by omega)] at hk2; exact of_decide_eq_true hk2.2
              have hT1 : cT M1.2.1 = cT M.2.1 := hag.eT
              rw [k1, k2]
              simp only [bnd_s, upX_upX, upX_10, upX_self, hcf, chk_t, b2, if_true, bnd2_s, Bool.false_eq_true, if_false, f1_binds_eq (v := v3) (show i < 8 by omega) (show j < 8 by omega) hF5 (by omega), f3_binds_eq (v := v3) (show i < 8 by omega) (show j < 8 by omega) hR1 (by omega)]
              rw [if_neg (show ¬ (1 : Int32) = 0 by decide)]
              generalize hn : cR M.2.1 = n at *
              have kf : Ff [12, 18, 19, 20] [4, 5] F1 (bI (bI (bA (bA (bA F1 18 n (Int32.ofNat (loI i j))) 19 n (Int32.ofNat (hiI i j))) 20 n v3) 5 (Int32.ofNat (n + 1))) 4 ((bI (bA (bA (bA F1 18 n (Int32.ofNat (loI i j))) 19 n (Int32.ofNat (hiI i j))) 20 n v3) 5 (Int32.ofNat (n + 1))).1 4 - v3)) := ((((Ff.ba.trans Ff.ba).trans Ff.ba).trans Ff.bi).trans Ff.bi).weak
              have km : Fm [5, 11, 12, 13] [1, 4] [] M1 (bA (bA (bA (bA (bA M1 11 n (Int32.ofNat (loI i j))) 12 n (Int32.ofNat (hiI i j))) 13 n v3) 1 1 (M1.2.1 1 1 - v3)) 1 4 (Int32.ofNat (n + 1))) := (((((Fm.ba (by decide)).trans (Fm.ba (by decide))).trans (Fm.ba (by decide))).trans Fm.ba1).trans Fm.ba1).weak
              have f5 : (bI (bI (bA (bA (bA F1 18 n (Int32.ofNat (loI i j))) 19 n (Int32.ofNat (hiI i j))) 20 n v3) 5 (Int32.ofNat (n + 1))) 4 ((bI (bA (bA (bA F1 18 n (Int32.ofNat (loI i j))) 19 n (Int32.ofNat (hiI i j))) 20 n v3) 5 (Int32.ofNat (n + 1))).1 4 - v3)).1 5 = Int32.ofNat (n + 1) := by simp [bI]
              have f4 : (bI (bI (bA (bA (bA F1 18 n (Int32.ofNat (loI i j))) 19 n (Int32.ofNat (hiI i j))) 20 n v3) 5 (Int32.ofNat (n + 1))) 4 ((bI (bA (bA (bA F1 18 n (Int32.ofNat (loI i j))) 19 n (Int32.ofNat (hiI i j))) 20 n v3) 5 (Int32.ofNat (n + 1))).1 4 - v3)).1 4 = F1.1 4 - v3 := by simp [bI, bA, bS]
              have f12 : (bI (bI (bA (bA (bA F1 18 n (Int32.ofNat (loI i j))) 19 n (Int32.ofNat (hiI i j))) 20 n v3) 5 (Int32.ofNat (n + 1))) 4 ((bI (bA (bA (bA F1 18 n (Int32.ofNat (loI i j))) 19 n (Int32.ofNat (hiI i j))) 20 n v3) 5 (Int32.ofNat (n + 1))).1 4 - v3)).2.1 12 = F1.2.1 12 := by simp [bI, bA, bS]
              have m4 : (bA (bA (bA (bA (bA M1 11 n (Int32.ofNat (loI i j))) 12 n (Int32.ofNat (hiI i j))) 13 n v3) 1 1 (M1.2.1 1 1 - v3)) 1 4 (Int32.ofNat (n + 1))).2.1 1 4 = Int32.ofNat (n + 1) := by simp [bA, bS, upd]
              have m1 : (bA (bA (bA (bA (bA M1 11 n (Int32.ofNat (loI i j))) 12 n (Int32.ofNat (hiI i j))) 13 n v3) 1 1 (M1.2.1 1 1 - v3)) 1 4 (Int32.ofNat (n + 1))).2.1 1 1 = M1.2.1 1 1 - v3 := by simp [bA, bS, upd]
              have m5 : (bA (bA (bA (bA (bA M1 11 n (Int32.ofNat (loI i j))) 12 n (Int32.ofNat (hiI i j))) 13 n v3) 1 1 (M1.2.1 1 1 - v3)) 1 4 (Int32.ofNat (n + 1))).2.1 5 = M1.2.1 5 := by simp [bA, bS]
              have fr : ∀ F2 : Bl, F2 = (bI (bI (bA (bA (bA F1 18 n (Int32.ofNat (loI i j))) 19 n (Int32.ofNat (hiI i j))) 20 n v3) 5 (Int32.ofNat (n + 1))) 4 ((bI (bA (bA (bA F1 18 n (Int32.ofNat (loI i j))) 19 n (Int32.ofNat (hiI i j))) 20 n v3) 5 (Int32.ofNat (n + 1))).1 4 - v3)) → rl (F2.2.1 18) (F2.2.1 19) (F2.2.1 20) (n + 1) = rl (F1.2.1 18) (F1.2.1 19) (F1.2.1 20) n ++ [(Int32.ofNat (loI i j), Int32.ofNat (hiI i j), v3)] := by
                intro F2 e
                rw [rl_succ]
                have e1 : F2.2.1 18 = upd (F1.2.1 18) n (Int32.ofNat (loI i j)) := by rw [e]; simp [bI, bA, bS]
                have e2 : F2.2.1 19 = upd (F1.2.1 19) n (Int32.ofNat (hiI i j)) := by rw [e]; simp [bI, bA, bS]
                have e3 : F2.2.1 20 = upd (F1.2.1 20) n v3 := by rw [e]; simp [bI, bA, bS]
                rw [e1, e2, e3]
                congr 1
                · refine rl_congr fun r hr => ?_
                  have hne : ¬ r = n := by omega
                  simp [upd, hne]
                · simp [upd]
              have mr : ∀ M2 : Bl, M2 = (bA (bA (bA (bA (bA M1 11 n (Int32.ofNat (loI i j))) 12 n (Int32.ofNat (hiI i j))) 13 n v3) 1 1 (M1.2.1 1 1 - v3)) 1 4 (Int32.ofNat (n + 1))) → rl (M2.2.1 11) (M2.2.1 12) (M2.2.1 13) (n + 1) = rl (M1.2.1 11) (M1.2.1 12) (M1.2.1 13) n ++ [(Int32.ofNat (loI i j), Int32.ofNat (hiI i j), v3)] := by
                intro M2 e
                rw [rl_succ]
                have e1 : M2.2.1 11 = upd (M1.2.1 11) n (Int32.ofNat (loI i j)) := by rw [e]; simp [bA, bS]
                have e2 : M2.2.1 12 = upd (M1.2.1 12) n (Int32.ofNat (hiI i j)) := by rw [e]; simp [bA, bS]
                have e3 : M2.2.1 13 = upd (M1.2.1 13) n v3 := by rw [e]; simp [bA, bS]
                rw [e1, e2, e3]
                congr 1
                · refine rl_congr fun r hr => ?_
                  have hne : ¬ r = n := by omega
                  simp [upd, hne]
                · simp [upd]
              have fr := fr _ rfl
              have mr := mr _ rfl
              generalize (bI (bI (bA (bA (bA F1 18 n (Int32.ofNat (loI i j))) 19 n (Int32.ofNat (hiI i j))) 20 n v3) 5 (Int32.ofNat (n + 1))) 4 ((bI (bA (bA (bA F1 18 n (Int32.ofNat (loI i j))) 19 n (Int32.ofNat (hiI i j))) 20 n v3) 5 (Int32.ofNat (n + 1))).1 4 - v3)) = F2 at kf f5 f4 f12 fr ⊢
              generalize (bA (bA (bA (bA (bA M1 11 n (Int32.ofNat (loI i j))) 12 n (Int32.ofNat (hiI i j))) 13 n v3) 1 1 (M1.2.1 1 1 - v3)) 1 4 (Int32.ofNat (n + 1))) = M2 at km m4 m1 m5 mr ⊢
              have hc2 : cR M2.2.1 = n + 1 := by unfold cR; rw [m4, zI_nat (by omega)]
              have hrv : RVa F2 M2.2.1 (M1.1 55) := by
                refine k5.act kf km (by rw [f4, m1, hs1]) (by rw [hc2]; exact ⟨f5, m4⟩) (by omega) ?_ ?_ (fun t ht => by rw [f12, m5]; exact hown t ht)
                · unfold rlM; rw [hc2, fr, mr, hrl1]
                · unfold rlM; rw [hc2, mr]
                  intro y hy
                  rcases List.mem_append.mp hy with hy | hy
                  · refine hok1 y ?_
                    unfold rlM; rw [hcR1]; exact hy
                  · rw [List.mem_singleton.mp hy, hT1]
                    unfold okR
                    simp only
                    rw [zI_nat (show loI i j < 2147483648 by unfold loI; split <;> omega), zI_nat (show hiI i j < 2147483648 by unfold hiI; split <;> omega)]
                    unfold loI hiI
                    by_cases hc : i < j
                    · rw [if_pos hc, if_pos hc]; exact ⟨⟨rfl, by omega⟩, ⟨rfl, by omega⟩, hc, hi, hj, hsti, hstj⟩
                    · rw [if_neg hc, if_neg hc]; exact ⟨⟨rfl, by omega⟩, ⟨rfl, by omega⟩, by omega, hj, hi, hstj, hsti⟩
              have e5 : F2.1 5 - (1 : Int32) = Int32.ofNat n := by rw [f5]; exact pred_s n
              rw [e5]
              refine Sim.flow h hz ?_ ((Km.kept k4).trans (Km.of km))
              rw [km.fld 55]; exact hrv
end C

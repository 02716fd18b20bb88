/-! PLAIN LAW: ties by a rule -/
set_option maxRecDepth 100000
section T
variable {x : Nat → Bl} {M : Bl} {v v1 v2 v3 : Int32}
theorem f3_canBind_eq (g : GC M.2.1) {i j : Nat} (hi : i < cT M.2.1) (hj : j < cT M.2.1) (hij : i ≠ j) : f3_canBind M (Int32.ofNat i) (Int32.ofNat j) v = some (b2 (isAf M.2.1 (Int32.ofNat i) && (isAf M.2.1 (Int32.ofNat j) && ((decide (1 ≤ v) && decide (v ≤ 9)) && (decide (¬ M.2.1 1 1 < v) && (decide (cR M.2.1 < 12) && !decide (fsN (bdP M.2.1 (Int32.ofNat i) (Int32.ofNat j)) (cR M.2.1) < cR M.2.1))))))) := by
  have h8 := g.2.1.2
  obtain ⟨hR, h12⟩ := g.2.2.1
  unfold f3_canBind
  rw [f3_isAfloat_eq g, bnd_s, if_bit, f3_isAfloat_eq g, bnd_s, if_bit]
  cases isAf M.2.1 (Int32.ofNat i) with
  | false => rfl
  | true =>
    cases isAf M.2.1 (Int32.ofNat j) with
    | false => rfl
    | true =>
      rw [if_pos rfl, if_pos rfl, if_neg (fun z => hij ((zI_inj (by omega) (by omega)).mp z))]
      have e3 := f3_in32 v 1 9
      change f3_in v.toInt64 (1 : Int64) (9 : Int64) = _ at e3
      rw [e3, bnd_s, if_bit]
      cases (decide (1 ≤ v) && decide (v ≤ 9)) with
      | false => rfl
      | true =>
        rw [if_pos rfl, hR, show (12 : Int32) = Int32.ofNat 12 from rfl, zif_le (by omega) (by omega), f3_isBound_eq g, bnd_s, if_bit]
        by_cases c1 : M.2.1 1 1 < v
        · rw [if_pos c1]; simp [c1, b2]
        · rw [if_neg c1]
          by_cases c2 : 12 ≤ cR M.2.1
          · rw [if_pos c2, decide_eq_false (show ¬ cR M.2.1 < 12 by omega)]; simp [b2]
          · rw [if_neg c2, decide_eq_true (show cR M.2.1 < 12 by omega)]
            by_cases c3 : fsN (bdP M.2.1 (Int32.ofNat i) (Int32.ofNat j)) (cR M.2.1) < cR M.2.1
            · rw [decide_eq_true c3]; simp [b2]
            · rw [decide_eq_false c3]; simp [c1, b2]
theorem binds_act {F1 M1 : Bl} {p : Int32} (k5 : RVa F1 M1.2.1 p) {n i j : Nat} (hn : cR M1.2.1 = n) (h12 : n < 12) (hi : i < cT M1.2.1) (hj : j < cT M1.2.1) (hij : i ≠ j) (hk1 : isAf M1.2.1 (Int32.ofNat i) = true) (hk2 : isAf M1.2.1 (Int32.ofNat j) = true) : ∃ Fa M2 : Bl, f1_binds F1 (Int32.ofNat i) (Int32.ofNat j) v3 = some Fa ∧ f3_binds M1 (Int32.ofNat i) (Int32.ofNat j) v3 = some (Int32.ofNat n, M2) ∧ RVa (bI Fa 4 (Fa.1 4 - v3)) M2.2.1 p ∧ Fm [5, 11, 12, 13] [1, 4] [] M1 M2 := by
  have h8 := k5.2.1.1.2.1.2
  have hR1 : M1.2.1 1 4 = Int32.ofNat n := by rw [← hn]; exact k5.2.1.1.2.2.1.1
  have hF5 : F1.1 5 = Int32.ofNat n := by rw [← hn]; exact k5.1.nR k5.2.1.1
  have hs1 : F1.1 4 = M1.2.1 1 1 := k5.1.store
  have hrl1 : rl (F1.2.1 18) (F1.2.1 19) (F1.2.1 20) n = rl (M1.2.1 11) (M1.2.1 12) (M1.2.1 13) n := by rw [← hn]; exact k5.1.rls
  have hok1 := RA_iff.mp k5.2.1.2.1
  have hown := fun t ht => RVa.own k5 (i := t) ht
  have hsti : M1.2.1 9 i = 0 := by
    unfold isAf at hk1; rw [Bool.and_eq_true, zI_nat (by omega)] at hk1; exact of_decide_eq_true hk1.2
  have hstj : M1.2.1 9 j = 0 := by
    unfold isAf at hk2; rw [Bool.and_eq_true, zI_nat (by omega)] at hk2; exact of_decide_eq_true hk2.2
  refine ⟨_, _, f1_binds_eq (v := v3) (show i < 8 by omega) (show j < 8 by omega) hF5 h12, f3_binds_eq (v := v3) (show i < 8 by omega) (show j < 8 by omega) hR1 h12, ?_⟩
  have kf : Ff [12, 18, 19, 20] [4, 5] F1 (bI (bI (bA (bA (bA F1 18 n (Int32.ofNat (loI i j))) 19 n (Int32.ofNat (hiI i j))) 20 n v3) 5 (Int32.ofNat (n + 1))) 4 ((bI (bA (bA (bA F1 18 n (Int32.ofNat (loI i j))) 19 n (Int32.ofNat (hiI i j))) 20 n v3) 5 (Int32.ofNat (n + 1))).1 4 - v3)) := ((((Ff.ba.trans Ff.ba).trans Ff.ba).trans Ff.bi).trans Ff.bi).weak
  have km : Fm [5, 11, 12, 13] [1, 4] [] M1 (bA (bA (bA (bA (bA M1 11 n (Int32.ofNat (loI i j))) 12 n (Int32.ofNat (hiI i j))) 13 n v3) 1 1 (M1.2.1 1 1 - v3)) 1 4 (Int32.ofNat (n + 1))) := (((((Fm.ba (by decide)).trans (Fm.ba (by decide))).trans (Fm.ba (by decide))).trans Fm.ba1).trans Fm.ba1).weak
  have f5 : (bI (bI (bA (bA (bA F1 18 n (Int32.ofNat (loI i j))) 19 n (Int32.ofNat (hiI i j))) 20 n v3) 5 (Int32.ofNat (n + 1))) 4 ((bI (bA (bA (bA F1 18 n (Int32.ofNat (loI i j))) 19 n (Int32.ofNat (hiI i j))) 20 n v3) 5 (Int32.ofNat (n + 1))).1 4 - v3)).1 5 = Int32.ofNat (n + 1) := by simp [bI]
  have f4 : (bI (bI (bA (bA (bA F1 18 n (Int32.ofNat (loI i j))) 19 n (Int32.ofNat (hiI i j))) 20 n v3) 5 (Int32.ofNat (n + 1))) 4 ((bI (bA (bA (bA F1 18 n (Int32.ofNat (loI i j))) 19 n (Int32.ofNat (hiI i j))) 20 n v3) 5 (Int32.ofNat (n + 1))).1 4 - v3)).1 4 = F1.1 4 - v3 := by simp [bI, bA, bS]
  have f12 : (bI (bI (bA (bA (bA F1 18 n (Int32.ofNat (loI i j))) 19 n (Int32.ofNat (hiI i j))) 20 n v3) 5 (Int32.ofNat (n + 1))) 4 ((bI (bA (bA (bA F1 18 n (Int32.ofNat (loI i j))) 19 n (Int32.ofNat (hiI i j))) 20 n v3) 5 (Int32.ofNat (n + 1))).1 4 - v3)).2.1 12 = F1.2.1 12 := by simp [bI, bA, bS]
  have m4 : (bA (bA (bA (bA (bA M1 11 n (Int32.ofNat (loI i j))) 12 n (Int32.ofNat (hiI i j))) 13 n v3) 1 1 (M1.2.1 1 1 - v3)) 1 4 (Int32.ofNat (n + 1))).2.1 1 4 = Int32.ofNat (n + 1) := by simp [bA, bS, upd]
  have m1 : (bA (bA (bA (bA (bA M1 11 n (Int32.ofNat (loI i j))) 12 n (Int32.ofNat (hiI i j))) 13 n v3) 1 1 (M1.2.1 1 1 - v3)) 1 4 (Int32.ofNat (n + 1))).2.1 1 1 = M1.2.1 1 1 - v3 := by simp [bA, bS, upd]
  have m5 : (bA (bA (bA (bA (bA M1 11 n (Int32.ofNat (loI i j))) 12 n (Int32.ofNat (hiI i j))) 13 n v3) 1 1 (M1.2.1 1 1 - v3)) 1 4 (Int32.ofNat (n + 1))).2.1 5 = M1.2.1 5 := by simp [bA, bS]
  have fr : ∀ F2 : Bl, F2 = (bI (bI (bA (bA (bA F1 18 n (Int32.ofNat (loI i j))) 19 n (Int32.ofNat (hiI i j))) 20 n v3) 5 (Int32.ofNat (n + 1))) 4 ((bI (bA (bA (bA F1 18 n (Int32.ofNat (loI i j))) 19 n (Int32.ofNat (hiI i j))) 20 n v3) 5 (Int32.ofNat (n + 1))).1 4 - v3)) → rl (F2.2.1 18) (F2.2.1 19) (F2.2.1 20) (n + 1) = rl (F1.2.1 18) (F1.2.1 19) (F1.2.1 20) n ++ [(Int32.ofNat (loI i j), Int32.ofNat (hiI i j), v3)] := by
    intro F2 e
    rw [rl_succ]
    have e1 : F2.2.1 18 = upd (F1.2.1 18) n (Int32.ofNat (loI i j)) := by rw [e]; simp [bI, bA, bS]
    have e2 : F2.2.1 19 = upd (F1.2.1 19) n (Int32.ofNat (hiI i j)) := by rw [e]; simp [bI, bA, bS]
    have e3 : F2.2.1 20 = upd (F1.2.1 20) n v3 := by rw [e]; simp [bI, bA, bS]
    rw [e1, e2, e3]
    congr 1
    · refine rl_congr fun r hr => ?_
      have hne : ¬ r = n := by omega
      simp [upd, hne]
    · simp [upd]
  have mr : ∀ M2 : Bl, M2 = (bA (bA (bA (bA (bA M1 11 n (Int32.ofNat (loI i j))) 12 n (Int32.ofNat (hiI i j))) 13 n v3) 1 1 (M1.2.1 1 1 - v3)) 1 4 (Int32.ofNat (n + 1))) → rl (M2.2.1 11) (M2.2.1 12) (M2.2.1 13) (n + 1) = rl (M1.2.1 11) (M1.2.1 12) (M1.2.1 13) n ++ [(Int32.ofNat (loI i j), Int32.ofNat (hiI i j), v3)] := by
    intro M2 e
    rw [rl_succ]
    have e1 : M2.2.1 11 = upd (M1.2.1 11) n (Int32.ofNat (loI i j)) := by rw [e]; simp [bA, bS]
    have e2 : M2.2.1 12 = upd (M1.2.1 12) n (Int32.ofNat (hiI i j)) := by rw [e]; simp [bA, bS]
    have e3 : M2.2.1 13 = upd (M1.2.1 13) n v3 := by rw [e]; simp [bA, bS]
    rw [e1, e2, e3]
    congr 1
    · refine rl_congr fun r hr => ?_
      have hne : ¬ r = n := by omega
      simp [upd, hne]
    · simp [upd]
  have fr := fr _ rfl
  have mr := mr _ rfl
  generalize (bI (bI (bA (bA (bA F1 18 n (Int32.ofNat (loI i j))) 19 n (Int32.ofNat (hiI i j))) 20 n v3) 5 (Int32.ofNat (n + 1))) 4 ((bI (bA (bA (bA F1 18 n (Int32.ofNat (loI i j))) 19 n (Int32.ofNat (hiI i j))) 20 n v3) 5 (Int32.ofNat (n + 1))).1 4 - v3)) = F2 at kf f5 f4 f12 fr ⊢
  generalize (bA (bA (bA (bA (bA M1 11 n (Int32.ofNat (loI i j))) 12 n (Int32.ofNat (hiI i j))) 13 n v3) 1 1 (M1.2.1 1 1 - v3)) 1 4 (Int32.ofNat (n + 1))) = M2 at km m4 m1 m5 mr ⊢
  have hc2 : cR M2.2.1 = n + 1 := by unfold cR; rw [m4, zI_nat (by omega)]
  refine ⟨k5.act kf km (by rw [f4, m1, hs1]) (by rw [hc2]; exact ⟨f5, m4⟩) (by omega) ?_ ?_ (fun t ht => by rw [f12, m5]; exact hown t ht), km⟩
  · unfold rlM; rw [hc2, fr, mr, hrl1]
  · unfold rlM; rw [hc2, mr]
    intro y hy
    rcases List.mem_append.mp hy with hy | hy
    · refine hok1 y ?_
      unfold rlM; rw [hn]; exact hy
    · rw [List.mem_singleton.mp hy]
      unfold okR
      simp only
      rw [zI_nat (show loI i j < 2147483648 by unfold loI; split <;> omega), zI_nat (show hiI i j < 2147483648 by unfold hiI; split <;> omega)]
      unfold loI hiI
      by_cases hc : i < j
      · rw [if_pos hc, if_pos hc]; exact ⟨⟨rfl, by omega⟩, ⟨rfl, by omega⟩, hc, hi, hj, hsti, hstj⟩
      · rw [if_neg hc, if_neg hc]; exact ⟨⟨rfl, by omega⟩, ⟨rfl, by omega⟩, by omega, hj, hi, hstj, hsti⟩
/-- words alone change -/
def Kv (x y : Nat → Bl) : Prop := (y 0).1 = (x 0).1 ∧ (y 0).2.1 = (x 0).2.1 ∧ ∀ j, j ≠ 0 → y j = x j
def Kw (M s : Bl) : Prop := s.1 = M.1 ∧ s.2.1 = M.2.1
theorem Kv.kx {x y : Nat → Bl} (h : Kv x y) : Kx x y := ⟨fun f _ => by rw [h.1], fun f _ => by rw [h.2.1], fun j hj => h.2.2 j (by intro e; subst e; revert hj; decide)⟩
theorem Kw.km {M s : Bl} (h : Kw M s) : Km M s := ⟨fun f _ => by rw [h.1], fun f _ => by rw [h.2], fun k _ i => Or.inl (by rw [h.2]), by rw [h.2]⟩
theorem RU.km {cs : List Cls} {M M' : Bl} {r : Nat} (h : RU cs M.2.1 r) (k : Km M M') : RU cs M'.2.1 r := by
  have e : ∀ f, f ∈ [41, 42, 43, 44, 45, 46, 47, 70] → M'.2.1 f = M.2.1 f := k.2.1
  unfold RU soA nuA
  rw [e 42 (by decide), e 43 (by decide), e 44 (by decide), e 45 (by decide), e 46 (by decide), e 47 (by decide)]
  exact h
/-- nothing can be tied: the Model stays -/
theorem f3_tiesBy_no (g : GC M.2.1) {v1 : Int32} (h : M.2.1 1 1 < v ∨ 12 ≤ cR M.2.1) : f3_tiesBy M v1 v = some M := by
  have h8 := g.2.1.2
  have h3 := g.2.1.1
  have cb : ∀ i j, i < cT M.2.1 → j < cT M.2.1 → i ≠ j → f3_canBind M (Int32.ofNat i) (Int32.ofNat j) v = some 0 := by
    intro i j hi hj hij
    rw [f3_canBind_eq g hi hj hij]
    rcases h with c | c
    · rw [decide_eq_false (show ¬ ¬ M.2.1 1 1 < v from fun z => z c)]; simp [b2]
    · rw [decide_eq_false (show ¬ cR M.2.1 < 12 by omega)]; simp [b2]
  unfold f3_tiesBy
  refine loop_seq (fun i => (M, (-1 : Int32), (-1 : Int32), (0 : Int64), Int32.ofNat i)) (cT M.2.1) (by omega) ?_ ?_
  · intro K i hi
    simp only [g3_tiesBy_11]
    rw [h3, if_on hi (by omega), zI_succ]
    have e : loop (g3_tiesBy_28 v1 v (Int32.ofNat i) K) FU (M, (-1 : Int32), (-1 : Int32), (0 : Int64), Int32.ofNat (i + 1)) = K (M, (-1 : Int32), (-1 : Int32), (0 : Int64), Int32.ofNat (i + 1)) := by
      refine loop_seq (fun d => (M, (-1 : Int32), (-1 : Int32), (0 : Int64), Int32.ofNat (i + 1 + d))) (cT M.2.1 - (i + 1)) (by omega) ?_ ?_
      · intro K2 d hd
        simp only [g3_tiesBy_28]
        rw [h3, if_on (show i + 1 + d < cT M.2.1 by omega) (by omega), cb i (i + 1 + d) hi (by omega) (by omega), bnd_s, if_pos rfl, zI_succ]
        rfl
      · intro K2
        simp only [g3_tiesBy_28]
        rw [h3, show i + 1 + (cT M.2.1 - (i + 1)) = cT M.2.1 by omega, if_off, zI_succ]
    exact e
  · intro K
    simp only [g3_tiesBy_11]
    rw [h3, if_off, if_pos trivial]
end T

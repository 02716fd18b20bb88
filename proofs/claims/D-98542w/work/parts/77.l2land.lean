/-! PLAIN LAW: ropes break, owners land, pieces sink -/
set_option maxRecDepth 100000
def brk (by9 : Int32) (x : Tr) : Bool := decide (x.2.2 < by9)
theorem f1_breaks_eq {F : Bl} {by9 : Int32} {n : Nat} (hn : F.1 5 = Int32.ofNat n) (h12 : n ≤ 12) : ∃ F' : Bl, f1_breaks F by9 = some F' ∧ Ff [18, 19, 20] [5, 27] F F' ∧ F'.1 27 = Int32.ofNat ((rl (F.2.1 18) (F.2.1 19) (F.2.1 20) n).filter (brk by9)).length ∧ F'.1 5 = Int32.ofNat ((rl (F.2.1 18) (F.2.1 19) (F.2.1 20) n).filter (fun x => !brk by9 x)).length ∧ rl (F'.2.1 18) (F'.2.1 19) (F'.2.1 20) ((rl (F.2.1 18) (F.2.1 19) (F.2.1 20) n).filter (fun x => !brk by9 x)).length = (rl (F.2.1 18) (F.2.1 19) (F.2.1 20) n).filter (fun x => !brk by9 x) := by
  have hp : ∀ r, (decide (F.2.1 20 r < by9)) = brk by9 (F.2.1 18 r, F.2.1 19 r, F.2.1 20 r) := fun r => rfl
  have hpop : pop (mkS n (fun r => decide (F.2.1 20 r < by9))) = ((rl (F.2.1 18) (F.2.1 19) (F.2.1 20) n).filter (brk by9)).length := by
    rw [pop_mkS (by omega), ← pop_filter]; rfl
  have hle : ((rl (F.2.1 18) (F.2.1 19) (F.2.1 20) n).filter (brk by9)).length ≤ 12 := Nat.le_trans (List.length_filter_le _ _) (by rw [rl_len]; exact h12)
  obtain ⟨F', h1, h2, h3, h4⟩ := f1_loses_P (F := bI F 27 (Int32.ofNat ((rl (F.2.1 18) (F.2.1 19) (F.2.1 20) n).filter (brk by9)).length)) (P := brk by9) (S := mkS n (fun r => decide (F.2.1 20 r < by9))) (n := n) hn h12 (fun k hk => by rw [bit_mkS (by omega)]; simp only [hk, decide_true, Bool.true_and]; rfl)
  refine ⟨F', ?_, (Ff.bi.trans h2).weak, ?_, h3, h4⟩
  · unfold f1_breaks
    refine loop_seq (fun k => (mkS k (fun r => decide (F.2.1 20 r < by9)), Int32.ofNat k)) n (by omega) ?_ ?_
    · intro K k hk
      simp only [g1_breaks_4]
      rw [hn, if_on hk (by omega), chk_h (zI_in (by omega) (by decide)), zI_nat (by omega), zI_succ]
      by_cases hz : by9 ≤ F.2.1 20 k
      · rw [if_pos hz, mkS_no0 (by simp only [decide_eq_false_iff_not]; exact Int32.not_lt.mpr hz)]
      · rw [if_neg hz, mkS_yes (by omega) (by simp only [decide_eq_true_eq]; exact Int32.not_le.mp hz)]
    · intro K
      simp only [g1_breaks_4]
      rw [hn, if_off, bitCount_eq (fun j h1 h2 => by rw [bit_mkS h2]; simp [Nat.not_lt.mpr (show n ≤ j by omega)]), bnd_s, hpop, h1, bnd2_s]
  · rw [h2.fld 27]; simp [bI]
theorem g3_break_eq {M : Bl} {by9 : Int32} {L : List Tr} {n : Nat} (hL : rl (M.2.1 11) (M.2.1 12) (M.2.1 13) n = L) (hn : M.2.1 1 4 = Int32.ofNat n) (h12 : n ≤ 12) (h52 : M.1 52 = 0) : ∃ M' : Bl, Fm [11, 12, 13] [4] [52] M M' ∧ M'.1 52 = Int32.ofNat (L.filter (brk by9)).length ∧ (M'.2.1 1 4 = Int32.ofNat (cR M'.2.1) ∧ cR M'.2.1 ≤ 12 ∧ rlM M'.2.1 = L.filter (fun x => !brk by9 x)) ∧ loop (g3_mileBy_90 by9) FU (M, Int32.ofNat n - 1) = bnd (f3_lands M') (fun s1 => bnd (f3_allRopes s1) (fun r2 => bnd (f3_sinking s1 r2) (fun r3 => loop (g3_mileBy_143 s1 r3) FU ((0 : Int32), (0 : Int32))))) := by
  have hlen : L.length = n := by rw [← hL]; exact rl_len
  obtain ⟨s9, ⟨k, hk, e4, i1, i2, i3⟩, hx, hG⟩ := loop_out (body := g3_mileBy_90 by9)
    (fun s => ∃ k, k ≤ n ∧ s.2 = Int32.ofNat k - 1 ∧ TD L (brk by9) k s.1 ∧ Fm [11, 12, 13] [4] [52] M s.1 ∧ s.1.1 52 = Int32.ofNat ((L.drop k).filter (brk by9)).length)
    (fun s => (s.2 + 1).toNatClampNeg) (fun s => s.2 = Int32.ofNat 0 - 1) (fun s => bnd (f3_lands s.1) (fun s1 => bnd (f3_allRopes s1) (fun r2 => bnd (f3_sinking s1 r2) (fun r3 => loop (g3_mileBy_143 s1 r3) FU ((0 : Int32), (0 : Int32)))))) (by
      rintro ⟨s, v4⟩ ⟨k, hk, e4, i1, i2, i3⟩
      dsimp only at e4 i1 i2 i3
      subst e4
      match k, hk, i1, i3 with
      | 0, _, _, _ =>
        refine Or.inl ⟨rfl, fun K => ?_⟩
        simp only [g3_mileBy_90]
        rw [zif_m1]
      | k + 1, hk, i1, i3 =>
        right
        have hat := TD_at i1 (Nat.lt_succ_self k) (by omega)
        rw [pred_s]
        have hmeas : (Int32.ofNat k - 1 + 1).toNatClampNeg < (Int32.ofNat k + 1).toNatClampNeg := by
          rw [Int32.sub_add_cancel, zI_succ, zI_nat (by omega), zI_nat (by omega)]; omega
        by_cases hb : by9 ≤ s.2.1 13 k
        · have hPf : brk by9 (s.2.1 11 k, s.2.1 12 k, s.2.1 13 k) = false := by simp only [brk, decide_eq_false_iff_not]; exact Int32.not_lt.mpr hb
          have hd : (L.drop k).filter (brk by9) = (L.drop (k + 1)).filter (brk by9) := by rw [drop_at hat, List.filter_cons, hPf]; rfl
          refine ⟨(s, Int32.ofNat k - 1), ⟨k, by omega, rfl, TD_keep i1 hat hPf, i2, by rw [hd]; exact i3⟩, hmeas, fun K => ?_⟩
          simp only [g3_mileBy_90]
          rw [zif_neg (by omega), chk_h (zI_in (by omega) (by decide)), zI_nat (by omega), if_pos hb, add_m1]
        · have hPt : brk by9 (s.2.1 11 k, s.2.1 12 k, s.2.1 13 k) = true := by simp only [brk, decide_eq_true_eq]; exact Int32.not_le.mp hb
          have hd : (L.drop k).filter (brk by9) = (s.2.1 11 k, s.2.1 12 k, s.2.1 13 k) :: (L.drop (k + 1)).filter (brk by9) := by rw [drop_at hat, List.filter_cons, hPt]; rfl
          obtain ⟨s', q1, q2, q3⟩ := TD_go i1 hat hPt
          refine ⟨(bI s' 52 (s'.1 52 + 1), Int32.ofNat k - 1), ⟨k, by omega, rfl, q2, ((i2.trans q3).trans Fm.bi).weak, ?_⟩, hmeas, fun K => ?_⟩
          · show (bI s' 52 (s'.1 52 + 1)).1 52 = _
            have e : (bI s' 52 (s'.1 52 + 1)).1 52 = s'.1 52 + 1 := by simp [bI]
            rw [e, q3.fld 52, i3, hd, zI_succ]; rfl
          · simp only [g3_mileBy_90]
            rw [zif_neg (by omega), chk_h (zI_in (by omega) (by decide)), zI_nat (by omega), if_neg hb, q1, bnd_s, add_m1])
    (s := (M, Int32.ofNat n - 1)) ⟨n, Nat.le_refl _, rfl, ⟨n, hn, h12, by rw [List.take_of_length_le (by omega), List.drop_eq_nil_of_le (by omega)]; simp [hL]⟩, (Fm.refl (M := M)).weak, by rw [List.drop_eq_nil_of_le (by omega)]; exact h52⟩ (by
      show (Int32.ofNat n - 1 + 1).toNatClampNeg < _
      rw [Int32.sub_add_cancel, zI_nat (by omega)]; omega)
  have ek : k = 0 := by
    rw [e4] at hx
    have := congrArg (fun z => z + 1) hx
    simp only [Int32.sub_add_cancel] at this
    exact (zI_inj (by omega) (by omega)).mp this
  subst ek
  exact ⟨s9.1, i2, by rw [i3, List.drop_zero], TD_end i1, hG⟩
/-! landing -/
/-- owner q lands now -/
def lndP (a : Ar) (q : Nat) : Bool := decide (a 4 q = 0) && decide (a 2 q = a 1 6)
def lst (a : Ar) (k t : Nat) : Bool := decide (a 9 t = 0) && (decide ((a 5 t).toNatClampNeg < k) && lndP a (a 5 t).toNatClampNeg)
/-- what lands with the first k owners -/
def Ls (a : Ar) (k : Nat) : Int32 := mkS (cT a) (lst a k)
theorem bit_Ls {a : Ar} {k u : Nat} (hu : u < 32) : bit (Ls a k) u = (decide (u < cT a) && lst a k u) := bit_mkS hu
theorem GV.owner {a : Ar} (g : GV a) {t : Nat} (ht : t < cT a) (h6 : cO a ≤ 6) : a 5 t = Int32.ofNat (a 5 t).toNatClampNeg ∧ (a 5 t).toNatClampNeg < cO a := by
  obtain ⟨k, hk, e⟩ := (isK_iff (by omega)).mp (g.1 t ht).2.2.2
  rw [e, zI_nat (by omega)]; exact ⟨rfl, hk⟩
theorem Ls_step {a : Ar} (g : GR a) {k : Nat} (hk : k < cO a) : Ls a (k + 1) = if lndP a k = true then Ls a k ||| sOw a (Int32.ofNat k) else Ls a k := by
  have h6 := g.1.1.2
  refine bit_ext fun u hu => ?_
  by_cases hl : lndP a k = true
  · rw [if_pos hl, bit_or, bit_Ls hu, bit_Ls hu, bit_sOw hu]
    by_cases hu2 : u < cT a
    · obtain ⟨e1, e2⟩ := g.2.2.owner hu2 h6
      unfold lst
      have e3 : decide (a 5 u = Int32.ofNat k) = decide ((a 5 u).toNatClampNeg = k) := by
        rw [decide_eq_decide, e1, zI_nat (by omega), zI_inj (by omega) (by omega)]
      rw [e3]
      generalize (a 5 u).toNatClampNeg = o
      by_cases ho : o = k
      · subst ho; simp [hl]
      · have : decide (o < k + 1) = decide (o < k) := by rw [decide_eq_decide]; omega
        simp [this, ho]
    · simp [hu2]
  · rw [if_neg hl, bit_Ls hu, bit_Ls hu]
    by_cases hu2 : u < cT a
    · unfold lst
      generalize (a 5 u).toNatClampNeg = o
      by_cases ho : o = k
      · subst ho; simp [hl]
      · have : decide (o < k + 1) = decide (o < k) := by rw [decide_eq_decide]; omega
        simp [this]
    · simp [hu2]
theorem Ls_disj {a : Ar} (g : GR a) {k u : Nat} (hk : k < cO a) (hu : u < 32) : (bit (Ls a k) u && bit (sOw a (Int32.ofNat k)) u) = false := by
  have h6 := g.1.1.2
  rw [bit_Ls hu, bit_sOw hu]
  by_cases hu2 : u < cT a
  · obtain ⟨e1, e2⟩ := g.2.2.owner hu2 h6
    unfold lst
    have e3 : decide (a 5 u = Int32.ofNat k) = decide ((a 5 u).toNatClampNeg = k) := by
      rw [decide_eq_decide, e1, zI_nat (by omega), zI_inj (by omega) (by omega)]
    rw [e3]
    generalize (a 5 u).toNatClampNeg = o
    by_cases ho : o = k
    · subst ho; simp
    · simp [ho]
  · simp [hu2]
theorem tch_or (s t : Int32) (x : Tr) : tch (s ||| t) x = (tch s x || tch t x) := by
  unfold tch; rw [bit_or, bit_or]
  cases bit s x.1.toNatClampNeg <;> cases bit t x.1.toNatClampNeg <;> cases bit s x.2.1.toNatClampNeg <;> cases bit t x.2.1.toNatClampNeg <;> rfl
theorem RA.e {a : Ar} (h : RA a) : ∀ x ∈ rlM a, eOK x := fun x hx => ⟨(RA_iff.mp h x hx).1, (RA_iff.mp h x hx).2.1⟩
/-- the flow with the first k owners landed -/
def LF (a : Ar) (F : Bl) (k : Nat) (s : Bl) : Prop := Ff [11, 16, 18, 19, 20] [4, 5, 26] F s ∧ (∀ i, i < cO a → s.2.1 11 i = if i < k ∧ lndP a i = true then 1 else a 4 i) ∧ (∀ t, t < cT a → s.2.1 16 t = if bit (Ls a k) t = true then 1 else a 9 t) ∧ (s.1 5 = Int32.ofNat ((rlM a).filter (fun x => !tch (Ls a k) x)).length ∧ rl (s.2.1 18) (s.2.1 19) (s.2.1 20) ((rlM a).filter (fun x => !tch (Ls a k) x)).length = (rlM a).filter (fun x => !tch (Ls a k) x)) ∧ s.1 4 = a 1 1 + sumL ((rlM a).filter (tch (Ls a k))) ∧ s.1 26 = Int32.ofNat (pop (Ls a k))
theorem Ls_zero {a : Ar} : Ls a 0 = 0 := by
  refine bit_ext fun u hu => ?_
  rw [bit_Ls hu, bit_zero]; simp [lst]
theorem tch_zero (x : Tr) : tch 0 x = false := by simp [tch, bit_zero]
theorem pop_zero : pop 0 = 0 := by
  rw [pop, sumN_ext 16 (n := 0) (by omega) (fun k _ _ => by rw [bit_zero]; rfl)]; rfl
theorem LF_step {a : Ar} {F s : Bl} {k : Nat} (g : GR a) (h : FR F a) (hk : k < cO a) (hs : LF a F k s) : ∃ s', LF a F (k + 1) s' ∧ ∀ K7, g1_lands_7 K7 (s, Int32.ofNat k) = K7 (s', Int32.ofNat (k + 1)) := by
  have h6 := g.1.1.2
  have h8 := g.1.2.1.2
  have h12 := g.1.2.2.1.2
  obtain ⟨hf, hp, ht, ⟨hr5, hrl⟩, h4, h26⟩ := hs
  have e1 : s.1 1 = Int32.ofNat (cO a) := (hf.fld 1).trans (h.nO g.1)
  have e2 : s.1 2 = Int32.ofNat (cT a) := (hf.fld 2).trans (h.nT g.1)
  have e6 : s.1 6 = a 1 6 := (hf.fld 6).trans h.now
  have e9 : s.2.1 9 k = a 2 k := by rw [hf.arr 9]; exact h.landing hk
  have e11 : s.2.1 11 k = a 4 k := by rw [hp k hk, if_neg (by omega)]
  have hst : ∀ (b : Bool), lndP a k = b → (if a 4 k = 0 then (if a 2 k = a 1 6 then true else false) else false) = b := by
    intro b hb
    unfold lndP at hb
    by_cases c1 : a 4 k = 0
    · by_cases c2 : a 2 k = a 1 6
      · simp [c1, c2] at hb ⊢; exact hb
      · simp [c1, c2] at hb ⊢; exact hb
    · simp [c1] at hb ⊢; exact hb
  cases hl : lndP a k with
  | false =>
    have hLs := Ls_step g hk
    rw [if_neg (by rw [hl]; decide)] at hLs
    refine ⟨s, ⟨hf, fun i hi => ?_, by rw [hLs]; exact ht, by rw [hLs]; exact ⟨hr5, hrl⟩, by rw [hLs]; exact h4, by rw [hLs]; exact h26⟩, fun K7 => ?_⟩
    · rw [hp i hi]
      by_cases e : i = k
      · subst e; rw [if_neg (fun z => by omega), if_neg (fun z => by rw [hl] at z; cases z.2)]
      · have : (i < k + 1) = (i < k) := propext ⟨fun z => by omega, fun z => by omega⟩
        simp only [this]
    · simp only [g1_lands_7]
      rw [e1, if_on hk (by omega), chk_h (zI_in (by omega) (by decide)), chk_h (zI_in (by omega) (by decide)), zI_nat (by omega), e11, e9, e6, zI_succ]
      unfold lndP at hl
      by_cases c1 : a 4 k = 0
      · rw [if_pos c1, if_neg (fun z => by simp [c1, z] at hl)]
      · rw [if_neg c1]
  | true =>
    have hLs := Ls_step g hk
    rw [if_pos hl] at hLs
    have hdis := fun u hu => Ls_disj g hk (u := u) hu
    have hown : mkS (cT a) (fun t => decide (s.2.1 12 t = Int32.ofNat k) && decide (s.2.1 16 t = 0)) = sOw a (Int32.ofNat k) := by
      refine mkS_congr fun t htt => ?_
      rw [hf.arr 12, h.owner htt, ht t htt]
      have hd := hdis t (by omega)
      rw [bit_sOw (by omega)] at hd
      by_cases hb : bit (Ls a k) t = true
      · rw [hb] at hd
        rw [if_pos hb]
        simp only [Bool.true_and] at hd
        simp only [htt, decide_true, Bool.true_and] at hd
        rw [hd]; simp
      · rw [if_neg hb]
    have hpo : pop (sOw a (Int32.ofNat k)) ≤ 16 := pop_le _
    have hpl : pop (Ls a k) ≤ 16 := pop_le _
    -- the state ahead of the things
    have e0 : ∀ t, t < cT a → (if t < 0 ∧ bit (sOw a (Int32.ofNat k)) t = true then (1 : Int32) else s.2.1 16 t) = s.2.1 16 t := fun t _ => if_neg (by omega)
    obtain ⟨F', q1, q2, q3, q4⟩ := f1_loses_P (F := bS (bI (bA s 11 k 1) 26 (Int32.ofNat (pop (Ls a k) + pop (sOw a (Int32.ofNat k))))) 16 (fun j => if j < cT a ∧ bit (sOw a (Int32.ofNat k)) j = true then 1 else s.2.1 16 j)) (P := tch (sOw a (Int32.ofNat k))) (S := mkS ((rlM a).filter (fun x => !tch (Ls a k) x)).length (fun r => tch (sOw a (Int32.ofNat k)) (s.2.1 18 r, s.2.1 19 r, s.2.1 20 r))) (n := ((rlM a).filter (fun x => !tch (Ls a k) x)).length) hr5 (Nat.le_trans (List.length_filter_le _ _) (by rw [rlM_len]; exact h12)) (fun j hj => by
      have : j < 32 := by have := Nat.le_trans (List.length_filter_le (fun x => !tch (Ls a k) x) (rlM a)) (by rw [rlM_len]; exact h12); omega
      rw [bit_mkS this]; simp only [hj, decide_true, Bool.true_and]; rfl)
    have hrl' : rl ((bS (bI (bA s 11 k 1) 26 (Int32.ofNat (pop (Ls a k) + pop (sOw a (Int32.ofNat k))))) 16 (fun j => if j < cT a ∧ bit (sOw a (Int32.ofNat k)) j = true then 1 else s.2.1 16 j)).2.1 18) ((bS (bI (bA s 11 k 1) 26 (Int32.ofNat (pop (Ls a k) + pop (sOw a (Int32.ofNat k))))) 16 (fun j => if j < cT a ∧ bit (sOw a (Int32.ofNat k)) j = true then 1 else s.2.1 16 j)).2.1 19) ((bS (bI (bA s 11 k 1) 26 (Int32.ofNat (pop (Ls a k) + pop (sOw a (Int32.ofNat k))))) 16 (fun j => if j < cT a ∧ bit (sOw a (Int32.ofNat k)) j = true then 1 else s.2.1 16 j)).2.1 20) ((rlM a).filter (fun x => !tch (Ls a k) x)).length = (rlM a).filter (fun x => !tch (Ls a k) x) := hrl
    rw [hrl', filter_two] at q3 q4
    rw [hrl'] at q1
    have hfil : (fun x => !(tch (Ls a k) x || tch (sOw a (Int32.ofNat k)) x)) = fun x => !tch (Ls a (k + 1)) x := by funext x; rw [hLs, tch_or]
    rw [hfil] at q3 q4
    refine ⟨bI F' 4 (s.1 4 + sumL (((rlM a).filter (fun x => !tch (Ls a k) x)).filter (tch (sOw a (Int32.ofNat k))))), ⟨?_, fun i hi => ?_, fun t htt => ?_, ⟨q3, q4⟩, ?_, ?_⟩, fun K7 => ?_⟩
    · exact ((((hf.trans Ff.ba).trans Ff.bi).trans Ff.bs).trans (q2.trans Ff.bi)).weak
    · show F'.2.1 11 i = _
      rw [q2.arr 11]
      show (bA s 11 k 1).2.1 11 i = _
      by_cases e : i = k
      · subst e; rw [if_pos ⟨by omega, hl⟩]; simp [bA, bS, upd]
      · have : (i < k + 1) = (i < k) := propext ⟨fun z => by omega, fun z => by omega⟩
        simp only [this]; rw [← hp i hi]; simp [bA, bS, upd, e]
    · show F'.2.1 16 t = _
      rw [q2.arr 16]
      show (if t < cT a ∧ bit (sOw a (Int32.ofNat k)) t = true then (1 : Int32) else s.2.1 16 t) = _
      rw [hLs, bit_or, ht t htt]
      cases hb1 : bit (sOw a (Int32.ofNat k)) t with
      | true => rw [if_pos ⟨htt, rfl⟩, if_pos (by simp)]
      | false => rw [if_neg (fun z => by cases z.2), Bool.or_false]
    · show (bI F' 4 _).1 4 = _
      have e : (bI F' 4 (s.1 4 + sumL (((rlM a).filter (fun x => !tch (Ls a k) x)).filter (tch (sOw a (Int32.ofNat k)))))).1 4 = s.1 4 + sumL (((rlM a).filter (fun x => !tch (Ls a k) x)).filter (tch (sOw a (Int32.ofNat k)))) := by simp [bI]
      rw [e, h4, Int32.add_assoc, sumL_two]
      congr 2
      refine List.filter_congr fun x _ => ?_
      rw [hLs, tch_or]
    · show (bI F' 4 _).1 26 = _
      have e : (bI F' 4 (s.1 4 + sumL (((rlM a).filter (fun x => !tch (Ls a k) x)).filter (tch (sOw a (Int32.ofNat k)))))).1 26 = F'.1 26 := rfl
      rw [e, q2.fld 26, hLs, pop_disj (fun u hu => hdis u (by omega))]
      simp [bS, bI]
    · simp only [g1_lands_7]
      unfold lndP at hl
      have c1 : a 4 k = 0 := by simp at hl; exact hl.1
      have c2 : a 2 k = a 1 6 := by simp at hl; exact hl.2
      rw [e1, if_on hk (by omega), chk_h (zI_in (by omega) (by decide)), chk_h (zI_in (by omega) (by decide)), zI_nat (by omega), e11, e9, e6, if_pos c1, if_pos c2, f1_ownOf_raw e2 h8, bnd_s, chk_h (zI_in (by omega) (by decide)), hown, bitCount_eq (fun j g1 g2 => by rw [bit_sOw g2]; simp [Nat.not_lt.mpr (show cT a ≤ j by omega)]), bnd_s]
      have e26 : (bA s 11 k 1).1 26 = Int32.ofNat (pop (Ls a k)) := h26
      rw [e26, ← Int32.ofNat_add]
      have es0 : bS (bI (bA s 11 k 1) 26 (Int32.ofNat (pop (Ls a k) + pop (sOw a (Int32.ofNat k))))) 16 (fun j => if j < 0 ∧ bit (sOw a (Int32.ofNat k)) j = true then 1 else s.2.1 16 j) = bI (bA s 11 k 1) 26 (Int32.ofNat (pop (Ls a k) + pop (sOw a (Int32.ofNat k)))) := by
        have : (fun j => if j < 0 ∧ bit (sOw a (Int32.ofNat k)) j = true then 1 else s.2.1 16 j) = (bI (bA s 11 k 1) 26 (Int32.ofNat (pop (Ls a k) + pop (sOw a (Int32.ofNat k))))).2.1 16 := by funext j; simp [bI, bA, bS]
        rw [this, bS_self]
      refine Eq.trans ?_ (loop_seq (body := g1_lands_68 (Int32.ofNat k) (sOw a (Int32.ofNat k)) K7) (fun j => (bS (bI (bA s 11 k 1) 26 (Int32.ofNat (pop (Ls a k) + pop (sOw a (Int32.ofNat k))))) 16 (fun i => if i < j ∧ bit (sOw a (Int32.ofNat k)) i = true then 1 else s.2.1 16 i), Int32.ofNat j)) (cT a) (by omega) ?_ ?_)
      · (try dsimp only); rw [es0]; rfl
      · intro K j hj
        simp only [g1_lands_68]
        have e2' : (bS (bI (bA s 11 k 1) 26 (Int32.ofNat (pop (Ls a k) + pop (sOw a (Int32.ofNat k))))) 16 (fun i => if i < j ∧ bit (sOw a (Int32.ofNat k)) i = true then 1 else s.2.1 16 i)).1 2 = Int32.ofNat (cT a) := e2
        rw [e2', if_on hj (by omega), has_bit0 (by omega), bnd_s, if_bit, chk_h (zI_in (by omega) (by decide)), zI_nat (by omega), zI_succ]
        cases hb : bit (sOw a (Int32.ofNat k)) j with
        | false =>
          rw [if_neg (by decide)]
          congr 3
          funext i
          by_cases e : i = j
          · subst e; simp [hb]
          · have : (i < j + 1) = (i < j) := propext ⟨fun z => by omega, fun z => by omega⟩
            simp [this]
        | true =>
          rw [if_pos rfl, bA, bS_bS]
          congr 3
          funext i
          simp only [upd]
          by_cases e : i = j
          · subst e; simp [hb]
          · have : (i < j + 1) = (i < j) := propext ⟨fun z => by omega, fun z => by omega⟩
            simp [this, e, bS]
      · intro K
        simp only [g1_lands_68]
        have e2' : (bS (bI (bA s 11 k 1) 26 (Int32.ofNat (pop (Ls a k) + pop (sOw a (Int32.ofNat k))))) 16 (fun i => if i < cT a ∧ bit (sOw a (Int32.ofNat k)) i = true then 1 else s.2.1 16 i)).1 2 = Int32.ofNat (cT a) := e2
        have hln : ((rlM a).filter (fun x => !tch (Ls a k) x)).length ≤ 12 := Nat.le_trans (List.length_filter_le _ _) (by rw [rlM_len]; exact h12)
        rw [e2', if_off, f1_ropesAt_raw (F := bS (bI (bA s 11 k 1) 26 (Int32.ofNat (pop (Ls a k) + pop (sOw a (Int32.ofNat k))))) 16 (fun i => if i < cT a ∧ bit (sOw a (Int32.ofNat k)) i = true then 1 else s.2.1 16 i)) (n := ((rlM a).filter (fun x => !tch (Ls a k) x)).length) hr5 hln (fun x hx => by
          have hx2 : x ∈ (rlM a).filter (fun x => !tch (Ls a k) x) := by rw [← hrl]; exact hx
          exact g.2.1.e x (List.mem_filter.mp hx2).1), bnd_s]
        have q1' := q1
        change f1_loses (bS (bI (bA s 11 k 1) 26 (Int32.ofNat (pop (Ls a k) + pop (sOw a (Int32.ofNat k))))) 16 (fun j => if j < cT a ∧ bit (sOw a (Int32.ofNat k)) j = true then 1 else s.2.1 16 j)) (mkS ((rlM a).filter (fun x => !tch (Ls a k) x)).length (fun r => tch (sOw a (Int32.ofNat k)) (s.2.1 18 r, s.2.1 19 r, s.2.1 20 r))) = _ at q1'
        have e18 : (fun r => tch (sOw a (Int32.ofNat k)) ((bS (bI (bA s 11 k 1) 26 (Int32.ofNat (pop (Ls a k) + pop (sOw a (Int32.ofNat k))))) 16 (fun i => if i < cT a ∧ bit (sOw a (Int32.ofNat k)) i = true then 1 else s.2.1 16 i)).2.1 18 r, (bS (bI (bA s 11 k 1) 26 (Int32.ofNat (pop (Ls a k) + pop (sOw a (Int32.ofNat k))))) 16 (fun i => if i < cT a ∧ bit (sOw a (Int32.ofNat k)) i = true then 1 else s.2.1 16 i)).2.1 19 r, (bS (bI (bA s 11 k 1) 26 (Int32.ofNat (pop (Ls a k) + pop (sOw a (Int32.ofNat k))))) 16 (fun i => if i < cT a ∧ bit (sOw a (Int32.ofNat k)) i = true then 1 else s.2.1 16 i)).2.1 20 r)) = fun r => tch (sOw a (Int32.ofNat k)) (s.2.1 18 r, s.2.1 19 r, s.2.1 20 r) := rfl
        rw [e18, q1', bnd2_s, zI_succ]
        rfl
theorem f1_lands_eq {a : Ar} {F : Bl} (g : GR a) (h : FR F a) : ∃ F', f1_lands F = some F' ∧ LF a F (cO a) F' := by
  have h6 := g.1.1.2
  unfold f1_lands
  have h0 : LF a F 0 (bI F 26 0) := by
    refine ⟨(Ff.bi (M := F)).weak, fun i hi => ?_, fun t ht => ?_, ⟨?_, ?_⟩, ?_, ?_⟩
    · rw [if_neg (by omega)]; exact h.place hi
    · rw [Ls_zero, bit_zero, if_neg (by decide)]; exact h.state ht
    · have e : (rlM a).filter (fun x => !tch (Ls a 0) x) = rlM a := by
        rw [Ls_zero]; exact List.filter_eq_self.mpr fun x _ => by rw [tch_zero]; rfl
      rw [e, rlM_len]; exact h.nR g.1
    · have e : (rlM a).filter (fun x => !tch (Ls a 0) x) = rlM a := by
        rw [Ls_zero]; exact List.filter_eq_self.mpr fun x _ => by rw [tch_zero]; rfl
      rw [e, rlM_len]; exact h.rls
    · have e : (rlM a).filter (tch (Ls a 0)) = [] := by
        rw [Ls_zero]; exact List.filter_eq_nil_iff.mpr fun x _ => by rw [tch_zero]; decide
      rw [e]; show F.1 4 = a 1 1 + 0; rw [Int32.add_zero]; exact h.store
    · rw [Ls_zero, pop_zero]; simp [bI]
  obtain ⟨s9, ⟨k, hk, e1, i1⟩, hx, hG⟩ := loop_out (body := g1_lands_7)
    (fun s => ∃ k, k ≤ cO a ∧ s.2 = Int32.ofNat k ∧ LF a F k s.1) (fun s => cO a - s.2.toNatClampNeg) (fun s => s.2 = Int32.ofNat (cO a)) (fun s => some s.1) (by
      rintro ⟨s, v⟩ ⟨k, hk, e1, i1⟩
      dsimp only at e1 i1
      subst e1
      by_cases hkn : k = cO a
      · subst hkn
        refine Or.inl ⟨rfl, fun K => ?_⟩
        simp only [g1_lands_7]
        have e1 : s.1 1 = Int32.ofNat (cO a) := (i1.1.fld 1).trans (h.nO g.1)
        rw [e1, if_off]
      · obtain ⟨s', g1, g2⟩ := LF_step g h (by omega) i1
        refine Or.inr ⟨(s', Int32.ofNat (k + 1)), ⟨k + 1, by omega, rfl, g1⟩, ?_, g2⟩
        show cO a - (Int32.ofNat (k + 1)).toNatClampNeg < cO a - (Int32.ofNat k).toNatClampNeg
        rw [zI_nat (by omega), zI_nat (by omega)]; omega)
    (s := (bI F 26 0, (0 : Int32))) ⟨0, by omega, rfl, h0⟩ (by omega)
  have ek : k = cO a := by rw [e1] at hx; exact (zI_inj (by omega) (by omega)).mp hx
  subst ek
  exact ⟨s9.1, hG, i1⟩

/-! PLAIN LAW: cut, saw, push -/
set_option maxRecDepth 100000
/-- one rope goes -/
theorem klF_one {f g h : Nat → Int32} {S : Int32} {k : Nat} : ∀ n, (∀ r, r < n → bit S r = decide (r = k)) → klF (fun i => (f i, g i, h i)) S n = (rl f g h n).take k ++ (rl f g h n).drop (k + 1) ∧ klR (fun i => (f i, g i, h i)) S n = if k < n then [(f k, g k, h k)] else []
  | 0, _ => by
    refine ⟨by simp [klF, rl], ?_⟩
    rw [if_neg (by omega)]; rfl
  | n + 1, hh => by
    have ih := klF_one (f := f) (g := g) (h := h) n (fun r hr => hh r (by omega))
    have h1 := hh n (by omega)
    unfold klF klR
    rw [rl_succ, ih.1, ih.2, h1]
    have hl : (rl f g h n).length = n := rl_len
    rcases Nat.lt_trichotomy n k with hc | hc | hc
    · rw [if_neg (by simp; omega), if_neg (by simp; omega), if_neg (by omega), if_neg (by omega), List.take_of_length_le (by omega), List.drop_eq_nil_of_le (by omega), List.take_of_length_le (by rw [List.length_append, hl]; simp; omega), List.drop_eq_nil_of_le (by rw [List.length_append, hl]; simp; omega)]
      simp
    · subst hc
      rw [if_pos (by simp), if_pos (by simp), if_neg (by omega), if_pos (by omega), List.take_of_length_le (by omega), List.drop_eq_nil_of_le (by omega), List.take_append_of_le_length (by omega), List.drop_eq_nil_of_le (by rw [List.length_append, hl]; simp), List.take_of_length_le (by omega)]
      simp
    · rw [if_neg (by simp; omega), if_neg (by simp; omega), if_pos (by omega), if_pos (by omega), List.take_append_of_le_length (by omega), List.drop_append_of_le_length (by omega), List.append_assoc]
      simp
section C
variable {x : Nat → Bl} {M : Bl} {v v1 v2 v3 : Int32}
theorem cut_sim (h : RL x M) : Sim x M (f0_cut x v1) (f3_cut M v1) := by
  have hV := h.1
  unfold f0_cut f3_cut
  rw [f0_isRope_eq hV, f3_isRope_eq hV.gc]
  simp only [bnd_s, if_bit]
  cases hk : isK (cR M.2.1) v1 with
  | false => exact Sim.same h _
  | true =>
    obtain ⟨hz, hv⟩ := hV.of_K (Or.inr (Or.inr rfl)) hk
    have hcf : decide (¬ (x 0).1 0 = 0) = true := decide_eq_true hz
    obtain ⟨hR, h12⟩ := hv.2.1.1.2.2.1
    obtain ⟨k, hk2, rfl⟩ := (isK_iff (by omega)).mp hk
    obtain ⟨F1, M1, k1, k2, k3, k4, k5⟩ := kept_sim hz hv
    have hag := AG.keep k4
    have hR1 : M1.2.1 1 4 = Int32.ofNat (cR M.2.1) := by rw [hag.1 4 (by omega)]; exact hR
    have hF5 : F1.1 5 = Int32.ofNat (cR M.2.1) := by rw [k3.fld 5]; exact hv.1.nR hv.2.1.1
    have hcR1 : cR M1.2.1 = cR M.2.1 := hag.eR
    have hrl1 : rl (F1.2.1 18) (F1.2.1 19) (F1.2.1 20) (cR M.2.1) = rl (M1.2.1 11) (M1.2.1 12) (M1.2.1 13) (cR M.2.1) := by rw [← hcR1]; exact k5.1.rls
    have hstr : F1.2.1 20 k = M1.2.1 13 k := k5.1.strength (by omega)
    have hok1 := RA_iff.mp k5.2.1.2.1
    have hown := fun t ht => RVa.own k5 (i := t) ht
    have hT1 : cT M1.2.1 = cT M.2.1 := hag.eT
    have hin : inB (Int32.ofNat k) 12 = true := zI_in (by omega) (by decide)
    have hkk : (Int32.ofNat k).toNatClampNeg = k := zI_nat (by omega)
    generalize hn : cR M.2.1 = n at *
    obtain ⟨F2, l1, ⟨l2, l3⟩, l4, l5, l6⟩ := f1_loses_eq (S := (1 : Int32) <<< (Int32.ofNat k &&& 31)) hF5 h12
    have hone := klF_one (f := F1.2.1 18) (g := F1.2.1 19) (h := F1.2.1 20) (S := (1 : Int32) <<< (Int32.ofNat k &&& 31)) (k := k) n (fun r hr => bit_shl (by omega) (by omega))
    rw [hone.1] at l2 l6
    rw [hone.2, if_pos hk2] at l1
    have hlen : ((rl (F1.2.1 18) (F1.2.1 19) (F1.2.1 20) n).take k ++ (rl (F1.2.1 18) (F1.2.1 19) (F1.2.1 20) n).drop (k + 1)).length = n - 1 := by
      rw [List.length_append, List.length_take, List.length_drop, rl_len]; omega
    rw [hlen] at l2 l6
    have kf2 : Ff [18, 19, 20] [5] F1 F2 := ⟨fun f hf => l3 f (fun z => hf (by rw [z]; exact List.mem_cons_self)), fun f hf => by
      simp only [List.mem_cons, List.not_mem_nil, or_false, not_or] at hf
      exact l4 f hf.1 hf.2.1 hf.2.2, l5⟩
    have hst : M1.2.1 1 1 = F1.1 4 := k5.1.store.symm
    have hMs : (bA M1 1 1 (M1.2.1 1 1 + M1.2.1 13 k)).2.1 1 4 = Int32.ofNat n := by rw [← hR1]; simp [bA, bS, upd]
    have hgo := f3_ropeGoes_eq (M := bA M1 1 1 (M1.2.1 1 1 + M1.2.1 13 k)) hMs h12 hk2
    have hrg := rg_rl (M := bA M1 1 1 (M1.2.1 1 1 + M1.2.1 13 k)) hk2
    have hfm : Fm [5, 11, 12, 13] [1, 4] [] M1 (rg (bA M1 1 1 (M1.2.1 1 1 + M1.2.1 13 k)) k n) := (Fm.ba1.trans rg_frame).weak
    have hs1 : (rg (bA M1 1 1 (M1.2.1 1 1 + M1.2.1 13 k)) k n).2.1 1 1 = M1.2.1 1 1 + M1.2.1 13 k := by
      rw [(rg_frame (M := bA M1 1 1 (M1.2.1 1 1 + M1.2.1 13 k)) (k := k) (n := n)).sc 1]; simp [bA, bS, upd]
    have hn4 : (rg (bA M1 1 1 (M1.2.1 1 1 + M1.2.1 13 k)) k n).2.1 1 4 = Int32.ofNat (n - 1) := rg_n
    have h5 : (rg (bA M1 1 1 (M1.2.1 1 1 + M1.2.1 13 k)) k n).2.1 5 = M1.2.1 5 := by
      rw [(rg_frame (M := bA M1 1 1 (M1.2.1 1 1 + M1.2.1 13 k)) (k := k) (n := n)).arr 5]; simp [bA, bS]
    have er : rl ((bA M1 1 1 (M1.2.1 1 1 + M1.2.1 13 k)).2.1 11) ((bA M1 1 1 (M1.2.1 1 1 + M1.2.1 13 k)).2.1 12) ((bA M1 1 1 (M1.2.1 1 1 + M1.2.1 13 k)).2.1 13) n = rl (M1.2.1 11) (M1.2.1 12) (M1.2.1 13) n := by simp [bA, bS]
    rw [er] at hrg
    rw [k1, k2]
    simp only [bnd_s, upX_upX, upX_10, upX_self, hcf, hin, hkk, chk_t, if_true, l1, bnd2_s, hgo]
    generalize rg (bA M1 1 1 (M1.2.1 1 1 + M1.2.1 13 k)) k n = M2 at hrg hfm hs1 hn4 h5 ⊢
    have kf : Ff [12, 18, 19, 20] [4, 5] F1 (bI F2 4 (F1.1 4 + sumL [(F1.2.1 18 k, F1.2.1 19 k, F1.2.1 20 k)])) := (kf2.trans Ff.bi).weak
    have f4 : (bI F2 4 (F1.1 4 + sumL [(F1.2.1 18 k, F1.2.1 19 k, F1.2.1 20 k)])).1 4 = M2.2.1 1 1 := by
      rw [bI_v, hs1, hst, ← hstr]; simp [sumL]
    have f5 : (bI F2 4 (F1.1 4 + sumL [(F1.2.1 18 k, F1.2.1 19 k, F1.2.1 20 k)])).1 5 = Int32.ofNat (n - 1) := by rw [← l2]; simp [bI]
    have f12 : (bI F2 4 (F1.1 4 + sumL [(F1.2.1 18 k, F1.2.1 19 k, F1.2.1 20 k)])).2.1 12 = F1.2.1 12 := kf2.arr 12
    have fr : rl ((bI F2 4 (F1.1 4 + sumL [(F1.2.1 18 k, F1.2.1 19 k, F1.2.1 20 k)])).2.1 18) ((bI F2 4 (F1.1 4 + sumL [(F1.2.1 18 k, F1.2.1 19 k, F1.2.1 20 k)])).2.1 19) ((bI F2 4 (F1.1 4 + sumL [(F1.2.1 18 k, F1.2.1 19 k, F1.2.1 20 k)])).2.1 20) (n - 1) = (rl (M1.2.1 11) (M1.2.1 12) (M1.2.1 13) n).take k ++ (rl (M1.2.1 11) (M1.2.1 12) (M1.2.1 13) n).drop (k + 1) := by rw [← hrl1]; exact l6
    generalize bI F2 4 (F1.1 4 + sumL [(F1.2.1 18 k, F1.2.1 19 k, F1.2.1 20 k)]) = F3 at kf f4 f5 f12 fr ⊢
    have hc2 : cR M2.2.1 = n - 1 := by unfold cR; rw [hn4, zI_nat (by omega)]
    rw [f4]
    refine Sim.flow h hz ?_ ((Km.kept k4).trans (Km.of hfm))
    rw [hfm.fld 55]
    refine k5.act kf hfm f4 (by rw [hc2]; exact ⟨f5, hn4⟩) (by omega) ?_ ?_ (fun t ht => by rw [f12, h5]; exact hown t ht)
    · unfold rlM; rw [hc2, fr, hrg]
    · unfold rlM; rw [hc2, hrg]
      intro y hy
      refine hok1 y ?_
      unfold rlM; rw [hcR1]
      rcases List.mem_append.mp hy with hy | hy
      · exact List.mem_of_mem_take hy
      · exact List.mem_of_mem_drop hy
theorem saw_sim (h : RL x M) : Sim x M (f0_saw x v1) (f3_saw M v1) := by
  have hV := h.1
  unfold f0_saw f3_saw
  rw [f0_isAfloat_eq hV, f3_isAfloat_eq hV.gc]
  simp only [bnd_s, if_bit]
  cases hk : isAf M.2.1 v1 with
  | false => exact Sim.same h _
  | true =>
    obtain ⟨hz, hv⟩ := hV.of_K (Or.inl rfl) (isAf_K hk)
    have hcf : decide (¬ (x 0).1 0 = 0) = true := decide_eq_true hz
    have h8 := hv.2.1.1.2.1.2
    obtain ⟨k, hk2, rfl⟩ := (isK_iff (by omega)).mp (isAf_K hk)
    obtain ⟨F1, M1, k1, k2, k3, k4, k5⟩ := kept_sim hz hv
    obtain ⟨hR, h12⟩ := k5.2.1.1.2.2.1
    have hF5 : F1.1 5 = Int32.ofNat (cR M1.2.1) := k5.1.nR k5.2.1.1
    have hrl1 := k5.1.rls
    have hok1 := RA_iff.mp k5.2.1.2.1
    have hown := fun t ht => RVa.own k5 (i := t) ht
    obtain ⟨M2, r1, r2, ⟨r3, r4, r5⟩, r6⟩ := f3_ropesGoOf_eq (S := (1 : Int32) <<< (Int32.ofNat k &&& 31)) (fl := 0) k5.2.1.1 k5.2.1.2.1.1
    have hat := f1_ropesAt_raw (S := (1 : Int32) <<< (Int32.ofNat k &&& 31)) hF5 h12 (by
      rw [hrl1]; intro y hy; have := hok1 y hy; exact ⟨this.1, this.2.1⟩)
    have hbits : ∀ r, r < cR M1.2.1 → bit (mkS (cR M1.2.1) (fun r => tch ((1 : Int32) <<< (Int32.ofNat k &&& 31)) (F1.2.1 18 r, F1.2.1 19 r, F1.2.1 20 r))) r = tch ((1 : Int32) <<< (Int32.ofNat k &&& 31)) (F1.2.1 18 r, F1.2.1 19 r, F1.2.1 20 r) := fun r hr => by
      rw [bit_mkS (by omega)]; simp [hr]
    obtain ⟨F2, l1, l2, l3, l4⟩ := f1_loses_P (P := tch ((1 : Int32) <<< (Int32.ofNat k &&& 31))) hF5 h12 hbits
    have hbc := bitCount_eq (s := mkS (cR M1.2.1) (fun r => tch ((1 : Int32) <<< (Int32.ofNat k &&& 31)) (F1.2.1 18 r, F1.2.1 19 r, F1.2.1 20 r))) (fun r h1 h2 => by rw [bit_mkS (by omega)]; simp; intro; omega)
    rw [pop_mkS (by omega), pop_filter, hrl1] at hbc
    rw [hrl1] at l1 l3 l4
    rw [k1, k2]
    simp only [bnd_s, upX_upX, upX_10, upX_self, hcf, chk_t, if_true, hat, l1, bnd2_s, hbc, r1]
    have hc2 : cR M2.2.1 = ((rlM M1.2.1).filter (fun x => !tch ((1 : Int32) <<< (Int32.ofNat k &&& 31)) x)).length := by
      rw [← r5, rlM_len]
    refine Sim.flow h hz ?_ ((Km.kept k4).trans (Km.of r2))
    rw [r2.fld 55]
    refine k5.act l2.weak r2.weak ?_ ⟨by rw [l3, hc2], r3⟩ r4 ?_ ?_ (fun t ht => by rw [l2.arr 12, r2.arr 5]; exact hown t ht)
    · rw [r6, if_pos rfl, l2.fld 4]; exact k5.1.store
    · rw [hc2, l4, r5]
    · rw [r5]; intro y hy; exact hok1 y (List.mem_filter.mp hy).1
theorem push_sim (h : RL x M) : Sim x M (f0_push x v1 v2) (f3_push M v1 v2) := by
  have hV := h.1
  unfold f0_push f3_push
  rw [f0_isAfloat_eq hV, f3_isAfloat_eq hV.gc, f0_isOwner_eq hV, f3_isOwner_eq hV.gc]
  simp only [bnd_s, if_bit]
  cases hk : isAf M.2.1 v1 with
  | false => exact Sim.same h _
  | true =>
    cases hq : isK (cO M.2.1) v2 with
    | false => exact Sim.same h _
    | true =>
      obtain ⟨hz, hv⟩ := hV.of_K (Or.inl rfl) (isAf_K hk)
      have hcf : decide (¬ (x 0).1 0 = 0) = true := decide_eq_true hz
      have h8 := hv.2.1.1.2.1.2
      obtain ⟨k, hk2, rfl⟩ := (isK_iff (by omega)).mp (isAf_K hk)
      have hin : inB (Int32.ofNat k) 8 = true := zI_in (by omega) (by decide)
      have hkk : (Int32.ofNat k).toNatClampNeg = k := zI_nat (by omega)
      simp only [if_true, hin, hkk, hcf, chk_t, hv.1.owner hk2]
      by_cases he : M.2.1 5 k = v2
      · rw [if_pos he, if_pos he]; exact Sim.same h _
      · rw [if_neg he, if_neg he]
        obtain ⟨F1, M1, k1, k2, k3, k4, k5⟩ := kept_sim hz hv
        have hag := AG.keep k4
        have hown := fun t ht => RVa.own k5 (i := t) ht
        have hk3 : k < cT M1.2.1 := by rw [hag.eT]; exact hk2
        have hq1 : isK (cO M1.2.1) v2 = true := by rw [hag.eO]; exact hq
        have kf : Ff [12, 18, 19, 20] [4, 5] F1 (bA F1 12 k v2) := Ff.ba.weak
        have km : Fm [5, 11, 12, 13] [1, 4] [] M1 (bA M1 5 k v2) := (Fm.ba (by decide)).weak
        have e12 : (bA F1 12 k v2).2.1 12 = upd (F1.2.1 12) k v2 := by simp [bA, bS]
        have e5 : (bA M1 5 k v2).2.1 5 = upd (M1.2.1 5) k v2 := by simp [bA, bS]
        have em : ∀ j, j ≠ 5 → (bA M1 5 k v2).2.1 j = M1.2.1 j := fun j hj => by simp [bA, bS, hj]
        have ef : ∀ j, j ≠ 12 → (bA F1 12 k v2).2.1 j = F1.2.1 j := fun j hj => by simp [bA, bS, hj]
        have hcR : cR (bA M1 5 k v2).2.1 = cR M1.2.1 := by unfold cR; rw [em 1 (by decide)]
        have hrlM : rlM (bA M1 5 k v2).2.1 = rlM M1.2.1 := by unfold rlM; rw [hcR, em 11 (by decide), em 12 (by decide), em 13 (by decide)]
        rw [k1, k2]
        simp only [bnd_s, upX_upX, upX_10, upX_self, hcf, chk_t, k5.1.owner hk3]
        refine Sim.flow h hz ?_ ((Km.kept k4).trans (Km.of km))
        rw [km.fld 55]
        refine k5.act kf km ?_ ?_ ?_ ?_ ?_ (fun t ht => ?_)
        · rw [em 1 (by decide)]; exact k5.1.store
        · rw [hcR, em 1 (by decide)]; exact ⟨k5.1.nR k5.2.1.1, k5.2.1.1.2.2.1.1⟩
        · rw [hcR]; exact k5.2.1.1.2.2.1.2
        · rw [hcR, hrlM, ef 18 (by decide), ef 19 (by decide), ef 20 (by decide)]; exact k5.1.rls
        · rw [hrlM]; exact RA_iff.mp k5.2.1.2.1
        · rw [e12, e5]
          unfold upd
          by_cases ht2 : t = k
          · rw [if_pos ht2, if_pos ht2]; exact ⟨rfl, hq1⟩
          · rw [if_neg ht2, if_neg ht2]; exact hown t ht
end C

/-! PLAIN LAW: locks answer alike -/
set_option maxRecDepth 100000
theorem wlL_mem {w : Nat → Int32} {p : Nat → Bool} {v : Int32} : ∀ (d t : Nat), v ∈ wlL w p d t ↔ ∃ u, t ≤ u ∧ u < t + d ∧ p u = true ∧ v = w u
  | 0, t => ⟨fun h => (by cases h), fun ⟨u, h1, h2, _⟩ => absurd h2 (by omega)⟩
  | d + 1, t => by
    have ih := wlL_mem (w := w) (p := p) (v := v) d (t + 1)
    unfold wlL
    by_cases c : p t = true
    · rw [if_pos c, List.mem_cons, ih]
      constructor
      · rintro (h | ⟨u, h1, h2, h3⟩)
        · exact ⟨t, Nat.le_refl _, by omega, c, h⟩
        · exact ⟨u, by omega, by omega, h3⟩
      · rintro ⟨u, h1, h2, h3, h4⟩
        by_cases e : u = t
        · subst e; exact Or.inl h4
        · exact Or.inr ⟨u, by omega, by omega, h3, h4⟩
    · rw [if_neg c, ih]
      constructor
      · rintro ⟨u, h1, h2, h3⟩; exact ⟨u, by omega, by omega, h3⟩
      · rintro ⟨u, h1, h2, h3, h4⟩
        by_cases e : u = t
        · subst e; exact absurd h3 c
        · exact ⟨u, by omega, by omega, h3, h4⟩
theorem wlL_len {w : Nat → Int32} {p : Nat → Bool} : ∀ (d t : Nat), cntB t p + (wlL w p d t).length = cntB (t + d) p
  | 0, t => rfl
  | d + 1, t => by
    have ih := wlL_len (w := w) (p := p) d (t + 1)
    rw [cntB_s] at ih
    unfold wlL
    rw [show t + (d + 1) = t + 1 + d by omega, ← ih]
    by_cases c : p t = true
    · rw [if_pos c, if_pos c, List.length_cons]; omega
    · rw [if_neg c, if_neg c]; omega
section R
variable {x : Nat → Bl} {M s : Bl} {v v1 v2 v3 : Int32}
def pL (a : Ar) (t : Nat) : Bool := isAf a (Int32.ofNat t)
theorem pL_eq {a : Ar} (g : GC a) {t : Nat} (ht : t < cT a) : pL a t = decide (a 9 t = 0) := by
  have h8 := g.2.1.2
  unfold pL isAf
  rw [zI_nat (by omega)]
  have : isK (cT a) (Int32.ofNat t) = true := (isK_iff (by omega)).mpr ⟨t, ht, rfl⟩
  rw [this, Bool.true_and]
theorem pL_hi {a : Ar} (g : GC a) {t : Nat} (ht : cT a ≤ t) (hb : t < 2147483648) : pL a t = false := by
  have h8 := g.2.1.2
  unfold pL isAf
  cases h : isK (cT a) (Int32.ofNat t) with
  | false => rfl
  | true =>
    obtain ⟨k, hk, e⟩ := (isK_iff (by omega)).mp h
    rw [zI_inj hb (by omega)] at e
    omega
noncomputable def WlM (a : Ar) : List Int32 := wlL (a 6) (pL a) (cT a) 0
noncomputable def SlM (a : Ar) (room : Int32) : Int32 × (Nat → Nat) := goL room (WlM a) 0 (fun _ => 0) (fun _ => 0) 0 (-1, fun _ => 0)
theorem WlM_len {a : Ar} : (WlM a).length = cntB (cT a) (pL a) := by
  have := wlL_len (w := a 6) (p := pL a) (cT a) 0
  rw [Nat.zero_add] at this
  have e : cntB 0 (pL a) = 0 := rfl
  unfold WlM; omega
theorem f3_findsLocks_eq (g : GC M.2.1) {room : Int32} : ∃ s', f3_findsLocks M room = some s' ∧ (∀ f, f ≠ 66 → s'.1 f = M.1 f) ∧ (∀ f, f ≠ 63 → f ≠ 64 → f ≠ 65 → s'.2.1 f = M.2.1 f) ∧ BsM s' (cntB (cT M.2.1) (pL M.2.1)) (SlM M.2.1 room) := by
  have h8 := g.2.1.2
  have h3 := g.2.1.1
  have hn8 : cntB (cT M.2.1) (pL M.2.1) ≤ 8 := Nat.le_trans (cntB_le _) h8
  unfold f3_findsLocks
  refine loop_post (fun st : Bl × Int32 × Int32 => ∃ (t : Nat) (pre : List Nat) (h : Nat → Int32), st = (bS M 65 h, Int32.ofNat pre.length, Int32.ofNat t) ∧ t ≤ cT M.2.1 ∧ pre.map (M.2.1 6) ++ wlL (M.2.1 6) (pL M.2.1) (cT M.2.1 - t) t = WlM M.2.1 ∧ pre.length = cntB t (pL M.2.1) ∧ ∀ i, i < pre.length → h i = Int32.ofNat (pre.getD i 0) ∧ pre.getD i 0 < 8) (fun st => 100 - st.2.2.toNatClampNeg) _ ?_ ⟨0, [], M.2.1 65, by rw [bS_id]; rfl, Nat.zero_le _, rfl, rfl, fun i hi => absurd hi (Nat.not_lt_zero i)⟩ (by omega)
  rintro K st ⟨t, pre, h, rfl, ht, hwl, hlen, hh⟩ IH
  have hct := cntB_le (p := pL M.2.1) t
  have e1 : ∀ f, (bS M 65 h).2.1 1 f = M.2.1 1 f := fun f => rfl
  have e9 : ∀ f, (bS M 65 h).2.1 9 f = M.2.1 9 f := fun f => rfl
  simp only [g3_findsLocks_4]
  rw [e1, h3, zif_le (by omega) (by omega)]
  by_cases hend : cT M.2.1 ≤ t
  · have e : t = cT M.2.1 := by omega
    subst e
    rw [if_pos hend]
    rw [Nat.sub_self] at hwl
    have hwl : pre.map (M.2.1 6) = WlM M.2.1 := by
      rw [← hwl]; show _ = _ ++ []; rw [List.append_nil]
    by_cases hn0 : pre.length = 0
    · have hr : loop (g3_findsLocks_61 room (Int32.ofNat pre.length)) FU (bA (bI (bS M 65 h) 66 0) 63 0 (-1), (0 : Int32)) = some (bA (bI (bS M 65 h) 66 0) 63 0 (-1)) := by
        refine loop_seq (fun _ => (bA (bI (bS M 65 h) 66 0) 63 0 (-1), (0 : Int32))) 0 (by omega) (fun _ k hk => absurd hk (Nat.not_lt_zero k)) ?_
        intro K2
        simp only [g3_findsLocks_61]
        rw [if_neg (by decide), hn0, if_pos (by decide)]
      rw [if_pos (by rw [hn0]; rfl), hr]
      refine ⟨_, rfl, fun f hf => by simp [bI, bA, bS, hf], fun f h1 h2 h3 => by simp [bI, bA, bS, h1, h3], ?_, fun _ i hi => by omega⟩
      have ew : WlM M.2.1 = [] := by rw [← hwl, List.length_eq_zero_iff.mp hn0]; rfl
      unfold SlM
      rw [ew]
      show _ = (if prL 0 (-1, fun _ => 0) = true then _ else ((Int32.ofNat 0, fun _ => 0) : Int32 × (Nat → Nat))).1
      rw [if_neg (by decide)]
      simp [bI, bA, bS]
    · rw [if_neg (by
        intro z
        have : (Int32.ofNat pre.length = Int32.ofNat 0) = (pre.length = 0) := zI_inj (by omega) (by decide)
        have z2 : Int32.ofNat pre.length = Int32.ofNat 0 := z
        rw [this] at z2; exact hn0 z2)]
      obtain ⟨c, hc⟩ : ∃ c, pre.length = c + 1 := ⟨pre.length - 1, by omega⟩
      have hWl : (WlM M.2.1).length = pre.length := by rw [← hwl, List.length_map]
      have hgW : ∀ i, i < pre.length → (WlM M.2.1).getD i 0 = M.2.1 6 (pre.getD i 0) := fun i hi => by
        rw [← hwl, List.getD_eq_getElem?_getD, List.getElem?_map, List.getElem?_eq_getElem hi, List.getD_eq_getElem?_getD, List.getElem?_eq_getElem hi]; rfl
      obtain ⟨s', p1, p2, p3, p4⟩ := levelL_eq (M0 := bI (bS M 65 h) 66 (-1)) (Wl := WlM M.2.1) (n := pre.length) (room := room) (by omega) hWl (fun i hi => by
        have e65 : (bI (bS M 65 h) 66 (-1)).2.1 65 = h := by simp [bI, bS]
        have e6 : (bI (bS M 65 h) 66 (-1)).2.1 6 = M.2.1 6 := by simp [bI, bS]
        obtain ⟨q1, q2⟩ := hh i hi
        rw [e65, e6, q1, hgW i hi, zI_nat (by omega)]
        exact ⟨zI_in q2 (by decide), rfl⟩) c 0 (fun _ => 0) (-1, fun _ => 0) (bA (bI (bS M 65 h) 66 (-1)) 63 0 (-1)) (by omega) (Nat.le_refl _) (by decide) FrM.refl.row (fun i hi => absurd hi (Nat.not_lt_zero i)) ⟨by simp [bI, bA, bS], fun z => absurd rfl z⟩ lock_at
      have hbd : bdR c < 1000000000000000 := (by decide : ∀ c, c < 8 → bdR c < 1000000000000000) c (by omega)
      have hfin : loop (g3_findsLocks_61 room (Int32.ofNat pre.length)) FU (bA (bI (bS M 65 h) 66 (-1)) 63 0 (-1), (0 : Int32)) = some s' := p1.fin hbd (fun K => by
        simp only [g3_findsLocks_61]
        rw [if_pos (by decide)])
      rw [hfin]
      refine ⟨s', rfl, fun f hf => ?_, fun f h1 h2 h3 => ?_, ?_⟩
      · rw [p2.1 f hf]; simp [bI, bS, hf]
      · rw [p2.2.1 f h1 h2]; simp [bI, bS, h3]
      · rw [← hlen]; exact p4
  · rw [if_neg hend]
    have htn : inB (Int32.ofNat t) 8 = true := zI_in (by omega) (by decide)
    have nt : (Int32.ofNat t).toNatClampNeg = t := zI_nat (by omega)
    have hp := pL_eq g (t := t) (by omega)
    rw [chk_h htn, nt, e9, zI_succ]
    have hwd : cT M.2.1 - t = (cT M.2.1 - (t + 1)) + 1 := by omega
    rw [hwd] at hwl
    unfold wlL at hwl
    by_cases c : M.2.1 9 t = 0
    · have hpt : pL M.2.1 t = true := by rw [hp]; exact decide_eq_true c
      rw [if_pos hpt] at hwl
      have hln : inB (Int32.ofNat pre.length) 8 = true := zI_in (by omega) (by decide)
      rw [if_pos c, chk_h hln, zI_nat (by omega), zI_succ]
      refine IH _ ⟨t + 1, pre ++ [t], upd h pre.length (Int32.ofNat t), ?_, by omega, ?_, ?_, fun i hi => ?_⟩ ?_
      · rw [List.length_append]
        refine Prod.ext ?_ rfl
        dsimp only
        refine Prod.ext rfl (Prod.ext ?_ rfl)
        funext f
        by_cases cf : f = 65
        · subst cf; simp [bA, bS]
        · simp [bA, bS, cf]
      · rw [List.map_append, List.append_assoc]; exact hwl
      · rw [List.length_append, cntB_s, if_pos hpt, hlen]; rfl
      · rw [List.length_append] at hi
        have hi : i < pre.length + 1 := hi
        unfold upd
        rw [List.getD_eq_getElem?_getD]
        by_cases ci : i = pre.length
        · rw [if_pos ci, ci, List.getElem?_concat_length]; exact ⟨rfl, by show t < 8; omega⟩
        · rw [if_neg ci, List.getElem?_append_left (by omega), ← List.getD_eq_getElem?_getD]; exact hh i (by omega)
      · dsimp only; rw [zI_nat (by omega), nt]; omega
    · have hpt : ¬ pL M.2.1 t = true := by rw [hp]; exact fun z => c (of_decide_eq_true z)
      rw [if_neg hpt] at hwl
      rw [if_neg c]
      refine IH _ ⟨t + 1, pre, h, by rw [zI_succ], by omega, hwl, by rw [cntB_s, if_neg hpt]; exact hlen, hh⟩ ?_
      dsimp only; rw [zI_succ, zI_nat (by omega), nt]; omega
theorem f3_locks_fin {S : Int32 × (Nat → Nat)} {n u : Nat} (g : GC M.2.1) (hn : n = cntB (cT M.2.1) (pL M.2.1)) (e1 : s.2.1 1 = M.2.1 1) (e9 : s.2.1 9 = M.2.1 9) (hS : BsM s n S) (h0 : ¬ S.1 = -1) (hu : u < 8) : loop (g3_locks_92 s (Int32.ofNat (u + 1))) FU ((0 : Int32), (0 : Int32)) = some (if u < cT M.2.1 then lkV (pL M.2.1) S.2 u else -1, s) := by
  have h8 := g.2.1.2
  have gs : GC s.2.1 := by unfold GC cO cT cR cX cF; rw [e1]; exact g
  have ea : ∀ v, isAf s.2.1 v = isAf M.2.1 v := fun v => by unfold isAf cT; rw [e1, e9]
  have em : Int32.ofNat (u + 1) - (1 : Int32) = Int32.ofNat u := by rw [zI_pred (by omega), Nat.add_sub_cancel]
  refine loop_seq (fun t => (Int32.ofNat (cntB t (pL M.2.1)), Int32.ofNat t)) u (by omega) ?_ ?_
  · intro K t ht
    simp only [g3_locks_92]
    rw [em, if_on ht (by omega), f3_isAfloat_eq gs, ea, bnd_s, if_bit, Int32.add_zero, zI_succ, zI_succ, cntB_s]
    show (if pL M.2.1 t = true then _ else _) = _
    by_cases c : pL M.2.1 t = true
    · rw [if_pos c, if_pos c]
    · rw [if_neg c, if_neg c]; rfl
  · intro K
    simp only [g3_locks_92]
    rw [em, if_off, f3_isAfloat_eq gs, ea, bnd_s, if_bit]
    show (if pL M.2.1 u = true then _ else _) = _
    by_cases c : pL M.2.1 u = true
    · have hut : u < cT M.2.1 := by
        rcases Nat.lt_or_ge u (cT M.2.1) with h | h
        · exact h
        · rw [pL_hi g h (by omega)] at c; cases c
      have hm : cntB (u + 1) (pL M.2.1) ≤ cntB (cT M.2.1) (pL M.2.1) := cntB_mono (by omega)
      rw [cntB_s, if_pos c] at hm
      have hcu := cntB_le (p := pL M.2.1) u
      have hin : inB (Int32.ofNat (cntB u (pL M.2.1))) 8 = true := zI_in (by omega) (by decide)
      rw [if_pos c, if_pos hut, chk_h hin, zI_nat (by omega), hS.2 h0 _ (by omega)]
      unfold lkV; rw [if_pos c]
    · rw [if_neg c]
      unfold lkV; rw [if_neg c]
      split <;> rfl
theorem locks_sim (h : RL x M) : Sim x M (f0_locks x v1 v2) (f3_locks M v1 v2) := by
  unfold f0_locks f3_locks
  rcases h.1 with ⟨hz, hn⟩ | ⟨hz, hv⟩
  · rw [if_pos hz, isRiver_no hn, bnd_s]; exact Sim.same h _
  · have hcf : decide (¬ (x 0).1 0 = 0) = true := decide_eq_true hz
    have g := hv.2.1
    have h8 := g.1.2.1.2
    rw [if_neg hz, isRiver_yes g, bnd_s, if_neg (show ¬ (1 : Int32) = 0 by decide)]
    have e0 := f0_in32 v1 1 200
    have e3 := f3_in32 v1 1 200
    change f0_in v1.toInt64 (1 : Int64) (200 : Int64) = _ at e0
    change f3_in v1.toInt64 (1 : Int64) (200 : Int64) = _ at e3
    have e02 := f0_in32 v2 0 8
    have e32 := f3_in32 v2 0 8
    change f0_in v2.toInt64 (0 : Int64) (8 : Int64) = _ at e02
    change f3_in v2.toInt64 (0 : Int64) (8 : Int64) = _ at e32
    rw [e0, e3, e02, e32]
    simp only [bnd_s, if_bit]
    cases hc1 : (decide (1 ≤ v1) && decide (v1 ≤ 200)) with
    | false => exact Sim.same h _
    | true =>
      cases hc2 : (decide (0 ≤ v2) && decide (v2 ≤ 8)) with
      | false => exact Sim.same h _
      | true =>
        simp only [if_true]
        rw [Bool.and_eq_true, decide_eq_true_iff, decide_eq_true_iff] at hc2
        have ew := zI_of hc2.1
        have hw := zI_lt31 v2
        generalize v2.toNatClampNeg = u at ew hw
        subst ew
        have hu8 : u ≤ 8 := by
          have := hc2.2
          rw [show (8 : Int32) = Int32.ofNat 8 from rfl, zI_le hw (by omega)] at this; exact this
        -- the raft's search
        have hz0 : ¬ ((upX x 0 (bI (x 0) 24 (-1))) 0).1 0 = 0 := by rw [upX_self]; exact hz
        have h10 : (upX x 0 (bI (x 0) 24 (-1))) 1 = x 1 := upX_ne (by decide)
        obtain ⟨y, q1, q2, -, -, q5⟩ := tL_eq (x0 := upX x 0 (bI (x 0) 24 (-1))) (p := pL M.2.1) (w := M.2.1 6) (T := cT M.2.1) (room := v1) hz0 (by rw [h10]; exact hv.1.nT g.1) h8 (fun t ht => by rw [h10]; exact hv.1.weight ht) (fun y t hy ht => by
          have hV : RV y M := Or.inr ⟨by rw [hy.1 0 (by decide)]; exact hz0, by rw [hy.2.2 1 (by decide), h10]; exact hv⟩
          exact f0_isAfloat_eq hV) (cT M.2.1) 20 0 (fun _ => 0) (fun _ => 0) 0 (-1, fun _ => 0) (upX x 0 (bI (x 0) 24 (-1))) (by omega) (by omega) (Nat.zero_le _) (fun _ _ => rfl) FrL.refl (fun t ht => absurd ht (Nat.not_lt_zero t)) (fun t ht => absurd ht (Nat.not_lt_zero t)) ⟨by rw [upX_self]; simp [bI], fun z => absurd rfl z⟩
        change f0_triesLocks 20 _ 0 0 v1 = some y at q1
        change BsO y (pL M.2.1) (cT M.2.1) (SlM M.2.1 v1) at q5
        rw [q1]
        simp only [bnd_s]
        have kx : Kx x y := by
          refine ⟨fun f hf => ?_, fun f hf => ?_, fun j hj => ?_⟩
          · simp only [List.mem_cons, List.not_mem_nil, or_false] at hf
            rw [q2.1 f (by omega), upX_self]
            rcases hf with rfl | rfl | rfl | rfl <;> simp [bI]
          · simp only [List.mem_cons, List.not_mem_nil, or_false] at hf
            rw [q2.2.1 f (by omega) (by omega) (by omega), upX_self]; rfl
          · rw [q2.2.2 j (by intro e; subst e; revert hj; decide)]; exact upX_ne (by intro e; subst e; revert hj; decide)
        have y1 : y 1 = x 1 := by rw [q2.2.2 1 (by decide), h10]
        have hcy : decide (¬ (y 0).1 0 = 0) = true := by rw [q2.1 0 (by decide)]; exact decide_eq_true hz0
        have hmem : ∀ w, w ∈ WlM M.2.1 → ∃ t, t < cT M.2.1 ∧ pL M.2.1 t = true ∧ w = M.2.1 6 t := fun w hw => by
          obtain ⟨t, _, h2, h3, h4⟩ := (wlL_mem _ _).mp hw
          exact ⟨t, by omega, h3, h4⟩
        -- the weights' check
        have hl := fsN_le (fun t => decide (M.2.1 9 t = 0) && !decide (M.2.1 6 t ≤ v1)) (cT M.2.1)
        have hsp := fsN_spec (fun t => decide (M.2.1 9 t = 0) && !decide (M.2.1 6 t ≤ v1)) (cT M.2.1)
        have hchk : ∀ r : Option (Int32 × Bl), (∀ K : Int32 → Option (Int32 × Bl), g3_locks_35 M v1 (Int32.ofNat u) K (Int32.ofNat (fsN (fun t => decide (M.2.1 9 t = 0) && !decide (M.2.1 6 t ≤ v1)) (cT M.2.1))) = r) → loop (g3_locks_35 M v1 (Int32.ofNat u)) FU (0 : Int32) = r := by
          intro r hr
          refine loop_seq (fun t => Int32.ofNat t) _ (by omega) ?_ hr
          intro K t ht
          have htn : inB (Int32.ofNat t) 8 = true := zI_in (by omega) (by decide)
          have hb := hsp.1 t ht
          unfold g3_locks_35
          rw [g.1.2.1.1, if_on (by omega) (by omega), chk_h htn, zI_nat (by omega), zI_succ]
          by_cases c : M.2.1 9 t = 0
          · rw [decide_eq_true c, Bool.true_and, Bool.not_eq_false', decide_eq_true_iff] at hb
            rw [if_pos c, chk_h htn, if_pos hb]
          · rw [if_neg c]
        by_cases cbad : fsN (fun t => decide (M.2.1 9 t = 0) && !decide (M.2.1 6 t ≤ v1)) (cT M.2.1) < cT M.2.1
        · have hb := hsp.2 cbad
          generalize fsN (fun t => decide (M.2.1 9 t = 0) && !decide (M.2.1 6 t ≤ v1)) (cT M.2.1) = b at hchk cbad hb
          rw [Bool.and_eq_true, decide_eq_true_iff, Bool.not_eq_true', decide_eq_false_iff_not] at hb
          have hbn : inB (Int32.ofNat b) 8 = true := zI_in (by omega) (by decide)
          rw [hchk (some ((-2 : Int32), M)) (fun K => by
            unfold g3_locks_35
            rw [g.1.2.1.1, if_on cbad (by omega), chk_h hbn, zI_nat (by omega), if_pos hb.1, chk_h hbn, if_neg hb.2])]
          have hSl : SlM M.2.1 v1 = (-1, fun _ => 0) := by
            refine goL_none (WlM M.2.1) 0 _ _ 0 _ 0 ⟨M.2.1 6 b, (wlL_mem _ _).mpr ⟨b, Nat.zero_le _, by omega, by rw [pL_eq g.1 cbad]; exact decide_eq_true hb.1, rfl⟩, hb.2⟩ rfl (fun _ => ⟨Int.le_refl _, Int.le_refl _⟩) (fun w hw => ?_) ?_
            · obtain ⟨t, h1, -, rfl⟩ := hmem w hw
              exact (g.2.2.1 t h1).1
            · have := WlM_len (a := M.2.1)
              have h2 := cntB_le (p := pL M.2.1) (cT M.2.1)
              omega
          rw [q5.1, hSl, if_pos rfl]
          exact Sim.side h kx y1 (fun _ _ => rfl) (fun _ _ => rfl)
        · have eT : fsN (fun t => decide (M.2.1 9 t = 0) && !decide (M.2.1 6 t ≤ v1)) (cT M.2.1) = cT M.2.1 := by omega
          rw [eT] at hchk hsp
          have hS0 : ¬ (SlM M.2.1 v1).1 = -1 := goL_some _ _ _ _ _ _ (fun w hw => by
            obtain ⟨t, h1, h2, rfl⟩ := hmem w hw
            have hb := hsp.1 t h1
            rw [pL_eq g.1 h1] at h2
            rw [h2, Bool.true_and, Bool.not_eq_false', decide_eq_true_iff] at hb
            exact hb) (fun _ _ => rfl) (by
              have := WlM_len (a := M.2.1)
              have h2 := cntB_le (p := pL M.2.1) (cT M.2.1)
              omega)
          obtain ⟨s', f1, f2, f3, f4⟩ := f3_findsLocks_eq g.1 (room := v1)
          have side : ∀ r, Sim x M (some (r, y)) (some (r, s')) := fun r => Sim.side h kx y1 (fun f hf => f2 f (by omega)) (fun f hf => f3 f (by omega) (by omega) (by omega))
          rw [q5.1, if_neg hS0]
          rw [hchk _ (fun K => by
            unfold g3_locks_35
            rw [g.1.2.1.1, if_off, f1, bnd_s])]
          by_cases cu : u = 0
          · subst cu
            rw [if_pos (show Int32.ofNat 0 = 0 from rfl), if_pos (show Int32.ofNat 0 = 0 from rfl), f4.1]
            exact side _
          · obtain ⟨k, rfl⟩ : ∃ k, u = k + 1 := ⟨u - 1, by omega⟩
            have hne : ¬ Int32.ofNat (k + 1) = 0 := by
              intro z
              have : (Int32.ofNat (k + 1) = Int32.ofNat 0) = (k + 1 = 0) := zI_inj (by omega) (by decide)
              have z2 : Int32.ofNat (k + 1) = Int32.ofNat 0 := z
              rw [this] at z2; omega
            have em : Int32.ofNat (k + 1) - (1 : Int32) = Int32.ofNat k := by rw [zI_pred (by omega), Nat.add_sub_cancel]
            rw [if_neg hne, if_neg hne, f3_locks_fin g.1 rfl (f3 1 (by decide) (by decide) (by decide)) (f3 9 (by decide) (by decide) (by decide)) f4 hS0 (by omega), chk_h hcy, y1, hv.1.nT g.1, zif_le (by omega) (by omega), em]
            by_cases ck : k < cT M.2.1
            · have hkn : inB (Int32.ofNat k) 8 = true := zI_in (by omega) (by decide)
              rw [if_pos (by omega), if_pos ck, chk_h hkn, zI_nat (by omega), q5.2 hS0 k ck]
              exact side _
            · rw [if_neg (by omega), if_neg ck]
              exact side _
end R

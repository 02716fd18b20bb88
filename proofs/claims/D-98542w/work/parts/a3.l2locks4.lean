/-! PLAIN LAW: locks, the Model's loop; when there is an answer -/
set_option maxRecDepth 100000
theorem goL_none {room : Int32} : ∀ (ws : List Int32) (k : Nat) (asg : Nat → Nat) (L : Nat → Int32) (used : Nat) (S : Int32 × (Nat → Nat)) (B : Int), (∃ w, w ∈ ws ∧ ¬ w ≤ room) → S.1 = -1 → (∀ j, 0 ≤ (L j).toInt ∧ (L j).toInt ≤ B) → (∀ w, w ∈ ws → 0 ≤ w.toInt ∧ w.toInt ≤ 50) → B + 50 * ws.length ≤ 1000000 → goL room ws k asg L used S = S
  | [], _, _, _, _, _, _, h, _, _, _, _ => by obtain ⟨w, h, _⟩ := h; cases h
  | w0 :: ws, k, asg, L, used, S, B, h, h1, hL, hw, hB => by
    have hp : prL used S = false := by unfold prL; rw [decide_eq_false (fun z => z h1), Bool.false_and]
    have hw0 := hw w0 (List.mem_cons_self ..)
    simp only [List.length_cons] at hB
    have hB : B + 50 * ((ws.length : Int) + 1) ≤ 1000000 := by omega
    unfold goL
    rw [hp]
    simp only [Bool.false_eq_true, if_false]
    refine fdN_id _ _ (fun j _ _ => ?_)
    have hLj := hL j
    have hsum : (L j + w0).toInt = (L j).toInt + w0.toInt := tI_add (by omega) (by omega)
    by_cases cf : L j + w0 ≤ room
    · rw [if_pos cf]
      obtain ⟨w, hm, hb⟩ := h
      rcases List.mem_cons.mp hm with e | hm
      · subst e
        exfalso
        rw [Int32.le_iff_toInt_le] at cf hb
        omega
      · refine goL_none ws _ _ _ _ S (B + 50) ⟨w, hm, hb⟩ h1 (fun i => ?_) (fun v hv => hw v (List.mem_cons_of_mem _ hv)) (by omega)
        unfold upd
        by_cases c : i = j
        · rw [if_pos c, hsum]; omega
        · rw [if_neg c]; have := hL i; omega
    · rw [if_neg cf]
theorem goL_some {room : Int32} : ∀ (ws : List Int32) (k : Nat) (asg : Nat → Nat) (L : Nat → Int32) (used : Nat) (S : Int32 × (Nat → Nat)), (∀ w, w ∈ ws → w ≤ room) → (∀ j, used ≤ j → L j = 0) → used + ws.length < 1000 → ¬ (goL room ws k asg L used S).1 = -1
  | [], _, _, _, used, S, _, _, hu => by
    unfold goL
    by_cases c : prL used S = true
    · rw [if_pos c]
      unfold prL at c
      rw [Bool.and_eq_true, decide_eq_true_iff] at c
      exact c.1
    · rw [if_neg c]
      exact nat_m1 (by simp at hu; omega)
  | w0 :: ws, k, asg, L, used, S, hw, hL, hu => by
    simp only [List.length_cons] at hu
    unfold goL
    by_cases c : prL used S = true
    · rw [if_pos c]
      unfold prL at c
      rw [Bool.and_eq_true, decide_eq_true_iff] at c
      exact c.1
    · rw [if_neg c, fdN_last, Nat.zero_add, hL used (Nat.le_refl _), if_pos (by rw [Int32.zero_add]; exact hw w0 (List.mem_cons_self ..))]
      refine goL_some ws _ _ _ _ _ (fun w hm => hw w (List.mem_cons_of_mem _ hm)) (fun j hj => ?_) ?_
      · unfold mxL at hj
        rw [if_pos (by omega)] at hj
        unfold upd
        rw [if_neg (by omega)]
        exact hL j (by omega)
      · unfold mxL; rw [if_pos (by omega)]; omega
section R
variable {M0 s : Bl}
theorem copyL_eq {n k : Nat} {room : Int32} (h8 : n ≤ 8) {K : Bl × Int32 → Option Bl} : loop (g3_findsLocks_207 room (Int32.ofNat n) (Int32.ofNat k) K) FU (s, (0 : Int32)) = K (bS s 64 (fun i => if i < n then s.2.1 63 i else s.2.1 64 i), Int32.ofNat k) := by
  have hst : ∀ k, bA (bS s 64 (fun i => if i < k then s.2.1 63 i else s.2.1 64 i)) 64 k (s.2.1 63 k) = bS s 64 (fun i => if i < k + 1 then s.2.1 63 i else s.2.1 64 i) := by
    intro k
    have e : ∀ f : Nat → Int32, bA (bS s 64 f) 64 k (s.2.1 63 k) = bS s 64 (upd f k (s.2.1 63 k)) := fun f => by
      simp only [bA, bS]
      congr 2
      funext g; by_cases hg : g = 64
      · subst hg; simp
      · simp [hg]
    rw [e]
    congr 1
    funext i
    unfold upd
    dsimp only
    by_cases h1 : i = k
    · subst h1; rw [if_pos rfl, if_pos (Nat.lt_succ_self _)]
    · rw [if_neg h1]
      by_cases h2 : i < k
      · rw [if_pos h2, if_pos (by omega)]
      · rw [if_neg h2, if_neg (by omega)]
  have h0 : s = bS s 64 (fun i => if i < 0 then s.2.1 63 i else s.2.1 64 i) := by
    have : (fun i => if i < 0 then s.2.1 63 i else s.2.1 64 i) = s.2.1 64 := by funext i; simp
    rw [this, bS_id]
  have e0 : (s, (0 : Int32)) = (fun k => (bS s 64 (fun i => if i < k then s.2.1 63 i else s.2.1 64 i), Int32.ofNat k)) 0 := by
    show (s, (0 : Int32)) = (bS s 64 (fun i => if i < 0 then s.2.1 63 i else s.2.1 64 i), Int32.ofNat 0)
    rw [← h0]; rfl
  rw [e0]
  refine loop_seq (fun k => (bS s 64 (fun i => if i < k then s.2.1 63 i else s.2.1 64 i), Int32.ofNat k)) n (by omega) ?_ ?_
  · intro K2 j hj
    have hk9 : inB (Int32.ofNat j) 9 = true := zI_in (by omega) (by decide)
    have hk8 : inB (Int32.ofNat j) 8 = true := zI_in (by omega) (by decide)
    simp only [g3_findsLocks_207]
    rw [if_on hj (by omega), chk_h hk9, chk_h hk8, zI_nat (by omega), zI_succ]
    rw [show (bS s 64 (fun i => if i < j then s.2.1 63 i else s.2.1 64 i)).2.1 63 j = s.2.1 63 j from rfl, hst j]
  · intro K2
    simp only [g3_findsLocks_207]
    rw [if_off]
theorem levelL_eq {Wl : List Int32} {n : Nat} {room : Int32} (h8 : n ≤ 8) (hn : Wl.length = n) (hW : ∀ i, i < n → inB (M0.2.1 65 i) 8 = true ∧ M0.2.1 6 (M0.2.1 65 i).toNatClampNeg = Wl.getD i 0) : ∀ (c k : Nat) (row : Nat → Nat) (S : Int32 × (Nat → Nat)) (s : Bl), k + (c + 1) = n → uF row k ≤ k → prL (uF row k) S = false → FrM M0 s → LkM s row k → BsM s n S → s.2.1 63 k = -1 → ∃ s', Rch (g3_findsLocks_61 room (Int32.ofNat n)) (bdR c) (s, Int32.ofNat k) (s', Int32.ofNat k + (-1 : Int32)) ∧ FrM M0 s' ∧ LkM s' row k ∧ BsM s' n (goL room (Wl.drop k) k row (lF row (fun i => Wl.getD i 0) k) (uF row k) S) := by
  have hgo : ∀ (k : Nat) (row : Nat → Nat) (S : Int32 × (Nat → Nat)), k < n → prL (uF row k) S = false → goL room (Wl.drop k) k row (lF row (fun i => Wl.getD i 0) k) (uF row k) S = fdN (fL room (fun i => Wl.getD i 0) (Wl.drop (k + 1)) k row) 0 (uF row k + 1) S := by
    intro k row S hk hp
    rw [List.drop_eq_getElem_cons (by omega)]
    have e : Wl[k] = Wl.getD k 0 := by rw [List.getD_eq_getElem?_getD, List.getElem?_eq_getElem (by omega), Option.getD_some]
    show (if prL (uF row k) S = true then S else _) = _
    rw [hp]
    simp only [Bool.false_eq_true, if_false]
    congr 1
    funext kk S1
    unfold fL
    rw [e, ← lF_up, ← uF_up]
  have rch9 : ∀ (u B k : Nat), u ≤ k → k < 8 → (u + 1 + 1) * (1 + B) ≤ 9 * (1 + B) := fun u B k h1 h2 => Nat.mul_le_mul_right _ (by omega)
  intro c
  induction c with
  | zero =>
    intro k row S s hk hu hp hF hr hS h1
    obtain ⟨s', p1, p2, p3, p4⟩ := turnsL_eq (B := 0) (W := fun i => Wl.getD i 0) (ws := Wl.drop (k + 1)) (room := room) (row := row) h8 (show k < n by omega) hu hW (fun kk S1 s1 hkk hpr hF1 hr1 hS1 => by
      have hk9 : inB (Int32.ofNat k) 9 = true := zI_in (by omega) (by decide)
      have nk : (Int32.ofNat k).toNatClampNeg = k := zI_nat (by omega)
      have e1 : s1.2.1 63 k = Int32.ofNat kk := by
        have := (hr1 k (by omega)).1
        unfold upN at this
        rw [if_pos rfl] at this
        exact this
      refine ⟨(bS (bI s1 66 (Int32.ofNat (uF (upN row k kk) (k + 1)))) 64 (fun i => if i < n then s1.2.1 63 i else s1.2.1 64 i), Int32.ofNat k), _, fun K => ?_, Rch.refl, ⟨fun f hf => ?_, fun f h1 h2 => ?_, hF1.2.2⟩, fun i hi => ⟨?_, (hr1 i hi).2⟩, ?_, fun _ i hi => ?_⟩
      · unfold g3_findsLocks_164
        rw [chk_h hk9, nk, e1, zif_lt (by omega) (by omega), if_neg (by omega), if_pos rfl, zI_pred (by omega), if_pos (by congr 1; omega), f3_locksUsed_eq (row := upN row k kk) (k := n) (by omega) (fun i hi => ⟨(hr1 i (by omega)).1, by have := (hr1 i (by omega)).2; omega⟩), bnd_s, copyL_eq h8, show n = k + 1 by omega]
        rfl
      · rw [← hF1.1 f hf]; simp [bI, bS, hf]
      · rw [← hF1.2.1 f h1 h2]; simp [bI, bS, h2]
      · rw [← (hr1 i hi).1]; simp [bI, bS]
      · have ed : Wl.drop (k + 1) = [] := List.drop_eq_nil_of_le (by omega)
        rw [ed]
        show _ = (if prL _ S1 = true then S1 else _).1
        rw [hpr]; simp [bI, bS]
      · have ed : Wl.drop (k + 1) = [] := List.drop_eq_nil_of_le (by omega)
        rw [ed]
        show _ = Int32.ofNat ((if prL _ S1 = true then S1 else _).2 i)
        rw [hpr]
        simp only [Bool.false_eq_true, if_false]
        rw [← (hr1 i (by omega)).1]; simp [bI, bS, hi]) (uF row k + 1) 0 S s (by omega) hF hr hS (Or.inl ⟨h1, rfl⟩)
    exact ⟨s', p1.mono (rch9 _ 0 k hu (by omega)), p2, p3, by rw [hgo k row S (by omega) hp]; exact p4⟩
  | succ c ih =>
    intro k row S s hk hu hp hF hr hS h1
    obtain ⟨s', p1, p2, p3, p4⟩ := turnsL_eq (B := bdR c) (W := fun i => Wl.getD i 0) (ws := Wl.drop (k + 1)) (room := room) (row := row) h8 (show k < n by omega) hu hW (fun kk S1 s1 hkk hpr hF1 hr1 hS1 => by
      have hk9 : inB (Int32.ofNat k) 9 = true := zI_in (by omega) (by decide)
      have hk19 : inB (Int32.ofNat (k + 1)) 9 = true := zI_in (by omega) (by decide)
      have nk : (Int32.ofNat k).toNatClampNeg = k := zI_nat (by omega)
      have nk1 : (Int32.ofNat (k + 1)).toNatClampNeg = k + 1 := zI_nat (by omega)
      have e1 : s1.2.1 63 k = Int32.ofNat kk := by
        have := (hr1 k (by omega)).1
        unfold upN at this
        rw [if_pos rfl] at this
        exact this
      obtain ⟨s4, p1, p2, p3, p4⟩ := ih (k + 1) (upN row k kk) S1 (bA s1 63 (k + 1) (-1)) (by omega) (by rw [uF_up]; exact mxL_le hkk hu) hpr hF1.row (hr1.row (Nat.le_refl _)) hS1.row lock_at
      have em : Int32.ofNat (k + 1) + (-1 : Int32) = Int32.ofNat k := by
        have : Int32.ofNat (k + 1) + (-1 : Int32) = Int32.ofNat (k + 1) - (1 : Int32) := by rw [Int32.sub_eq_add_neg]
        rw [this, zI_pred (by omega), Nat.add_sub_cancel]
      rw [em] at p1
      refine ⟨_, s4, fun K => ?_, p1, p2, p3, p4⟩
      unfold g3_findsLocks_164
      rw [chk_h hk9, nk, e1, zif_lt (by omega) (by omega), if_neg (by omega), if_pos rfl, zI_pred (by omega), zif_eq (by omega) (by omega), if_neg (by omega), zI_succ, chk_h hk19, nk1]) (uF row k + 1) 0 S s (by omega) hF hr hS (Or.inl ⟨h1, rfl⟩)
    exact ⟨s', p1.mono (rch9 _ _ k hu (by omega)), p2, p3, by rw [hgo k row S (by omega) hp]; exact p4⟩
end R

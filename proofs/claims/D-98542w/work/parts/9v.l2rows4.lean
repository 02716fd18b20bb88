/-! PLAIN LAW: rows, the Model's loop -/
set_option maxRecDepth 100000
def bdR : Nat → Nat
  | 0 => 9
  | c + 1 => 9 * (1 + bdR c)
/-- at level k, those below t are done -/
def PosR (s : Bl) (k : Nat) (Uc U : Int32) (t : Nat) : Prop := (s.2.1 58 k = -1 ∧ t = 0 ∧ Uc = U) ∨ ∃ u, t = u + 1 ∧ u < 8 ∧ s.2.1 58 k = Int32.ofNat u ∧ (Uc &&& (((1 : Int32) <<< (Int32.ofNat u &&& 31)) ^^^ (-1 : Int32))) = U
section R
variable {M0 : Bl}
theorem turns_eq {A : Nat → Bool} {LS : Nat → Int32} {m n B c k : Nat} {all U : Int32} {row : Nat → Nat} {lf : Nat → Bool} (hA8 : ∀ j, A j = true → j < 8) (hall : ∀ j, j < 32 → bit all j = A j) (h7 : n ≤ 7) (hk : k < n) (hlA : ∀ j, lf j = true → A j = true) (hU : ∀ j, j < 32 → bit U j = (A j && !lf j))
    (hsub : ∀ (t : Nat) (S1 : Int32 × (Nat → Nat)) (s1 : Bl), lf t = true → t < 8 → Fr3 M0 s1 → Rw3 s1 (upN row k t) (k + 1) → Sc3 s1 n S1 → ∃ (st2 : Bl × Int32 × Int32) (s4 : Bl) (U4 : Int32), (∀ K : Bl × Int32 × Int32 → Option Bl, g3_findsRows_136 K s1 all (Int32.ofNat n) (Int32.ofNat k) U = K st2) ∧ Rch (g3_findsRows_41 all (Int32.ofNat n)) B st2 (s4, Int32.ofNat k, U4) ∧ (U4 &&& (((1 : Int32) <<< (Int32.ofNat t &&& 31)) ^^^ (-1 : Int32))) = U ∧ Fr3 M0 s4 ∧ Rw3 s4 (upN row k t) (k + 1) ∧ Sc3 s4 n (srR (stR LS m n) c (k + 1) (upN row k t) (rmB lf t) S1)) :
    ∀ (e t : Nat) (S1 : Int32 × (Nat → Nat)) (s1 : Bl) (Uc : Int32), t + e = 8 → Fr3 M0 s1 → Rw3 s1 row k → Sc3 s1 n S1 → PosR s1 k Uc U t → ∃ s', Rch (g3_findsRows_41 all (Int32.ofNat n)) ((e + 1) * (1 + B)) (s1, Int32.ofNat k, Uc) (s', Int32.ofNat k + (-1 : Int32), U) ∧ Fr3 M0 s' ∧ Rw3 s' row k ∧ Sc3 s' n (fdN (fun t S => if lf t = true then srR (stR LS m n) c (k + 1) (upN row k t) (rmB lf t) S else S) t e S1) := by
  intro e
  induction e using Nat.strongRecOn with
  | ind e ih =>
    intro t S1 s1 Uc hte hF hr hS hP
    have hk9 : inB (Int32.ofNat k) 9 = true := zI_in (by omega) (by decide)
    have nk : (Int32.ofNat k).toNatClampNeg = k := zI_nat (by omega)
    have hneg : ¬ Int32.ofNat k < 0 := by rw [zI_neg (by omega)]; exact id
    have hb : ∀ K : Bl × Int32 × Int32 → Option Bl, g3_findsRows_41 all (Int32.ofNat n) K (s1, Int32.ofNat k, Uc) = loop (g3_findsRows_85 all (Int32.ofNat n) (Int32.ofNat k) U K) FU (bA s1 58 k (Int32.ofNat t)) := by
      intro K
      simp only [g3_findsRows_41]
      rw [if_neg hneg, nk]
      simp only [chk_h hk9]
      rcases hP with ⟨h1, h2, h3⟩ | ⟨u, h1, h2, h3, h4⟩
      · subst h2 h3
        rw [h1, if_pos rfl]
        rfl
      · subst h1
        rw [h3, if_neg (nat_m1 (by omega)), ltv_s, h4, zI_succ]
    have hl := fsN_le (fun j => lf (t + j)) e
    have hsp := fsN_spec (fun j => lf (t + j)) e
    have hin : ∀ K : Bl × Int32 × Int32 → Option Bl, loop (g3_findsRows_85 all (Int32.ofNat n) (Int32.ofNat k) U K) FU (bA s1 58 k (Int32.ofNat t)) = g3_findsRows_136 K (bA s1 58 k (Int32.ofNat (t + fsN (fun j => lf (t + j)) e))) all (Int32.ofNat n) (Int32.ofNat k) U := by
      intro K
      refine loop_seq (fun j => bA s1 58 k (Int32.ofNat (t + j))) (fsN (fun j => lf (t + j)) e) (by omega) ?_ ?_
      · intro K2 j hj
        have hlj : lf (t + j) = false := hsp.1 j hj
        unfold g3_findsRows_85
        simp only [chk_h hk9, nk, row_at]
        rw [show (8 : Int32) = Int32.ofNat 8 from rfl, zif_le (by omega) (by omega), if_neg (by omega), has_bit (by omega), bnd_s, if_bit, hall _ (by omega), has_bit (by omega), bnd_s, if_bit, hU _ (by omega), hlj, zI_succ, bA_bA]
        cases A (t + j) <;> rfl
      · intro K2
        unfold g3_findsRows_85
        simp only [chk_h hk9, nk, row_at]
        rw [show (8 : Int32) = Int32.ofNat 8 from rfl, zif_le (by omega) (by omega)]
        by_cases c8 : 8 ≤ t + fsN (fun j => lf (t + j)) e
        · rw [if_pos c8]
        · have hlj : lf (t + fsN (fun j => lf (t + j)) e) = true := hsp.2 (by omega)
          rw [if_neg c8, has_bit (by omega), bnd_s, if_bit, hall _ (by omega), hlA _ hlj, if_pos rfl, has_bit (by omega), bnd_s, if_bit, hU _ (by omega), hlj]
          simp
    generalize hd : fsN (fun j => lf (t + j)) e = d at hl hsp hin
    have hskip := fdN_skip (f := fun t S => if lf t = true then srR (stR LS m n) c (k + 1) (upN row k t) (rmB lf t) S else S) (s := S1) d t e hl (fun j h1 h2 => by
      have := hsp.1 (j - t) (by omega)
      rw [show t + (j - t) = j by omega] at this
      rw [this]; rfl)
    rw [hskip]
    by_cases hde : d = e
    · subst hde
      have e8 : t + d = 8 := hte
      refine ⟨bA s1 58 k (Int32.ofNat 8), (Rch.step fun K => ?_).mono (by
        have : 1 * 1 ≤ (d + 1) * (1 + B) := Nat.mul_le_mul (by omega) (by omega)
        omega), hF.row, hr.row (Nat.le_refl _), ?_⟩
      · rw [hb, hin, e8]
        unfold g3_findsRows_136
        rw [chk_h hk9, nk, row_at, if_pos (show Int32.ofNat 8 = (8 : Int32) from rfl)]
      · rw [Nat.sub_self]; exact hS.row
    · have hlt : lf (t + d) = true := hsp.2 (by omega)
      have ht8 : t + d < 8 := by omega
      have hr2 : Rw3 (bA s1 58 k (Int32.ofNat (t + d))) (upN row k (t + d)) (k + 1) := by
        intro i hi
        show upd (s1.2.1 58) k (Int32.ofNat (t + d)) i = _ ∧ _
        unfold upd upN
        by_cases e : i = k
        · rw [if_pos e, if_pos e]; exact ⟨rfl, by omega⟩
        · rw [if_neg e, if_neg e]; exact hr i (by omega)
      obtain ⟨st2, s4, U4, q1, q2, q3, q4, q5, q6⟩ := hsub (t + d) S1 _ hlt ht8 hF.row hr2 hS.row
      have hr4 : Rw3 s4 row k := fun i hi => by
        have := q5 i (by omega)
        unfold upN at this
        rw [if_neg (by omega)] at this
        exact this
      have h4k : s4.2.1 58 k = Int32.ofNat (t + d) := by
        have := (q5 k (by omega)).1
        unfold upN at this
        rw [if_pos rfl] at this
        exact this
      obtain ⟨s', p1, p2, p3, p4⟩ := ih (e - (d + 1)) (by omega) (t + d + 1) _ s4 U4 (by omega) q4 hr4 q6 (Or.inr ⟨t + d, rfl, ht8, h4k, q3⟩)
      refine ⟨s', (((Rch.step fun K => by rw [hb, hin, q1]).trans q2).trans p1).mono ?_, p2, p3, ?_⟩
      · have h1 : (e - (d + 1) + 1) * (1 + B) + (1 + B) = (e - (d + 1) + 1 + 1) * (1 + B) := by rw [Nat.succ_mul (e - (d + 1) + 1)]
        have h2 : (e - (d + 1) + 1 + 1) * (1 + B) ≤ (e + 1) * (1 + B) := Nat.mul_le_mul_right _ (by omega)
        omega
      · rw [show e - d = (e - (d + 1)) + 1 by omega]
        show Sc3 s' n (fdN _ (t + d + 1) (e - (d + 1)) (if lf (t + d) = true then _ else S1))
        rw [if_pos hlt]
        exact p4
theorem or_rm {U : Int32} {t : Nat} (ht : t < 8) (h : bit U t = false) : ((U ||| ((1 : Int32) <<< (Int32.ofNat t &&& 31))) &&& (((1 : Int32) <<< (Int32.ofNat t &&& 31)) ^^^ (-1 : Int32))) = U ∧ (U &&& (((1 : Int32) <<< (Int32.ofNat t &&& 31)) ^^^ (-1 : Int32))) = U := by
  refine ⟨bit_ext fun j hj => ?_, bit_ext fun j hj => ?_⟩
  · rw [bit_and, bit_or, bit_not _ hj, bit_shl (by omega) hj]
    by_cases e : j = t
    · subst e; simp [h]
    · simp [e]
  · rw [bit_and, bit_not _ hj, bit_shl (by omega) hj]
    by_cases e : j = t
    · subst e; simp [h]
    · simp [e]
theorem level_eq {A : Nat → Bool} {LS : Nat → Int32} {m n : Nat} {all : Int32} (hA8 : ∀ j, A j = true → j < 8) (hall : ∀ j, j < 32 → bit all j = A j) (hm6 : m ≤ 6) (hm : M0.1 61 = Int32.ofNat m) (hT : ∀ k, k < m → M0.2.1 60 k = LS k) (h7 : n ≤ 7) : ∀ (c k : Nat) (row : Nat → Nat) (lf : Nat → Bool) (S : Int32 × (Nat → Nat)) (s : Bl) (U : Int32), k + (c + 1) = n → (∀ j, lf j = true → A j = true) → (∀ j, j < 32 → bit U j = (A j && !lf j)) → Fr3 M0 s → Rw3 s row k → Sc3 s n S → s.2.1 58 k = -1 → ∃ s', Rch (g3_findsRows_41 all (Int32.ofNat n)) (bdR c) (s, Int32.ofNat k, U) (s', Int32.ofNat k + (-1 : Int32), U) ∧ Fr3 M0 s' ∧ Rw3 s' row k ∧ Sc3 s' n (srR (stR LS m n) (c + 1) k row lf S) := by
  intro c
  induction c with
  | zero =>
    intro k row lf S s U hk hlA hU hF hr hS h1
    refine turns_eq (B := 0) (c := 0) hA8 hall h7 (by omega) hlA hU ?_ 8 0 S s U rfl hF hr hS (Or.inl ⟨h1, rfl, rfl⟩)
    intro t S1 s1 hlt ht8 hF1 hr1 hS1
    have hk9 : inB (Int32.ofNat k) 9 = true := zI_in (by omega) (by decide)
    have nk : (Int32.ofNat k).toNatClampNeg = k := zI_nat (by omega)
    have e1 : s1.2.1 58 k = Int32.ofNat t := by
      have := (hr1 k (by omega)).1
      unfold upN at this
      rw [if_pos rfl] at this
      exact this
    obtain ⟨s4, t1, t2, t3, t4⟩ := f3_takesRow_eq (LS := LS) hm6 hm hT h7 hF1 (by rw [← hk]; exact hr1) hS1
    refine ⟨(s4, Int32.ofNat k, U), s4, U, fun K => ?_, Rch.refl, ?_, t2, fun i hi => by rw [t3]; exact hr1 i hi, t4⟩
    · unfold g3_findsRows_136
      rw [chk_h hk9, nk, e1, show (8 : Int32) = Int32.ofNat 8 from rfl, zif_eq (by omega) (by omega), if_neg (by omega), zI_pred (by omega), if_pos (by congr 1; omega), t1, bnd_s]
    · exact (or_rm ht8 (by rw [hU t (by omega), hlt]; simp)).2
  | succ c ih =>
    intro k row lf S s U hk hlA hU hF hr hS h1
    refine turns_eq (B := bdR c) (c := c + 1) hA8 hall h7 (by omega) hlA hU ?_ 8 0 S s U rfl hF hr hS (Or.inl ⟨h1, rfl, rfl⟩)
    intro t S1 s1 hlt ht8 hF1 hr1 hS1
    have hk9 : inB (Int32.ofNat k) 9 = true := zI_in (by omega) (by decide)
    have hk19 : inB (Int32.ofNat (k + 1)) 9 = true := zI_in (by omega) (by decide)
    have nk : (Int32.ofNat k).toNatClampNeg = k := zI_nat (by omega)
    have nk1 : (Int32.ofNat (k + 1)).toNatClampNeg = k + 1 := zI_nat (by omega)
    have e1 : s1.2.1 58 k = Int32.ofNat t := by
      have := (hr1 k (by omega)).1
      unfold upN at this
      rw [if_pos rfl] at this
      exact this
    obtain ⟨s4, p1, p2, p3, p4⟩ := ih (k + 1) (upN row k t) (rmB lf t) S1 (bA s1 58 (k + 1) (-1)) (U ||| ((1 : Int32) <<< (Int32.ofNat t &&& 31))) (by omega) (fun j hj => hlA j (by unfold rmB at hj; rw [Bool.and_eq_true] at hj; exact hj.1)) (fun j hj => by
      rw [bit_or, hU j hj, bit_shl (by omega) hj]
      unfold rmB
      by_cases e : j = t
      · subst e; rw [hlA j hlt]; simp
      · simp [e]) hF1.row (hr1.row (Nat.le_refl _)) hS1.row row_at
    have em : Int32.ofNat (k + 1) + (-1 : Int32) = Int32.ofNat k := by
      have : Int32.ofNat (k + 1) + (-1 : Int32) = Int32.ofNat (k + 1) - (1 : Int32) := by rw [Int32.sub_eq_add_neg]
      rw [this, zI_pred (by omega), Nat.add_sub_cancel]
    rw [em] at p1
    refine ⟨_, s4, _, fun K => ?_, p1, ?_, p2, p3, p4⟩
    · unfold g3_findsRows_136
      rw [chk_h hk9, nk, e1, show (8 : Int32) = Int32.ofNat 8 from rfl, zif_eq (by omega) (by omega), if_neg (by omega), zI_pred (by omega), zif_eq (by omega) (by omega), if_neg (by omega), zI_succ, chk_h hk9, chk_h hk19, nk1]
    · exact (or_rm ht8 (by rw [hU t (by omega), hlt]; simp)).1
end R

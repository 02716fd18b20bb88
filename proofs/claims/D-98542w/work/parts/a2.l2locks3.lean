/-! PLAIN LAW: locks, the Model's search -/
set_option maxRecDepth 100000
def uF (row : Nat → Nat) : Nat → Nat
  | 0 => 0
  | k + 1 => mxL (uF row k) (row k)
def lF (row : Nat → Nat) (W : Nat → Int32) (k j : Nat) : Int32 := sumI k (fun i => if row i = j then W i else 0)
theorem uF_cg {r r' : Nat → Nat} : ∀ k, (∀ i, i < k → r i = r' i) → uF r k = uF r' k
  | 0, _ => rfl
  | k + 1, h => by unfold uF; rw [uF_cg k (fun i hi => h i (by omega)), h k (by omega)]
theorem uF_up {row : Nat → Nat} {k kk : Nat} : uF (upN row k kk) (k + 1) = mxL (uF row k) kk := by
  show mxL (uF (upN row k kk) k) (upN row k kk k) = _
  rw [uF_cg (r' := row) k (fun i hi => by unfold upN; rw [if_neg (by omega)])]
  unfold upN; rw [if_pos rfl]
theorem lF_up {row : Nat → Nat} {W : Nat → Int32} {k kk : Nat} : upd (lF row W k) kk (lF row W k kk + W k) = lF (upN row k kk) W (k + 1) := by
  funext j
  have e : lF (upN row k kk) W (k + 1) j = sumI k (fun i => if row i = j then W i else 0) + (if kk = j then W k else 0) := by
    unfold lF
    show sumI k _ + (if upN row k kk k = j then W k else 0) = _
    have e1 : upN row k kk k = kk := by unfold upN; rw [if_pos rfl]
    rw [e1]
    congr 1
    refine sumI_congr fun i hi => ?_
    have e2 : upN row k kk i = row i := by unfold upN; rw [if_neg (by omega)]
    rw [e2]
  rw [e]
  unfold upd lF
  by_cases c : j = kk
  · subst c; rw [if_pos rfl, if_pos rfl]
  · rw [if_neg c, if_neg (fun z => c z.symm), Int32.add_zero]
theorem mxL_le {u kk k : Nat} (h : kk ≤ u) (h2 : u ≤ k) : mxL u kk ≤ k + 1 := by unfold mxL; split <;> omega
section R
variable {M0 s : Bl}
def FrM (M0 s : Bl) : Prop := (∀ f, f ≠ 66 → s.1 f = M0.1 f) ∧ (∀ f, f ≠ 63 → f ≠ 64 → s.2.1 f = M0.2.1 f) ∧ s.2.2 = M0.2.2
def LkM (s : Bl) (row : Nat → Nat) (k : Nat) : Prop := ∀ i, i < k → s.2.1 63 i = Int32.ofNat (row i) ∧ row i < 8
def BsM (s : Bl) (n : Nat) (S : Int32 × (Nat → Nat)) : Prop := s.1 66 = S.1 ∧ (¬ S.1 = -1 → ∀ i, i < n → s.2.1 64 i = Int32.ofNat (S.2 i))
def PosL (s : Bl) (k c : Nat) : Prop := (s.2.1 63 k = -1 ∧ c = 0) ∨ ∃ u, c = u + 1 ∧ u < 9 ∧ s.2.1 63 k = Int32.ofNat u
theorem FrM.refl : FrM M0 M0 := ⟨fun _ _ => rfl, fun _ _ _ => rfl, rfl⟩
theorem FrM.row {k : Nat} {v : Int32} (h : FrM M0 s) : FrM M0 (bA s 63 k v) := ⟨h.1, fun f h1 h2 => by rw [← h.2.1 f h1 h2]; simp [bA, bS, h1], h.2.2⟩
theorem LkM.row {k j : Nat} {v : Int32} {row : Nat → Nat} (h : LkM s row k) (hj : k ≤ j) : LkM (bA s 63 j v) row k := fun i hi => by
  refine ⟨?_, (h i hi).2⟩
  rw [← (h i hi).1]
  show upd (s.2.1 63) j v i = _
  unfold upd; rw [if_neg (by omega)]
theorem LkM.put {k v : Nat} {row : Nat → Nat} (h : LkM s row k) (hv : v < 8) : LkM (bA s 63 k (Int32.ofNat v)) (upN row k v) (k + 1) := fun i hi => by
  show upd (s.2.1 63) k (Int32.ofNat v) i = _ ∧ _
  unfold upd upN
  by_cases c : i = k
  · rw [if_pos c, if_pos c]; exact ⟨rfl, hv⟩
  · rw [if_neg c, if_neg c]; exact h i (by omega)
theorem BsM.row {k n : Nat} {v : Int32} {S : Int32 × (Nat → Nat)} (h : BsM s n S) : BsM (bA s 63 k v) n S := ⟨h.1, fun h0 i hi => by rw [← h.2 h0 i hi]; simp [bA, bS]⟩
theorem lock_at {k : Nat} {v : Int32} : (bA s 63 k v).2.1 63 k = v := by simp [bA, bS, upd]
theorem f3_locksUsed_eq {row : Nat → Nat} {k : Nat} (hk : k ≤ 9) (h : ∀ i, i < k → s.2.1 63 i = Int32.ofNat (row i) ∧ row i < 100) : f3_locksUsed s (Int32.ofNat k) = some (Int32.ofNat (uF row k)) := by
  have hb : ∀ i, i ≤ k → uF row i ≤ 100 := by
    intro i
    induction i with
    | zero => intro _; exact Nat.zero_le _
    | succ i ih =>
      intro hi
      have h1 := ih (by omega)
      have h2 := (h i (by omega)).2
      show mxL (uF row i) (row i) ≤ 100
      unfold mxL; split <;> omega
  unfold f3_locksUsed
  refine loop_seq (fun i => (Int32.ofNat (uF row i), Int32.ofNat i)) k (by omega) ?_ ?_
  · intro K i hi
    have hin : inB (Int32.ofNat i) 9 = true := zI_in (by omega) (by decide)
    have h1 := hb i (by omega)
    obtain ⟨e1, e2⟩ := h i hi
    simp only [g3_locksUsed_4]
    rw [if_on hi (by omega), chk_h hin, zI_nat (by omega), e1, zif_lt (by omega) (by omega), zI_succ, zI_succ]
    show _ = K (Int32.ofNat (mxL (uF row i) (row i)), Int32.ofNat (i + 1))
    unfold mxL
    by_cases c : row i < uF row i
    · rw [if_pos c, if_neg (by omega)]
    · rw [if_neg c, if_pos (by omega), chk_h hin]
  · intro K
    simp only [g3_locksUsed_4]
    rw [if_off]
theorem f3_loadOf_eq {row : Nat → Nat} {W : Nat → Int32} {k j : Nat} (hk : k ≤ 8) (hj : j < 100) (h : ∀ i, i < k → s.2.1 63 i = Int32.ofNat (row i) ∧ row i < 8) (hW : ∀ i, i < k → inB (s.2.1 65 i) 8 = true ∧ s.2.1 6 (s.2.1 65 i).toNatClampNeg = W i) : f3_loadOf s (Int32.ofNat j) (Int32.ofNat k) = some (lF row W k j) := by
  unfold f3_loadOf lF
  refine loop_seq (fun i => (sumI i (fun i => if row i = j then W i else 0), Int32.ofNat i)) k (by omega) ?_ ?_
  · intro K i hi
    have hin : inB (Int32.ofNat i) 9 = true := zI_in (by omega) (by decide)
    have hin8 : inB (Int32.ofNat i) 8 = true := zI_in (by omega) (by decide)
    obtain ⟨e1, e2⟩ := h i hi
    obtain ⟨w1, w2⟩ := hW i hi
    simp only [g3_loadOf_5]
    rw [if_on hi (by omega), chk_h hin, zI_nat (by omega), e1, zif_eq (by omega) (by omega), zI_succ]
    show _ = K (sumI i _ + (if row i = j then W i else 0), Int32.ofNat (i + 1))
    by_cases c : row i = j
    · rw [if_pos c, if_pos c, chk_h hin8, chk_h w1, w2]
    · rw [if_neg c, if_neg c]
  · intro K
    simp only [g3_loadOf_5]
    rw [if_off]
theorem prL_mono {u v : Nat} {S : Int32 × (Nat → Nat)} (h : u ≤ v) (hv : v < 2147483648) (hp : prL u S = true) : prL v S = true := by
  unfold prL at hp ⊢
  rw [Bool.and_eq_true, decide_eq_true_iff, decide_eq_true_iff] at hp
  rw [decide_eq_true hp.1, decide_eq_true (Int32.le_trans hp.2 (by rw [zI_le (by omega) hv]; exact h))]; rfl
theorem mxL_mono {u a b : Nat} (h : a ≤ b) : mxL u a ≤ mxL u b := by unfold mxL; split <;> split <;> omega
def fL (room : Int32) (W : Nat → Int32) (ws : List Int32) (k : Nat) (row : Nat → Nat) (kk : Nat) (S : Int32 × (Nat → Nat)) : Int32 × (Nat → Nat) := if lF row W k kk + W k ≤ room then goL room ws (k + 1) (upN row k kk) (lF (upN row k kk) W (k + 1)) (uF (upN row k kk) (k + 1)) S else S
theorem turnsL_eq {W : Nat → Int32} {ws : List Int32} {n B k : Nat} {room : Int32} {row : Nat → Nat} (h8 : n ≤ 8) (hk : k < n) (hu : uF row k ≤ k) (hW : ∀ i, i < n → inB (M0.2.1 65 i) 8 = true ∧ M0.2.1 6 (M0.2.1 65 i).toNatClampNeg = W i)
    (hsub : ∀ (kk : Nat) (S1 : Int32 × (Nat → Nat)) (s1 : Bl), kk ≤ uF row k → prL (uF (upN row k kk) (k + 1)) S1 = false → FrM M0 s1 → LkM s1 (upN row k kk) (k + 1) → BsM s1 n S1 → ∃ (st2 : Bl × Int32) (s4 : Bl), (∀ K : Bl × Int32 → Option Bl, g3_findsLocks_164 K s1 room (Int32.ofNat n) (Int32.ofNat k) (Int32.ofNat (uF row k)) 0 = K st2) ∧ Rch (g3_findsLocks_61 room (Int32.ofNat n)) B st2 (s4, Int32.ofNat k) ∧ FrM M0 s4 ∧ LkM s4 (upN row k kk) (k + 1) ∧ BsM s4 n (goL room ws (k + 1) (upN row k kk) (lF (upN row k kk) W (k + 1)) (uF (upN row k kk) (k + 1)) S1)) :
    ∀ (e c : Nat) (S1 : Int32 × (Nat → Nat)) (s1 : Bl), c + e = uF row k + 1 → FrM M0 s1 → LkM s1 row k → BsM s1 n S1 → PosL s1 k c → ∃ s', Rch (g3_findsLocks_61 room (Int32.ofNat n)) ((e + 1) * (1 + B)) (s1, Int32.ofNat k) (s', Int32.ofNat k + (-1 : Int32)) ∧ FrM M0 s' ∧ LkM s' row k ∧ BsM s' n (fdN (fL room W ws k row) c e S1) := by
  intro e
  induction e using Nat.strongRecOn with
  | ind e ih =>
    intro c S1 s1 hte hF hr hS hP
    have hk9 : inB (Int32.ofNat k) 9 = true := zI_in (by omega) (by decide)
    have hk8 : inB (Int32.ofNat k) 8 = true := zI_in (by omega) (by decide)
    have nk : (Int32.ofNat k).toNatClampNeg = k := zI_nat (by omega)
    have hneg : ¬ Int32.ofNat k < 0 := by rw [zI_neg (by omega)]; exact id
    have hn0 : ¬ Int32.ofNat n ≤ 0 := by
      intro z
      have : (Int32.ofNat n ≤ Int32.ofNat 0) = (n ≤ 0) := zI_le (by omega) (by decide)
      have z2 : Int32.ofNat n ≤ Int32.ofNat 0 := z
      rw [this] at z2; omega
    have hlk : ∀ v : Int32, LkM (bA s1 63 k v) row k := fun v => hr.row (Nat.le_refl _)
    have hb : ∀ K : Bl × Int32 → Option Bl, g3_findsLocks_61 room (Int32.ofNat n) K (s1, Int32.ofNat k) = loop (g3_findsLocks_86 room (Int32.ofNat n) (Int32.ofNat k) (Int32.ofNat (uF row k)) K) FU (bA s1 63 k (Int32.ofNat c)) := by
      intro K
      have hv : s1.2.1 63 k + (1 : Int32) = Int32.ofNat c := by
        rcases hP with ⟨h1, h2⟩ | ⟨u, h1, h2, h3⟩
        · subst h2; rw [h1]; rfl
        · subst h1; rw [h3, zI_succ]
      simp only [g3_findsLocks_61]
      rw [if_neg hneg, if_neg hn0, chk_h hk9, chk_h hk9, nk, hv, f3_locksUsed_eq (row := row) (k := k) (by omega) (fun i hi => ⟨(hlk _ i hi).1, by have := (hlk (Int32.ofNat c) i hi).2; omega⟩), bnd_s]
    have hW1 : ∀ i, i < n → inB (s1.2.1 65 i) 8 = true ∧ s1.2.1 6 (s1.2.1 65 i).toNatClampNeg = W i := fun i hi => by
      rw [hF.2.1 65 (by decide) (by decide), hF.2.1 6 (by decide) (by decide)]; exact hW i hi
    have hl := fsN_le (fun j => decide (lF row W k (c + j) + W k ≤ room)) e
    have hsp := fsN_spec (fun j => decide (lF row W k (c + j) + W k ≤ room)) e
    have hin : ∀ K : Bl × Int32 → Option Bl, loop (g3_findsLocks_86 room (Int32.ofNat n) (Int32.ofNat k) (Int32.ofNat (uF row k)) K) FU (bA s1 63 k (Int32.ofNat c)) = g3_findsLocks_137 K (bA s1 63 k (Int32.ofNat (c + fsN (fun j => decide (lF row W k (c + j) + W k ≤ room)) e))) room (Int32.ofNat n) (Int32.ofNat k) (Int32.ofNat (uF row k)) := by
      intro K
      have one : ∀ j, j < e → ∀ K2 : Bl → Option Bl, g3_findsLocks_86 room (Int32.ofNat n) (Int32.ofNat k) (Int32.ofNat (uF row k)) K K2 (bA s1 63 k (Int32.ofNat (c + j))) = if lF row W k (c + j) + W k ≤ room then g3_findsLocks_137 K (bA s1 63 k (Int32.ofNat (c + j))) room (Int32.ofNat n) (Int32.ofNat k) (Int32.ofNat (uF row k)) else K2 (bA s1 63 k (Int32.ofNat (c + (j + 1)))) := by
        intro j hj K2
        have e65 : (bA s1 63 k (Int32.ofNat (c + j))).2.1 65 = s1.2.1 65 := by simp [bA, bS]
        have e6 : (bA s1 63 k (Int32.ofNat (c + j))).2.1 6 = s1.2.1 6 := by simp [bA, bS]
        unfold g3_findsLocks_86
        simp only [chk_h hk9, nk, lock_at]
        rw [zif_lt (by omega) (by omega), if_neg (by omega), f3_loadOf_eq (row := row) (W := W) (k := k) (j := c + j) (by omega) (by omega) (hlk _) (fun i hi => by rw [e65, e6]; exact hW1 i (by omega)), bnd_s, chk_h hk8, e65, e6, chk_h (hW1 k hk).1, (hW1 k hk).2, zI_succ, bA_bA]
        rfl
      refine loop_seq (fun j => bA s1 63 k (Int32.ofNat (c + j))) (fsN (fun j => decide (lF row W k (c + j) + W k ≤ room)) e) (by omega) ?_ ?_
      · intro K2 j hj
        rw [one j (by omega), if_neg (of_decide_eq_false (hsp.1 j hj))]
      · intro K2
        by_cases ce : fsN (fun j => decide (lF row W k (c + j) + W k ≤ room)) e < e
        · rw [one _ ce, if_pos (of_decide_eq_true (hsp.2 ce))]
        · unfold g3_findsLocks_86
          simp only [chk_h hk9, nk, lock_at]
          rw [zif_lt (by omega) (by omega), if_pos (by omega)]
    generalize hd : fsN (fun j => decide (lF row W k (c + j) + W k ≤ room)) e = d at hl hsp hin
    have hskip := fdN_skip (f := fL room W ws k row) (s := S1) d c e hl (fun j h1 h2 => by
      have := hsp.1 (j - c) (by omega)
      rw [show c + (j - c) = j by omega] at this
      unfold fL
      rw [if_neg (of_decide_eq_false this)])
    rw [hskip]
    -- the prune test
    have hpr : ∀ K : Bl × Int32 → Option Bl, g3_findsLocks_137 K (bA s1 63 k (Int32.ofNat (c + d))) room (Int32.ofNat n) (Int32.ofNat k) (Int32.ofNat (uF row k)) = g3_findsLocks_164 K (bA s1 63 k (Int32.ofNat (c + d))) room (Int32.ofNat n) (Int32.ofNat k) (Int32.ofNat (uF row k)) (b2 (prL (uF (upN row k (c + d)) (k + 1)) S1)) := by
      intro K
      unfold g3_findsLocks_137 prL
      rw [show (bA s1 63 k (Int32.ofNat (c + d))).1 66 = S1.1 from hS.1]
      by_cases c1 : S1.1 = -1
      · rw [if_pos c1, decide_eq_false (fun z => z c1), Bool.false_and]; rfl
      · rw [if_neg c1, decide_eq_true c1, Bool.true_and, zI_succ, f3_locksUsed_eq (row := upN row k (c + d)) (k := k + 1) (by omega) (fun i hi => by
          show upd (s1.2.1 63) k (Int32.ofNat (c + d)) i = _ ∧ _
          unfold upd upN
          by_cases c : i = k
          · rw [if_pos c, if_pos c]; exact ⟨rfl, by omega⟩
          · rw [if_neg c, if_neg c]; exact ⟨(hr i (by omega)).1, by have := (hr i (by omega)).2; omega⟩), bnd_s]
        by_cases c2 : Int32.ofNat (uF (upN row k (c + d)) (k + 1)) < S1.1
        · rw [if_pos c2, decide_eq_false (Int32.not_le.mpr c2)]; rfl
        · rw [if_neg c2, decide_eq_true (Int32.not_lt.mp c2)]; rfl
    have b1 : 1 ≤ (e + 1) * (1 + B) := by
      have : 1 * 1 ≤ (e + 1) * (1 + B) := Nat.mul_le_mul (by omega) (by omega)
      omega
    by_cases hde : d = e
    · subst hde
      refine ⟨bA s1 63 k (Int32.ofNat (c + d)), (Rch.step fun K => ?_).mono b1, hF.row, hlk _, ?_⟩
      · rw [hb, hin, hpr]
        unfold g3_findsLocks_164
        rw [chk_h hk9, nk, lock_at, zif_lt (by omega) (by omega), if_pos (by omega)]
      · rw [Nat.sub_self]; exact hS.row
    · have hfit : lF row W k (c + d) + W k ≤ room := of_decide_eq_true (hsp.2 (by omega))
      cases hprv : prL (uF (upN row k (c + d)) (k + 1)) S1 with
      | true =>
        refine ⟨bA s1 63 k (Int32.ofNat (c + d)), (Rch.step fun K => ?_).mono b1, hF.row, hlk _, ?_⟩
        · rw [hb, hin, hpr, hprv]
          unfold g3_findsLocks_164
          rw [chk_h hk9, nk, lock_at, zif_lt (by omega) (by omega), if_neg (by omega), if_neg (by decide)]
        · rw [fdN_id]
          · exact hS.row
          · intro j h1 h2
            unfold fL
            by_cases cf : lF row W k j + W k ≤ room
            · rw [if_pos cf]
              refine goL_pr (prL_mono ?_ ?_ hprv)
              · rw [uF_up, uF_up]; exact mxL_mono h1
              · rw [uF_up]; have := mxL_le (u := uF row k) (kk := j) (k := k) (by omega) hu; omega
            · rw [if_neg cf]
      | false =>
        obtain ⟨st2, s4, q1, q2, q4, q5, q6⟩ := hsub (c + d) S1 (bA s1 63 k (Int32.ofNat (c + d))) (by omega) hprv hF.row (hr.put (by omega)) hS.row
        have hr4 : LkM s4 row k := fun i hi => by
          have := q5 i (by omega)
          unfold upN at this
          rw [if_neg (by omega)] at this
          exact this
        have h4k : s4.2.1 63 k = Int32.ofNat (c + d) := by
          have := (q5 k (by omega)).1
          unfold upN at this
          rw [if_pos rfl] at this
          exact this
        obtain ⟨s', p1, p2, p3, p4⟩ := ih (e - (d + 1)) (by omega) (c + d + 1) _ s4 (by omega) q4 hr4 q6 (Or.inr ⟨c + d, rfl, by omega, h4k⟩)
        refine ⟨s', (((Rch.step fun K => by rw [hb, hin, hpr, hprv]; exact q1 K).trans q2).trans p1).mono ?_, p2, p3, ?_⟩
        · have h1 : (e - (d + 1) + 1) * (1 + B) + (1 + B) = (e - (d + 1) + 1 + 1) * (1 + B) := by rw [Nat.succ_mul (e - (d + 1) + 1)]
          have h2 : (e - (d + 1) + 1 + 1) * (1 + B) ≤ (e + 1) * (1 + B) := Nat.mul_le_mul_right _ (by omega)
          omega
        · rw [show e - d = (e - (d + 1)) + 1 by omega]
          show BsM s' n (fdN _ (c + d + 1) (e - (d + 1)) (fL room W ws k row (c + d) S1))
          have ef : fL room W ws k row (c + d) S1 = goL room ws (k + 1) (upN row k (c + d)) (lF (upN row k (c + d)) W (k + 1)) (uF (upN row k (c + d)) (k + 1)) S1 := by unfold fL; rw [if_pos hfit]
          rw [ef]
          exact p4
end R

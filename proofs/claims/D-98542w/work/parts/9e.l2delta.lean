/-! PLAIN LAW: delta, the raft's side -/
set_option maxRecDepth 100000
/-- marks, sum, count -/
abbrev KS : Type := (Nat → Int32) × Int32 × Int32
def ov (n : Nat) (g old : Nat → Int32) : Nat → Int32 := fun t => if t < n then g t else old t
def joinG (g : Nat → Int32) (u w : Int32) : Nat → Int32 := fun t => if g t = u then w else g t
def lenI (a : Ar) (i j : Nat) : Int32 := (1 : Int32) + ((if 0 ≤ a 6 i - a 6 j then a 6 i - a 6 j else 0 - (a 6 i - a 6 j)) / (5 : Int32))
noncomputable def mk0 (a : Ar) (t : Nat) : Int32 := if a 9 t = 0 then Int32.ofNat (lowB (pc a (sRp a) t)) else -1
def cnd (a : Ar) (g : Nat → Int32) (L i j : Nat) : Bool := (decide (i < j) && decide (j < cT a)) && ((decide (a 9 i = 0) && decide (a 9 j = 0)) && (!decide (g i = g j) && decide (lenI a i j = Int32.ofNat L)))
def stK (a : Ar) (s : KS) (L i j : Nat) : KS := if cnd a s.1 L i j = true then (joinG s.1 (s.1 j) (s.1 i), s.2.1 + Int32.ofNat L, s.2.2 + 1) else s
def inK (a : Ar) (L i : Nat) : Nat → KS → KS
  | 0, s => s
  | j + 1, s => stK a (inK a L i j s) L i j
def rowK (a : Ar) (L : Nat) : Nat → KS → KS
  | 0, s => s
  | i + 1, s => inK a L i 8 (rowK a L i s)
def allK (a : Ar) : Nat → KS → KS
  | 0, s => s
  | l + 1, s => rowK a (l + 1) 8 (allK a l s)
theorem stK_no {a : Ar} {s : KS} {L i j : Nat} (h : ¬ (i < j ∧ j < cT a)) : stK a s L i j = s := by
  unfold stK
  rw [if_neg]
  unfold cnd
  intro z
  rw [Bool.and_eq_true, Bool.and_eq_true, decide_eq_true_eq, decide_eq_true_eq] at z
  exact h z.1
theorem inK_low {a : Ar} {L i : Nat} {s : KS} : ∀ k, k ≤ i + 1 → inK a L i k s = s
  | 0, _ => rfl
  | k + 1, h => by
    show stK a (inK a L i k s) L i k = s
    rw [inK_low k (by omega), stK_no (by omega)]
theorem inK_high {a : Ar} {L i : Nat} {s : KS} {n : Nat} : ∀ k, (cT a ≤ n ∨ n ≤ i + 1 ∧ cT a ≤ i + 1) → inK a L i (n + k) s = inK a L i n s
  | 0, _ => rfl
  | k + 1, h => by
    show stK a (inK a L i (n + k) s) L i (n + k) = _
    rw [inK_high k h, stK_no (by omega)]
theorem rowK_high {a : Ar} {L : Nat} {s : KS} : ∀ k, rowK a L (cT a + k) s = rowK a L (cT a) s
  | 0 => rfl
  | k + 1 => by
    show inK a L (cT a + k) 8 (rowK a L (cT a + k) s) = _
    rw [rowK_high k]
    have := inK_high (a := a) (L := L) (i := cT a + k) (s := rowK a L (cT a) s) (n := 0) 8 (Or.inr ⟨by omega, by omega⟩)
    rw [Nat.zero_add] at this
    exact this
def Xg (x : Nat → Bl) (a : Ar) (old : Nat → Int32) (g : Nat → Int32) : Nat → Bl := upX x 0 (bS (x 0) 25 (ov (cT a) g old))
section D
variable {x : Nat → Bl} {M : Bl} {v v1 v2 v3 : Int32} {old : Nat → Int32}
theorem Xg_1 {a : Ar} {g : Nat → Int32} : (Xg x a old g) 1 = x 1 := upX_ne (by decide)
theorem Xg_0 {a : Ar} {g : Nat → Int32} : ((Xg x a old g) 0).1 0 = (x 0).1 0 := by unfold Xg; rw [upX_self]; rfl
theorem Xg_25 {a : Ar} {g : Nat → Int32} {t : Nat} (ht : t < cT a) : ((Xg x a old g) 0).2.1 25 t = g t := by
  unfold Xg; rw [upX_self]
  show ov (cT a) g old t = g t
  unfold ov; rw [if_pos ht]
theorem Xg_RV {g : Nat → Int32} (hz : ¬ (x 0).1 0 = 0) (hv : RVa (x 1) M.2.1 (M.1 55)) : RV (Xg x M.2.1 old g) M := Or.inr ⟨by rw [Xg_0]; exact hz, by rw [Xg_1]; exact hv⟩
theorem f0_joins_eq (hz : ¬ (x 0).1 0 = 0) (hv : RVa (x 1) M.2.1 (M.1 55)) {g : Nat → Int32} {u w : Int32} : f0_joins (Xg x M.2.1 old g) u w = some (Xg x M.2.1 old (joinG g u w)) := by
  have h8 := hv.2.1.1.2.1.2
  have y0 : ∀ f : Nat → Int32, ((upX x 0 (bS (x 0) 25 f)) 0).1 0 = (x 0).1 0 := fun f => by rw [upX_self]; rfl
  have y1 : ∀ f : Nat → Int32, (upX x 0 (bS (x 0) 25 f)) 1 = x 1 := fun f => upX_ne (by decide)
  unfold f0_joins
  refine Eq.trans ?_ (loop_seq (body := g0_joins_2 u w) (fun k => (upX x 0 (bS (x 0) 25 (fun t => if t < k then joinG g u w t else ov (cT M.2.1) g old t)), Int32.ofNat k)) (cT M.2.1) (by omega) ?_ ?_)
  · (try dsimp only)
    congr 2
  · intro K k hk
    simp only [g0_joins_2]
    have e25 : ((upX x 0 (bS (x 0) 25 (fun t => if t < k then joinG g u w t else ov (cT M.2.1) g old t))) 0).2.1 25 k = g k := by
      rw [upX_self]
      show (if k < k then _ else ov (cT M.2.1) g old k) = g k
      rw [if_neg (by omega)]; unfold ov; rw [if_pos hk]
    rw [chk_h (decide_eq_true (by rw [y0]; exact hz)), y1, hv.1.nT hv.2.1.1, if_on hk (by omega), chk_h (zI_in (by omega) (by decide)), chk_h (zI_in (by omega) (by decide)), zI_nat (by omega), e25, zI_succ]
    have enx : ∀ r : Int32, r = joinG g u w k → upX (upX x 0 (bS (x 0) 25 (fun t => if t < k then joinG g u w t else ov (cT M.2.1) g old t))) 0 (bA ((upX x 0 (bS (x 0) 25 (fun t => if t < k then joinG g u w t else ov (cT M.2.1) g old t))) 0) 25 k r) = upX x 0 (bS (x 0) 25 (fun t => if t < k + 1 then joinG g u w t else ov (cT M.2.1) g old t)) := by
      intro r hr
      rw [upX_upX, upX_self]
      unfold bA
      rw [bS_bS]
      congr 2
      funext t
      simp only [bS, if_true]
      unfold upd
      by_cases e : t = k
      · subst e; rw [if_pos rfl, if_pos (by omega), hr]
      · rw [if_neg e]
        show (if t < k then joinG g u w t else ov (cT M.2.1) g old t) = _
        by_cases c : t < k
        · rw [if_pos c, if_pos (by omega)]
        · rw [if_neg c, if_neg (by omega)]
    by_cases hg : g k = u
    · rw [if_pos hg, enx w (by unfold joinG; rw [if_pos hg])]
    · rw [if_neg hg]
      have := enx (g k) (by unfold joinG; rw [if_neg hg])
      rw [← this]
      congr 2
      have e2 : bA ((upX x 0 (bS (x 0) 25 (fun t => if t < k then joinG g u w t else ov (cT M.2.1) g old t))) 0) 25 k (g k) = (upX x 0 (bS (x 0) 25 (fun t => if t < k then joinG g u w t else ov (cT M.2.1) g old t))) 0 := bA_id e25
      rw [e2, upX_id]
  · intro K
    simp only [g0_joins_2]
    rw [chk_h (decide_eq_true (by rw [y0]; exact hz)), y1, hv.1.nT hv.2.1.1, if_off]
    unfold Xg
    congr 3
    funext t
    unfold ov
    by_cases c : t < cT M.2.1
    · rw [if_pos c, if_pos c]
    · rw [if_neg c, if_neg c, if_neg c]
theorem f0_lengthOf_eq (hz : ¬ (x 0).1 0 = 0) (hv : RVa (x 1) M.2.1 (M.1 55)) {i j : Nat} (hi : i < cT M.2.1) (hj : j < cT M.2.1) : f0_lengthOf x (Int32.ofNat i) (Int32.ofNat j) = some (lenI M.2.1 i j) := by
  have h8 := hv.2.1.1.2.1.2
  have hcf : decide (¬ (x 0).1 0 = 0) = true := decide_eq_true hz
  unfold f0_lengthOf lenI
  simp only [hcf, chk_t]
  rw [chk_h (zI_in (by omega) (by decide)), chk_h (zI_in (by omega) (by decide)), zI_nat (by omega), zI_nat (by omega), hv.1.weight hi, hv.1.weight hj]
/-- a thing's partners of a length -/
theorem f0_delta_in (hz : ¬ (x 0).1 0 = 0) (hv : RVa (x 1) M.2.1 (M.1 55)) {K79 K89 : (Nat → Bl) × Int32 × Int32 × Int32 → Option (Int32 × (Nat → Bl))} {L i : Nat} (hi : i < cT M.2.1) (s : KS) : loop (g0_delta_107 v1 (Int32.ofNat L) (Int32.ofNat i) K79 K89) FU (Xg x M.2.1 old s.1, s.2.1, s.2.2, Int32.ofNat i + 1) = K89 (Xg x M.2.1 old (inK M.2.1 L i 8 s).1, (inK M.2.1 L i 8 s).2.1, (inK M.2.1 L i 8 s).2.2, Int32.ofNat (i + 1)) := by
  have h8 := hv.2.1.1.2.1.2
  have e8 : inK M.2.1 L i 8 s = inK M.2.1 L i (cT M.2.1) s := by
    have := inK_high (a := M.2.1) (L := L) (i := i) (s := s) (n := cT M.2.1) (8 - cT M.2.1) (Or.inl (Nat.le_refl _))
    rwa [show cT M.2.1 + (8 - cT M.2.1) = 8 by omega] at this
  rw [e8]
  refine Eq.trans ?_ (loop_seq (body := g0_delta_107 v1 (Int32.ofNat L) (Int32.ofNat i) K79 K89) (fun k => (Xg x M.2.1 old (inK M.2.1 L i (i + 1 + k) s).1, (inK M.2.1 L i (i + 1 + k) s).2.1, (inK M.2.1 L i (i + 1 + k) s).2.2, Int32.ofNat (i + 1 + k))) (cT M.2.1 - (i + 1)) (by omega) ?_ ?_)
  · (try dsimp only)
    rw [Nat.add_zero, inK_low (i + 1) (Nat.le_refl _), zI_succ]
  · intro K k hk
    have hj : i + 1 + k < cT M.2.1 := by omega
    show g0_delta_107 v1 (Int32.ofNat L) (Int32.ofNat i) K79 K89 K _ = K (Xg x M.2.1 old (inK M.2.1 L i (i + 1 + k + 1) s).1, (inK M.2.1 L i (i + 1 + k + 1) s).2.1, (inK M.2.1 L i (i + 1 + k + 1) s).2.2, Int32.ofNat (i + 1 + k + 1))
    have estep : inK M.2.1 L i (i + 1 + k + 1) s = stK M.2.1 (inK M.2.1 L i (i + 1 + k) s) L i (i + 1 + k) := rfl
    rw [estep]
    generalize inK M.2.1 L i (i + 1 + k) s = q
    generalize hjj : i + 1 + k = j at hj ⊢
    have hij : i < j := by omega
    obtain ⟨g, sm, ct⟩ := q
    have hzX : ¬ ((Xg x M.2.1 old g) 0).1 0 = 0 := by rw [Xg_0]; exact hz
    have hvX : RVa ((Xg x M.2.1 old g) 1) M.2.1 (M.1 55) := by rw [Xg_1]; exact hv
    have hin : inB (Int32.ofNat i) 8 = true := zI_in (by omega) (by decide)
    have hjn : inB (Int32.ofNat j) 8 = true := zI_in (by omega) (by decide)
    have hki : (Int32.ofNat i).toNatClampNeg = i := zI_nat (by omega)
    have hkj : (Int32.ofNat j).toNatClampNeg = j := zI_nat (by omega)
    simp only [g0_delta_107]
    rw [chk_h (decide_eq_true hzX), hvX.1.nT hvX.2.1.1, if_on hj (by omega), f0_isAfloat_eq (Xg_RV hz hv), f0_isAfloat_eq (Xg_RV hz hv), bnd_s, if_bit, isAf_nI h8 (by omega), isAf_nI h8 (by omega), zI_succ, bnd_s, if_bit, decide_eq_true hi, decide_eq_true hj, Bool.true_and, Bool.true_and, hin, hjn, chk_t, chk_t, chk_t, chk_t, hki, hkj, Xg_25 hi, Xg_25 hj, f0_lengthOf_eq hzX hvX hi hj, bnd_s, f0_joins_eq hz hv, bnd_s]
    unfold stK cnd
    rw [decide_eq_true hij, decide_eq_true hj, Bool.true_and, Bool.true_and]
    by_cases c1 : M.2.1 9 i = 0
    · by_cases c2 : M.2.1 9 j = 0
      · by_cases c3 : g i = g j
        · simp [c1, c2, c3]
        · by_cases c4 : lenI M.2.1 i j = Int32.ofNat L
          · simp [c1, c2, c3, c4]
          · simp [c1, c2, c3, c4]
      · simp [c1, c2]
    · simp [c1]
  · intro K
    show g0_delta_107 v1 (Int32.ofNat L) (Int32.ofNat i) K79 K89 K _ = _
    rw [show i + 1 + (cT M.2.1 - (i + 1)) = cT M.2.1 by omega]
    simp only [g0_delta_107]
    rw [chk_h (decide_eq_true (by rw [Xg_0]; exact hz)), Xg_1, hv.1.nT hv.2.1.1, if_off, zI_succ]
theorem f0_delta_row (hz : ¬ (x 0).1 0 = 0) (hv : RVa (x 1) M.2.1 (M.1 55)) {K79 : (Nat → Bl) × Int32 × Int32 × Int32 → Option (Int32 × (Nat → Bl))} {L : Nat} (s : KS) : loop (g0_delta_89 v1 (Int32.ofNat L) K79) FU (Xg x M.2.1 old s.1, s.2.1, s.2.2, (0 : Int32)) = K79 (Xg x M.2.1 old (rowK M.2.1 L 8 s).1, (rowK M.2.1 L 8 s).2.1, (rowK M.2.1 L 8 s).2.2, Int32.ofNat (L + 1)) := by
  have h8 := hv.2.1.1.2.1.2
  have e8 : rowK M.2.1 L 8 s = rowK M.2.1 L (cT M.2.1) s := by
    have := rowK_high (a := M.2.1) (L := L) (s := s) (8 - cT M.2.1)
    rwa [show cT M.2.1 + (8 - cT M.2.1) = 8 by omega] at this
  rw [e8]
  refine loop_seq (body := g0_delta_89 v1 (Int32.ofNat L) K79) (fun k => (Xg x M.2.1 old (rowK M.2.1 L k s).1, (rowK M.2.1 L k s).2.1, (rowK M.2.1 L k s).2.2, Int32.ofNat k)) (cT M.2.1) (by omega) ?_ ?_
  · intro K k hk
    simp only [g0_delta_89]
    rw [chk_h (decide_eq_true (by rw [Xg_0]; exact hz)), Xg_1, hv.1.nT hv.2.1.1, if_on hk (by omega), f0_delta_in hz hv hk]
    rfl
  · intro K
    simp only [g0_delta_89]
    rw [chk_h (decide_eq_true (by rw [Xg_0]; exact hz)), Xg_1, hv.1.nT hv.2.1.1, if_off, zI_succ]
theorem f0_delta_all (hz : ¬ (x 0).1 0 = 0) (hv : RVa (x 1) M.2.1 (M.1 55)) (s : KS) : loop (g0_delta_79 v1) FU (Xg x M.2.1 old s.1, s.2.1, s.2.2, (1 : Int32)) = some ((if v1 = 0 then (allK M.2.1 11 s).2.1 else (allK M.2.1 11 s).2.2), Xg x M.2.1 old (allK M.2.1 11 s).1) := by
  refine loop_seq (body := g0_delta_79 v1) (fun k => (Xg x M.2.1 old (allK M.2.1 k s).1, (allK M.2.1 k s).2.1, (allK M.2.1 k s).2.2, Int32.ofNat (k + 1))) 11 (by omega) ?_ ?_
  · intro K k hk
    simp only [g0_delta_79]
    rw [show (11 : Int32) = Int32.ofNat 11 from rfl, zif_lt (by omega) (by omega), if_neg (by omega), f0_delta_row hz hv]
    rfl
  · intro K
    simp only [g0_delta_79]
    rw [if_pos (show (11 : Int32) < Int32.ofNat (11 + 1) by decide)]
    split <;> rfl
theorem f0_delta_marks (hz : ¬ (x 0).1 0 = 0) (hv : RVa (x 1) M.2.1 (M.1 55)) : loop (g0_delta_26 v1) FU (x, (0 : Int32)) = some ((if v1 = 0 then (allK M.2.1 11 (mk0 M.2.1, 0, 0)).2.1 else (allK M.2.1 11 (mk0 M.2.1, 0, 0)).2.2), Xg x M.2.1 ((x 0).2.1 25) (allK M.2.1 11 (mk0 M.2.1, 0, 0)).1) := by
  have h8 := hv.2.1.1.2.1.2
  have y0 : ∀ f : Nat → Int32, ((upX x 0 (bS (x 0) 25 f)) 0).1 0 = (x 0).1 0 := fun f => by rw [upX_self]; rfl
  have y1 : ∀ f : Nat → Int32, (upX x 0 (bS (x 0) 25 f)) 1 = x 1 := fun f => upX_ne (by decide)
  refine Eq.trans ?_ (loop_seq (body := g0_delta_26 v1) (fun k => (upX x 0 (bS (x 0) 25 (fun t => if t < k then mk0 M.2.1 t else (x 0).2.1 25 t)), Int32.ofNat k)) (cT M.2.1) (by omega) ?_ ?_)
  · (try dsimp only)
    have e : (fun t => if t < 0 then mk0 M.2.1 t else (x 0).2.1 25 t) = (x 0).2.1 25 := by funext t; simp
    rw [e, bS_self, upX_id]; rfl
  · intro K k hk
    have hzX : ¬ ((upX x 0 (bS (x 0) 25 (fun t => if t < k then mk0 M.2.1 t else (x 0).2.1 25 t))) 0).1 0 = 0 := by rw [y0]; exact hz
    have hvX : RVa ((upX x 0 (bS (x 0) 25 (fun t => if t < k then mk0 M.2.1 t else (x 0).2.1 25 t))) 1) M.2.1 (M.1 55) := by rw [y1]; exact hv
    have enx : ∀ r : Int32, r = mk0 M.2.1 k → upX (upX x 0 (bS (x 0) 25 (fun t => if t < k then mk0 M.2.1 t else (x 0).2.1 25 t))) 0 (bA ((upX x 0 (bS (x 0) 25 (fun t => if t < k then mk0 M.2.1 t else (x 0).2.1 25 t))) 0) 25 k r) = upX x 0 (bS (x 0) 25 (fun t => if t < k + 1 then mk0 M.2.1 t else (x 0).2.1 25 t)) := by
      intro r hr
      rw [upX_upX, upX_self]
      unfold bA
      rw [bS_bS]
      congr 2
      funext t
      simp only [bS, if_true]
      unfold upd
      by_cases e : t = k
      · subst e; rw [if_pos rfl, if_pos (by omega), hr]
      · rw [if_neg e]
        show (if t < k then mk0 M.2.1 t else (x 0).2.1 25 t) = _
        by_cases c : t < k
        · rw [if_pos c, if_pos (by omega)]
        · rw [if_neg c, if_neg (by omega)]
    simp only [g0_delta_26]
    rw [chk_h (decide_eq_true hzX), hvX.1.nT hvX.2.1.1, if_on hk (by omega), f0_isAfloat_eq (Or.inr ⟨hzX, hvX⟩), bnd_s, if_bit, isAf_nI h8 (by omega), zI_succ, decide_eq_true hk, Bool.true_and, chk_h (decide_eq_true hzX), f1_pieceOf_eq hvX.2.1 hvX.1 (by omega), bnd_s, chk_h (zI_in (by omega) (by decide)), zI_nat (by omega), (ntz_eq small_pc (pc_ne (by omega))).2.2.1, bnd_s]
    by_cases h9 : M.2.1 9 k = 0
    · rw [if_pos (decide_eq_true h9), chk_h (zI_in (by omega) (by decide)), enx _ (by unfold mk0; rw [if_pos h9])]
    · rw [if_neg (by simpa using h9), enx _ (by unfold mk0; rw [if_neg h9])]
  · intro K
    simp only [g0_delta_26]
    rw [chk_h (decide_eq_true (by rw [y0]; exact hz)), y1, hv.1.nT hv.2.1.1, if_off]
    exact f0_delta_all hz hv (mk0 M.2.1, 0, 0)
end D

/-! PLAIN LAW: those that go on behind each landing -/
set_option maxRecDepth 100000
def anyB (p : Nat → Bool) : Nat → Bool
  | 0 => false
  | n + 1 => anyB p n || p n
theorem anyB_iff {p : Nat → Bool} : ∀ n, anyB p n = true ↔ ∃ k, k < n ∧ p k = true
  | 0 => ⟨fun h => (by cases h), fun ⟨k, h, _⟩ => absurd h (Nat.not_lt_zero k)⟩
  | n + 1 => by
    unfold anyB
    rw [Bool.or_eq_true, anyB_iff n]
    constructor
    · rintro (⟨k, h, e⟩ | h)
      · exact ⟨k, by omega, e⟩
      · exact ⟨n, by omega, h⟩
    · rintro ⟨k, h, e⟩
      by_cases c : k = n
      · subst c; exact Or.inr e
      · exact Or.inl ⟨k, by omega, e⟩
def acL (p q : Nat → Bool) : Nat → Bool
  | 0 => true
  | n + 1 => acL p q n && (!p n || q n)
theorem acL_iff {p q : Nat → Bool} : ∀ n, acL p q n = true ↔ ∀ k, k < n → p k = true → q k = true
  | 0 => ⟨fun _ k h => absurd h (Nat.not_lt_zero k), fun _ => rfl⟩
  | n + 1 => by
    unfold acL
    rw [Bool.and_eq_true, acL_iff n]
    constructor
    · rintro ⟨h1, h2⟩ k hk hp
      by_cases c : k = n
      · subst c; rw [hp] at h2; simpa using h2
      · exact h1 k (by omega) hp
    · intro h
      refine ⟨fun k hk => h k (by omega), ?_⟩
      cases c : p n with
      | false => rfl
      | true => rw [h n (by omega) c]; rfl
def apL (p : Nat → Bool) (f : Nat → Int32) : Nat → List Int32
  | 0 => []
  | n + 1 => if p n = true then apL p f n ++ [f n] else apL p f n
theorem apL_mem {p : Nat → Bool} {f : Nat → Int32} {s : Int32} : ∀ n, s ∈ apL p f n ↔ ∃ k, k < n ∧ p k = true ∧ s = f k
  | 0 => ⟨fun h => (by cases h), fun ⟨k, h, _⟩ => absurd h (Nat.not_lt_zero k)⟩
  | n + 1 => by
    unfold apL
    by_cases c : p n = true
    · rw [if_pos c, List.mem_append, apL_mem n, List.mem_singleton]
      constructor
      · rintro (⟨k, h, e⟩ | h)
        · exact ⟨k, by omega, e⟩
        · exact ⟨n, by omega, c, h⟩
      · rintro ⟨k, h, e⟩
        by_cases c2 : k = n
        · subst c2; exact Or.inr e.2
        · exact Or.inl ⟨k, by omega, e⟩
    · rw [if_neg c, apL_mem n]
      constructor
      · rintro ⟨k, h, e⟩; exact ⟨k, by omega, e⟩
      · rintro ⟨k, h, e⟩
        by_cases c2 : k = n
        · subst c2; exact absurd e.1 c
        · exact ⟨k, by omega, e⟩
theorem apL_len {p : Nat → Bool} {f : Nat → Int32} : ∀ n, (apL p f n).length = cntB n p
  | 0 => rfl
  | n + 1 => by
    unfold apL
    have e : cntB (n + 1) p = cntB n p + (if p n = true then 1 else 0) := rfl
    rw [e]
    by_cases c : p n = true
    · rw [if_pos c, if_pos c, List.length_append, apL_len n]; rfl
    · rw [if_neg c, if_neg c, apL_len n]; rfl
theorem cntB_le {p : Nat → Bool} : ∀ n, cntB n p ≤ n
  | 0 => Nat.le_refl _
  | n + 1 => by
    have e : cntB (n + 1) p = cntB n p + (if p n = true then 1 else 0) := rfl
    have := cntB_le (p := p) n
    rw [e]; split <;> omega
theorem cntB_mono {p : Nat → Bool} {m n : Nat} (h : m ≤ n) : cntB m p ≤ cntB n p := by
  obtain ⟨d, rfl⟩ : ∃ d, n = m + d := ⟨n - m, by omega⟩
  clear h
  induction d with
  | zero => exact Nat.le_refl _
  | succ d ih =>
    have e : cntB (m + (d + 1)) p = cntB (m + d) p + (if p (m + d) = true then 1 else 0) := rfl
    rw [e]; omega
/-- as many as owners at most -/
theorem cntB_own {L : Nat → Nat} {N : Nat} : ∀ (O : Nat) (p : Nat → Bool), (∀ j, j < N → p j = true → ∃ o, o < O ∧ L o = j) → cntB N p ≤ O
  | 0, p, h => by
    rw [(cntB_zero N).mpr]
    · exact Nat.le_refl _
    · intro j hj
      cases c : p j with
      | false => rfl
      | true => obtain ⟨o, h1, _⟩ := h j hj c; exact absurd h1 (Nat.not_lt_zero o)
  | O + 1, p, h => by
    have h1 := cntB_own (L := L) (N := N) O (rmB p (L O)) (fun j hj hp => by
      unfold rmB at hp
      rw [Bool.and_eq_true] at hp
      obtain ⟨o, h1, h2⟩ := h j hj hp.1
      refine ⟨o, ?_, h2⟩
      rcases Nat.lt_or_ge o O with c | c
      · exact c
      · have : o = O := by omega
        subst this
        have h3 := hp.2
        rw [h2] at h3
        simp at h3)
    by_cases c : p (L O) = true
    · have h2 := sumN_rm (lf := p) (p := fun _ => true) c N
      simp only [Bool.and_true] at h2
      unfold cntB at h1 ⊢
      rw [h2]
      split <;> omega
    · have : cntB N p = cntB N (rmB p (L O)) := sumN_congr fun j _ => by
        unfold rmB
        by_cases e : j = L O
        · subst e; simp [c]
        · simp [e]
      omega
noncomputable def landT (a : Ar) (t : Nat) : Int32 := a 2 (a 5 t).toNatClampNeg
noncomputable def ltS (a : Ar) (v : Int32) : Int32 := mkS (cT a) (fun t => bit (sAf a) t && decide (v < landT a t))
noncomputable def lnB (a : Ar) (v : Int32) (n : Nat) : Bool := anyB (fun t => bit (sAf a) t && decide (landT a t = v)) n
noncomputable def okS (a : Ar) (v : Int32) : Bool := decide (¬ stB a (ltS a v) (v - a 1 6) - sWt a (ltS a v) < 0)
theorem b2_or (x y : Bool) : b2 x ||| b2 y = b2 (x || y) := by cases x <;> cases y <;> rfl
theorem b2_and (x y : Bool) : b2 x &&& b2 y = b2 (x && y) := by cases x <;> cases y <;> rfl
section P
variable {x y : Nat → Bl} {M s : Bl} {v v1 v2 v3 : Int32}
theorem g68_eq (hz : ¬ (y 0).1 0 = 0) (g : GR M.2.1) (hf : FR (y 1) M.2.1) {K : (Nat → Bl) × Int32 × Int32 → Option (Int32 × (Nat → Bl))} : loop (g0_gathersTogether_68 y (sAf M.2.1) v2 v3 v K) FU ((0 : Int32), (0 : Int32), (0 : Int32)) = if lnB M.2.1 v (cT M.2.1) = true then g0_gathersTogether_188 K y (sAf M.2.1) v3 (ltS M.2.1 v) (b2 (okS M.2.1 v)) v2 else K (y, v2, v3 + (1 : Int32)) := by
  have h8 := g.1.2.1.2
  have hO6 := g.1.1.2
  have hcf : decide (¬ (y 0).1 0 = 0) = true := decide_eq_true hz
  refine loop_seq (fun t => (mkS t (fun t => bit (sAf M.2.1) t && decide (v < landT M.2.1 t)), b2 (lnB M.2.1 v t), Int32.ofNat t)) (cT M.2.1) (by omega) ?_ ?_
  · intro K2 t ht
    have htn : inB (Int32.ofNat t) 8 = true := zI_in (by omega) (by decide)
    have nt : (Int32.ofNat t).toNatClampNeg = t := zI_nat (by omega)
    obtain ⟨q, hq, e⟩ := (isK_iff (by omega)).mp (g.2.2.1 t ht).2.2.2
    have nq : (Int32.ofNat q).toNatClampNeg = q := zI_nat (by omega)
    have hqn : inB (Int32.ofNat q) 6 = true := zI_in (by omega) (by decide)
    have el : landT M.2.1 t = M.2.1 2 q := by unfold landT; rw [e, nq]
    simp only [g0_gathersTogether_68]
    rw [chk_h hcf, hf.nT g.1, if_on ht (by omega), has_bit0 (by omega), bnd_s, if_bit]
    have hln : lnB M.2.1 v (t + 1) = (lnB M.2.1 v t || (bit (sAf M.2.1) t && decide (landT M.2.1 t = v))) := rfl
    rw [hln]
    cases hb : bit (sAf M.2.1) t with
    | false =>
      rw [if_neg (by decide), zI_succ, Bool.false_and, Bool.or_false]
      rw [← mkS_no (by rw [hb, Bool.false_and])]
    | true =>
      rw [if_pos rfl, chk_h hcf, chk_h hcf, chk_h htn, nt, hf.owner ht, e, chk_h hqn, nq, hf.landing hq, Bool.true_and, el]
      have g126 : ∀ z : Bool, g0_gathersTogether_126 K K2 y (sAf M.2.1) v2 v3 v (mkS t (fun t => bit (sAf M.2.1) t && decide (v < landT M.2.1 t))) (Int32.ofNat t) (M.2.1 2 q) (b2 z) (b2 (lnB M.2.1 v t)) = K2 (mkS (t + 1) (fun t => bit (sAf M.2.1) t && decide (v < landT M.2.1 t)), b2 (lnB M.2.1 v t || z), Int32.ofNat (t + 1)) := by
        intro z
        unfold g0_gathersTogether_126
        rw [b2_or, zI_succ]
        by_cases c : M.2.1 2 q ≤ v
        · rw [if_pos c, mkS_no0 (by rw [hb, el, Bool.true_and]; exact decide_eq_false (Int32.not_lt.mpr c))]
        · rw [if_neg c, mkS_yes (by omega) (by rw [hb, el, Bool.true_and]; exact decide_eq_true (Int32.not_le.mp c))]
      have a0 := g126 false
      have a1 := g126 true
      by_cases c : M.2.1 2 q = v
      · rw [if_pos c, decide_eq_true c]; exact a1
      · rw [if_neg c, decide_eq_false c]; exact a0
  · intro K2
    simp only [g0_gathersTogether_68]
    rw [chk_h hcf, hf.nT g.1, if_off, if_bit]
    by_cases c : lnB M.2.1 v (cT M.2.1) = true
    · rw [if_pos c, if_pos c, chk_h hcf, hf.now]
      have hb := f0_bearsThen_eq (M := M) hz g hf (P := ltS M.2.1 v) (m := v - M.2.1 1 6)
      unfold ltS at hb
      rw [hb, bnd_s]
      unfold okS ltS
      by_cases c2 : stB M.2.1 (mkS (cT M.2.1) (fun t => bit (sAf M.2.1) t && decide (v < landT M.2.1 t))) (v - M.2.1 1 6) - sWt M.2.1 (mkS (cT M.2.1) (fun t => bit (sAf M.2.1) t && decide (v < landT M.2.1 t))) < 0
      · rw [if_pos c2, decide_eq_false (fun z => z c2)]; rfl
      · rw [if_neg c2, decide_eq_true c2]; rfl
    · rw [if_neg c, if_neg c]
theorem g53_eq (g : GR s.2.1) {b : Bool} {K : Bl × Int32 × Int32 → Option (Int32 × Bl)} : loop (g3_laysLater_53 s (sAf s.2.1) (b2 b) v K) FU ((0 : Int32), (0 : Int32), (0 : Int32)) = if lnB s.2.1 v (cT s.2.1) = true then g3_laysLater_237 K s (sAf s.2.1) v (ltS s.2.1 v) (b2 (b && okS s.2.1 v)) else K (s, b2 b, v + (1 : Int32)) := by
  have h8 := g.1.2.1.2
  have h3 := g.1.2.1.1
  have hO6 := g.1.1.2
  have fin : loop (g3_laysLater_153 s (sAf s.2.1) (b2 b) v (ltS s.2.1 v) K) FU (-(sWt s.2.1 (ltS s.2.1 v)), (0 : Int32)) = g3_laysLater_237 K s (sAf s.2.1) v (ltS s.2.1 v) (b2 (b && okS s.2.1 v)) := by
    have e0 : (-(sWt s.2.1 (ltS s.2.1 v)), (0 : Int32)) = (fun t => (-(sWt s.2.1 (ltS s.2.1 v)) + sumI t (fun t => if bit (ltS s.2.1 v) t = true then skd (s.2.1 7 t) (s.2.1 8 t) (v - s.2.1 1 6) else 0), Int32.ofNat t)) 0 := by
      show _ = (-(sWt s.2.1 (ltS s.2.1 v)) + 0, Int32.ofNat 0)
      rw [Int32.add_zero]; rfl
    rw [e0]
    refine loop_seq (fun t => (-(sWt s.2.1 (ltS s.2.1 v)) + sumI t (fun t => if bit (ltS s.2.1 v) t = true then skd (s.2.1 7 t) (s.2.1 8 t) (v - s.2.1 1 6) else 0), Int32.ofNat t)) (cT s.2.1) (by omega) ?_ ?_
    · intro K2 t ht
      have htn : inB (Int32.ofNat t) 8 = true := zI_in (by omega) (by decide)
      have nt : (Int32.ofNat t).toNatClampNeg = t := zI_nat (by omega)
      simp only [g3_laysLater_153]
      rw [h3, if_on ht (by omega), chk_h htn, chk_h htn, nt, ltv_s, has_bit (by omega), bnd_s, if_bit, zI_succ]
      have hs : ∀ f : Nat → Int32, sumI (t + 1) f = sumI t f + f t := fun _ => rfl
      rw [hs]
      by_cases hb : bit (ltS s.2.1 v) t = true
      · rw [if_pos hb, if_pos hb]
        unfold skd
        by_cases c : s.2.1 7 t - s.2.1 8 t * (v - s.2.1 1 6) ≤ 0
        · rw [if_pos c, if_pos c, Int32.add_assoc]
        · rw [if_neg c, if_neg c, Int32.add_assoc]
      · rw [if_neg hb, if_neg hb, Int32.add_assoc]
    · intro K2
      simp only [g3_laysLater_153]
      rw [h3, if_off, if_bit]
      have e1 : -(sWt s.2.1 (ltS s.2.1 v)) + sumI (cT s.2.1) (fun t => if bit (ltS s.2.1 v) t = true then skd (s.2.1 7 t) (s.2.1 8 t) (v - s.2.1 1 6) else 0) = stB s.2.1 (ltS s.2.1 v) (v - s.2.1 1 6) - sWt s.2.1 (ltS s.2.1 v) := by
        rw [Int32.add_comm, ← Int32.sub_eq_add_neg]; rfl
      rw [e1]
      unfold okS
      by_cases c2 : stB s.2.1 (ltS s.2.1 v) (v - s.2.1 1 6) - sWt s.2.1 (ltS s.2.1 v) < 0
      · rw [if_pos c2, decide_eq_false (fun z => z c2)]; cases b <;> rfl
      · rw [if_neg c2, decide_eq_true c2]; cases b <;> rfl
  refine loop_seq (fun t => (mkS t (fun t => bit (sAf s.2.1) t && decide (v < landT s.2.1 t)), b2 (lnB s.2.1 v t), Int32.ofNat t)) (cT s.2.1) (by omega) ?_ ?_
  · intro K2 t ht
    have htn : inB (Int32.ofNat t) 8 = true := zI_in (by omega) (by decide)
    have nt : (Int32.ofNat t).toNatClampNeg = t := zI_nat (by omega)
    obtain ⟨q, hq, e⟩ := (isK_iff (by omega)).mp (g.2.2.1 t ht).2.2.2
    have nq : (Int32.ofNat q).toNatClampNeg = q := zI_nat (by omega)
    have hqn : inB (Int32.ofNat q) 6 = true := zI_in (by omega) (by decide)
    have el : landT s.2.1 t = s.2.1 2 q := by unfold landT; rw [e, nq]
    simp only [g3_laysLater_53]
    rw [h3, if_on ht (by omega), has_bit (by omega), bnd_s, if_bit]
    have hln : lnB s.2.1 v (t + 1) = (lnB s.2.1 v t || (bit (sAf s.2.1) t && decide (landT s.2.1 t = v))) := rfl
    rw [hln]
    cases hb : bit (sAf s.2.1) t with
    | false =>
      rw [if_neg (by decide), zI_succ, Bool.false_and, Bool.or_false]
      rw [← mkS_no (by rw [hb, Bool.false_and])]
    | true =>
      rw [if_pos rfl, chk_h htn, nt, e, chk_h hqn, nq, Bool.true_and, el]
      have g99 : ∀ z : Int32, g3_laysLater_99 K K2 s (sAf s.2.1) (b2 b) v (b2 (lnB s.2.1 v t)) (Int32.ofNat t) z (mkS t (fun t => bit (sAf s.2.1) t && decide (v < landT s.2.1 t))) = K2 (mkS t (fun t => bit (sAf s.2.1) t && decide (v < landT s.2.1 t)) ||| z, b2 (lnB s.2.1 v t || decide (s.2.1 2 q = v)), Int32.ofNat (t + 1)) := by
        intro z
        unfold g3_laysLater_99
        rw [if_bit, chk_h htn, nt, e, chk_h hqn, nq, zI_succ]
        cases lnB s.2.1 v t with
        | true => rfl
        | false =>
          by_cases c : s.2.1 2 q = v
          · rw [if_pos c, decide_eq_true c]; rfl
          · rw [if_neg c, decide_eq_false c]; rfl
      by_cases c : s.2.1 2 q ≤ v
      · rw [if_pos c, g99, mkS_no0 (by rw [hb, el, Bool.true_and]; exact decide_eq_false (Int32.not_lt.mpr c))]
      · rw [if_neg c, g99, mkS_yes (by omega) (by rw [hb, el, Bool.true_and]; exact decide_eq_true (Int32.not_le.mp c))]
  · intro K2
    simp only [g3_laysLater_53]
    rw [h3, if_off, if_bit]
    by_cases c : lnB s.2.1 v (cT s.2.1) = true
    · rw [if_pos c, if_pos c, f3_weightOf_eq g.1, bnd_s]
      exact fin
    · rw [if_neg c, if_neg c]
end P

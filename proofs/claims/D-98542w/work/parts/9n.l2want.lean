/-! PLAIN LAW: a rule, and what the Model keeps of it -/
set_option maxRecDepth 100000
/-- a clause's entries: sum from p to q, test from q to e -/
def CU (c : Cls) (so nu : Nat → Int32) (p q e : Nat) : Prop := EV so nu p q c.1 ∧ q ≤ e ∧ e ≤ 300 ∧ match c.2 with
  | none => q = e
  | some t => EV so nu q e (fun w => tL (t w))
/-- rule r of the Model is cs -/
def RU (cs : List Cls) (a : Ar) (r : Nat) : Prop := cs.length ≤ 12 ∧ a 44 r = Int32.ofNat cs.length ∧ ∀ c cl, cs[c]? = some cl → ∃ p q e, a 45 (12 * r + c) = Int32.ofNat p ∧ a 46 (12 * r + c) = Int32.ofNat q ∧ a 47 (12 * r + c) = Int32.ofNat e ∧ CU cl (soA a r) (nuA a r) p q e
theorem tL_one (b : Bool) : (tL b = 1) = (b = true) := by cases b <;> simp [tL]
theorem f3_wanted_eq {M : Bl} {r : Nat} {cs : List Cls} (hr : r < 6) (h : RU cs M.2.1 r) : ∃ s', f3_wanted M (Int32.ofNat r) = some (sumV (M.2.2 49) cs, s') ∧ Kb M s' := by
  obtain ⟨hlen, h44, hcl⟩ := h
  have hrn : inB (Int32.ofNat r) 6 = true := zI_in hr (by decide)
  have nr : (Int32.ofNat r).toNatClampNeg = r := zI_nat (by omega)
  have e12 : (12 : Int32) * Int32.ofNat r = Int32.ofNat (12 * r) := by rw [show (12 : Int32) = Int32.ofNat 12 from rfl, ← Int32.ofNat_mul]
  have key : ∃ q, f3_wanted M (Int32.ofNat r) = some q ∧ q.1 = sumV (M.2.2 49) cs ∧ Kb M q.2 := by
    unfold f3_wanted
    rw [e12]
    refine loop_post (fun s : Bl × Int32 => ∃ c, c ≤ cs.length ∧ s.2 = Int32.ofNat (12 * r + c) ∧ Kb M s.1 ∧ sumV (M.2.2 49) (cs.drop c) = sumV (M.2.2 49) cs) (fun s => 1000 - s.2.toNatClampNeg) _ ?_ ⟨0, Nat.zero_le _, rfl, Kb.refl, rfl⟩ (by omega)
    rintro K ⟨s, v2⟩ ⟨c, hc, hv, hk, hs⟩ IH
    dsimp only at hv hk hs
    subst hv
    simp only [g3_wanted_5]
    rw [chk_h hrn, hk.2.1, nr, h44, e12, ← Int32.ofNat_add, zif_le (by omega) (by omega)]
    by_cases hend : 12 * r + cs.length ≤ 12 * r + c
    · rw [if_pos hend]
      have e : c = cs.length := by omega
      rw [e, List.drop_length] at hs
      exact ⟨_, rfl, hs, hk⟩
    · rw [if_neg hend]
      have hc2 : c < cs.length := by omega
      have hcn : inB (Int32.ofNat (12 * r + c)) 72 = true := zI_in (by omega) (by decide)
      have nc : (Int32.ofNat (12 * r + c)).toNatClampNeg = 12 * r + c := zI_nat (by omega)
      obtain ⟨p, q, e, a1, a2, a3, b1, b2, b3, b4⟩ := hcl c cs[c] (List.getElem?_eq_getElem hc2)
      rw [List.drop_eq_getElem_cons hc2] at hs
      have hpq := b1.1
      rw [chk_h hcn, chk_h hcn, nc, a2, a3, chk_h hcn, chk_h hcn, chk_h hcn, chk_h hcn, a1, zif_eq (by omega) (by omega)]
      have ans : ∀ s : Bl, Kb M s → ∃ s', f3_answer s (Int32.ofNat r) (Int32.ofNat p) (Int32.ofNat q) = some (cs[c].1 (M.2.2 49), s') ∧ Kb M s' := by
        intro s hk
        obtain ⟨s1, g1, g2⟩ := f3_answer_eq (M := s) (a := p) (b := q) hr (by omega) (by rw [hk.2.1]; exact b1)
        rw [hk.2.2 49 (by decide)] at g1
        exact ⟨s1, g1, hk.trans g2⟩
      cases hc1 : cs[c].2 with
      | none =>
        rw [hc1] at b4
        dsimp only at b4
        rw [if_pos b4]
        obtain ⟨s1, g1, g2⟩ := ans s hk
        rw [g1, bnd2_s]
        refine ⟨_, rfl, ?_, g2⟩
        rw [← hs]
        simp only [sumV, fitsV, hc1, if_true]
      | some t =>
        rw [hc1] at b4
        dsimp only at b4
        have hlt := b4.lt
        rw [if_neg (by omega)]
        obtain ⟨s1, g1, g2⟩ := f3_answer_eq (M := s) (a := q) (b := e) hr (by omega) (by rw [hk.2.1]; exact b4)
        rw [hk.2.2 49 (by decide)] at g1
        have g3 := hk.trans g2
        rw [g1, bnd2_s]
        by_cases ht : t (M.2.2 49) = true
        · rw [if_pos ((lg_cmp_eq _ _).mpr (by rw [tL_one]; exact ht)), g3.2.1, a1, a2]
          obtain ⟨s2, g4, g5⟩ := ans s1 g3
          rw [g4, bnd2_s]
          simp only [chk_h hcn]
          refine ⟨(cs[c].1 (M.2.2 49), s2), rfl, ?_, g5⟩
          rw [← hs]
          simp [sumV, fitsV, hc1, ht]
        · rw [if_neg (fun z => ht (by rw [← tL_one]; exact (lg_cmp_eq _ _).mp z))]
          refine IH _ ⟨c + 1, by omega, by rw [zI_succ]; rfl, g3, ?_⟩ ?_
          · rw [← hs]
            simp [sumV, fitsV, hc1, ht]
          · dsimp only
            rw [zI_succ, zI_nat (by omega), zI_nat (by omega)]; omega
  obtain ⟨⟨q1, q2⟩, e1, e2, e3⟩ := key
  dsimp only at e2 e3
  subst e2
  exact ⟨q2, e1, e3⟩
/-- the sum depends on the twelve words alone -/
theorem RU.w {cs : List Cls} {a : Ar} {r : Nat} (h : RU cs a r) {w w' : Nat → Int64} (e : ∀ k, k < 12 → w k = w' k) : sumV w cs = sumV w' cs := by
  have key : ∀ n c, cs.length - c = n → sumV w (cs.drop c) = sumV w' (cs.drop c) := by
    intro n
    induction n with
    | zero => intro c hc; rw [List.drop_eq_nil_of_le (by omega)]; rfl
    | succ n ih =>
      intro c hc
      have hc2 : c < cs.length := by omega
      obtain ⟨p, q, e1, -, -, -, b1, b2, b3, b4⟩ := h.2.2 c cs[c] (List.getElem?_eq_getElem hc2)
      rw [List.drop_eq_getElem_cons hc2]
      have hf : fitsV cs[c] w = fitsV cs[c] w' := by
        unfold fitsV
        cases hc1 : cs[c].2 with
        | none => rfl
        | some t =>
          rw [hc1] at b4
          have := b4.w e
          dsimp only at this ⊢
          cases h1 : t w <;> cases h2 : t w' <;> rw [h1, h2] at this <;> first | rfl | exact absurd this (by decide)
      simp only [sumV, hf, b1.w e, ih (c + 1) (by omega)]
  exact key _ 0 rfl

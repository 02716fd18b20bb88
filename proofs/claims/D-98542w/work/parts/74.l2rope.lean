/-! PLAIN LAW: ropes as a list; those that go -/
set_option maxRecDepth 100000
abbrev Tr : Type := Int32 × Int32 × Int32
def rl (f g h : Nat → Int32) (n : Nat) : List Tr := (List.range n).map (fun i => (f i, g i, h i))
section RL
variable {f g h f' g' h' : Nat → Int32} {n n' : Nat}
theorem rl_len : (rl f g h n).length = n := by simp [rl]
theorem rl_get (i : Nat) : (rl f g h n)[i]? = if i < n then some (f i, g i, h i) else none := by
  by_cases hi : i < n
  · rw [if_pos hi, rl, List.getElem?_map, List.getElem?_range hi]; rfl
  · rw [if_neg hi, List.getElem?_eq_none (by rw [rl_len]; omega)]
theorem rl_succ : rl f g h (n + 1) = rl f g h n ++ [(f n, g n, h n)] := by simp [rl, List.range_succ]
theorem rl_congr (e : ∀ i, i < n → f i = f' i ∧ g i = g' i ∧ h i = h' i) : rl f g h n = rl f' g' h' n := by
  refine List.ext_getElem? fun i => ?_
  rw [rl_get, rl_get]
  by_cases hi : i < n
  · rw [if_pos hi, if_pos hi, (e i hi).1, (e i hi).2.1, (e i hi).2.2]
  · rw [if_neg hi, if_neg hi]
theorem rl_inj (e : rl f g h n = rl f' g' h' n') : n = n' ∧ ∀ i, i < n → f i = f' i ∧ g i = g' i ∧ h i = h' i := by
  have e1 : n = n' := by have := congrArg List.length e; rwa [rl_len, rl_len] at this
  subst e1
  refine ⟨rfl, fun i hi => ?_⟩
  have := congrArg (fun l => l[i]?) e
  simp only [rl_get, if_pos hi, Option.some.injEq, Prod.mk.injEq] at this
  exact this
theorem rl_mem {x : Tr} (hx : x ∈ rl f g h n) : ∃ i, i < n ∧ x = (f i, g i, h i) := by
  simp only [rl, List.mem_map, List.mem_range] at hx
  obtain ⟨i, hi, e⟩ := hx
  exact ⟨i, hi, e.symm⟩
theorem mem_rl {i : Nat} (hi : i < n) : (f i, g i, h i) ∈ rl f g h n := by
  simp only [rl, List.mem_map, List.mem_range]
  exact ⟨i, hi, rfl⟩
end RL
def sumL : List Tr → Int32
  | [] => 0
  | x :: l => x.2.2 + sumL l
theorem sumL_app (l m : List Tr) : sumL (l ++ m) = sumL l + sumL m := by
  induction l with
  | nil => simp [sumL]
  | cons x l ih => simp only [List.cons_append, sumL]; rw [ih, Int32.add_assoc]
/-- of the first n those that stay, those that go -/
def klF (t : Nat → Tr) (S : Int32) : Nat → List Tr
  | 0 => []
  | n + 1 => if bit S n then klF t S n else klF t S n ++ [t n]
def klR (t : Nat → Tr) (S : Int32) : Nat → List Tr
  | 0 => []
  | n + 1 => if bit S n then klR t S n ++ [t n] else klR t S n
theorem klF_len (t : Nat → Tr) (S : Int32) : ∀ n, (klF t S n).length ≤ n
  | 0 => Nat.le_refl _
  | n + 1 => by have := klF_len t S n; unfold klF; split <;> simp <;> omega
theorem klF_filter {f g h : Nat → Int32} {S : Int32} {P : Tr → Bool} : ∀ n, (∀ k, k < n → bit S k = P (f k, g k, h k)) → klF (fun i => (f i, g i, h i)) S n = (rl f g h n).filter (fun x => !P x) ∧ klR (fun i => (f i, g i, h i)) S n = (rl f g h n).filter P
  | 0, _ => ⟨rfl, rfl⟩
  | n + 1, hh => by
    have ih := klF_filter n (fun k hk => hh k (by omega))
    have h1 := hh n (by omega)
    unfold klF klR
    rw [rl_succ, List.filter_append, List.filter_append, ih.1, ih.2, h1]
    cases hp : P (f n, g n, h n) <;> simp [hp]
theorem f1_loses_eq {F : Bl} {S : Int32} {n : Nat} (hn : F.1 5 = Int32.ofNat n) (h12 : n ≤ 12) : ∃ F' : Bl, f1_loses F S = some (sumL (klR (fun i => (F.2.1 18 i, F.2.1 19 i, F.2.1 20 i)) S n), F') ∧ (F'.1 5 = Int32.ofNat (klF (fun i => (F.2.1 18 i, F.2.1 19 i, F.2.1 20 i)) S n).length ∧ ∀ g, g ≠ 5 → F'.1 g = F.1 g) ∧ (∀ k, k ≠ 18 → k ≠ 19 → k ≠ 20 → F'.2.1 k = F.2.1 k) ∧ F'.2.2 = F.2.2 ∧ rl (F'.2.1 18) (F'.2.1 19) (F'.2.1 20) (klF (fun i => (F.2.1 18 i, F.2.1 19 i, F.2.1 20 i)) S n).length = klF (fun i => (F.2.1 18 i, F.2.1 19 i, F.2.1 20 i)) S n := by
  unfold f1_loses
  generalize ht : (fun i => (F.2.1 18 i, F.2.1 19 i, F.2.1 20 i)) = t
  obtain ⟨s9, ⟨k, hk, e4, e2, e3, i1, i2, i3, i4, i5⟩, hx, hG⟩ := loop_out (body := g1_loses_7 S)
    (fun s => ∃ k, k ≤ n ∧ s.2.2.2 = Int32.ofNat k ∧ s.2.1 = Int32.ofNat (klF t S k).length ∧ s.2.2.1 = sumL (klR t S k) ∧ s.1.1 = F.1 ∧ (∀ j, j ≠ 18 → j ≠ 19 → j ≠ 20 → s.1.2.1 j = F.2.1 j) ∧ s.1.2.2 = F.2.2 ∧ rl (s.1.2.1 18) (s.1.2.1 19) (s.1.2.1 20) (klF t S k).length = klF t S k ∧ ∀ i, k ≤ i → (s.1.2.1 18 i, s.1.2.1 19 i, s.1.2.1 20 i) = t i)
    (fun s => n - s.2.2.2.toNatClampNeg) (fun s => s.2.2.2 = Int32.ofNat n) (fun s => some (s.2.2.1, bI s.1 5 s.2.1)) (by
      rintro ⟨s, v2, v3, v4⟩ ⟨k, hk, e4, e2, e3, i1, i2, i3, i4, i5⟩
      dsimp only at e4 e2 e3 i1 i2 i3 i4 i5
      subst e4 e2 e3
      have hl := klF_len t S k
      by_cases hkn : k = n
      · subst hkn
        refine Or.inl ⟨rfl, fun K => ?_⟩
        simp only [g1_loses_7]
        rw [i1, hn, if_off]
      · right
        have h5 := i5 k (Nat.le_refl _)
        rw [Prod.mk.injEq, Prod.mk.injEq] at h5
        by_cases hb : bit S k = true
        · refine ⟨(s, Int32.ofNat (klF t S k).length, sumL (klR t S k) + s.2.1 20 k, Int32.ofNat (k + 1)), ⟨k + 1, by omega, rfl, ?_, ?_, i1, i2, i3, ?_, fun i hi => i5 i (by omega)⟩, ?_, fun K => ?_⟩
          · show _ = Int32.ofNat (klF t S (k + 1)).length
            rw [klF, if_pos hb]
          · show _ = sumL (klR t S (k + 1))
            rw [klR, if_pos hb, sumL_app]
            show _ + _ = _ + ((t k).2.2 + 0)
            rw [← h5.2.2, Int32.add_zero]
          · rw [klF, if_pos hb]; exact i4
          · show n - (Int32.ofNat (k + 1)).toNatClampNeg < n - (Int32.ofNat k).toNatClampNeg
            rw [zI_nat (by omega), zI_nat (by omega)]; omega
          · simp only [g1_loses_7]
            rw [i1, hn, if_on (by omega) (by omega), has_bit0 (by omega), bnd_s, if_bit, if_pos hb, chk_h (zI_in (by omega) (by decide)), zI_nat (by omega), zI_succ]
        · refine ⟨(bA (bA (bA s 18 (klF t S k).length (s.2.1 18 k)) 19 (klF t S k).length (s.2.1 19 k)) 20 (klF t S k).length (s.2.1 20 k), Int32.ofNat ((klF t S k).length + 1), sumL (klR t S k), Int32.ofNat (k + 1)), ⟨k + 1, by omega, rfl, ?_, ?_, i1, ?_, i3, ?_, ?_⟩, ?_, fun K => ?_⟩
          · show _ = Int32.ofNat (klF t S (k + 1)).length
            rw [klF, if_neg hb, List.length_append]; rfl
          · show _ = sumL (klR t S (k + 1))
            rw [klR, if_neg hb]
          · intro j h1 h2 h3
            rw [← i2 j h1 h2 h3]
            simp [bA, bS, h1, h2, h3]
          · rw [klF, if_neg hb, List.length_append]
            show rl _ _ _ ((klF t S k).length + 1) = _
            rw [rl_succ]
            congr 1
            · rw [← i4]
              rw [rl_len]
              refine rl_congr fun i hi => ?_
              have hne : ¬ i = (klF t S k).length := by
                rw [← i4, rl_len] at hi ⊢; omega
              simp [bA, bS, upd, hne]
            · rw [← i5 k (Nat.le_refl _)]
              simp [bA, bS, upd]
          · intro i hi
            rw [← i5 i (by omega)]
            have hne : ¬ i = (klF t S k).length := by omega
            simp [bA, bS, upd, hne]
          · show n - (Int32.ofNat (k + 1)).toNatClampNeg < n - (Int32.ofNat k).toNatClampNeg
            rw [zI_nat (by omega), zI_nat (by omega)]; omega
          · simp only [g1_loses_7]
            rw [i1, hn, if_on (by omega) (by omega), has_bit0 (by omega), bnd_s, if_bit, if_neg hb, chk_h (zI_in (by omega) (by decide)), chk_h (zI_in (by omega) (by decide)), chk_h (zI_in (by omega) (by decide)), chk_h (zI_in (by omega) (by decide)), ltv_s, chk_h (zI_in (by omega) (by decide)), chk_h (zI_in (by omega) (by decide)), zI_nat (by omega), zI_nat (by omega), zI_succ, zI_succ]
            simp [bA, bS])
    (s := (F, (0 : Int32), (0 : Int32), (0 : Int32))) ⟨0, by omega, rfl, rfl, rfl, rfl, fun _ _ _ _ => rfl, rfl, rfl, fun i _ => by rw [← ht]⟩ (by omega)
  rw [hG, e3, e2]
  have ek : k = n := by
    rw [e4] at hx
    exact (zI_inj (by omega) (by omega)).mp hx
  subst ek
  refine ⟨bI s9.1 5 (Int32.ofNat (klF t S k).length), rfl, ⟨by simp [bI], fun g hg => by simp [bI, hg, i1]⟩, i2, i3, i4⟩

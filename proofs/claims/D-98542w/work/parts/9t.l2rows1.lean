/-! PLAIN LAW: rows, the raft's recursion -/
set_option maxRecDepth 100000
section R
variable {x0 : Nat → Bl}
theorem tries_eq {A : Nat → Bool} {TS : Nat → Int32} {m n T : Nat} (h : TSo A TS m) (hm6 : m ≤ 6) (hm : (x0 0).1 18 = Int32.ofNat m) (hT : ∀ k, k < m → (x0 0).2.1 17 k = TS k) (hn : (x0 0).1 19 = Int32.ofNat n) (h7 : n ≤ 7) (hnT : (x0 1).1 2 = Int32.ofNat T) (hT8 : T ≤ 8) (hA : ∀ j, A j = true → j < T) (hAn : cntB 8 A = n) (hz : ¬ (x0 0).1 0 = 0) : ∀ (c fuel k : Nat) (row : Nat → Nat) (lf : Nat → Bool) (S : Int32 × (Nat → Nat)) (y : Nat → Bl) (left : Int32), c < fuel → k + c = n → JR A k row lf → (∀ j, j < 32 → bit left j = (decide (j < 8) && lf j)) → Fr0 x0 y → Rw0 y row k → Sc0 y n S → ∃ y', f0_triesRows fuel y (Int32.ofNat k) left = some y' ∧ Fr0 x0 y' ∧ Rw0 y' row k ∧ Sc0 y' n (srR (stR TS m n) c k row lf S) := by
  intro c
  induction c with
  | zero =>
    intro fuel k row lf S y left hf hk hJ hl hF hr hS
    match fuel, hf with
    | fuel + 1, _ =>
      have e : k = n := by omega
      subst e
      have h0 : cntB 8 lf = 0 := by have := hJ.count; omega
      have hl0 : left = 0 := bit_ext fun j hj => by
        rw [hl j hj, bit_zero]
        by_cases c : j < 8
        · rw [(cntB_zero 8).mp h0 j c, Bool.and_false]
        · rw [decide_eq_false c, Bool.false_and]
      show ∃ y', b0_triesRows (f0_triesRows fuel) y (Int32.ofNat k) left = some y' ∧ _
      unfold b0_triesRows
      rw [if_pos hl0]
      exact leaf_eq h hm6 hm hT hn h7 hJ h0 hF hr hS
  | succ c ih =>
    intro fuel k row lf S y left hf hk hJ hl hF hr hS
    match fuel, hf with
    | fuel + 1, hf =>
      have hcn := hJ.count
      have hl0 : ¬ left = 0 := fun z => by
        have : cntB 8 lf = 0 := (cntB_zero 8).mpr fun j hj => by
          have e := hl j (by omega)
          rw [z, bit_zero, decide_eq_true hj, Bool.true_and] at e
          exact e.symm
        omega
      show ∃ y', b0_triesRows (f0_triesRows fuel) y (Int32.ofNat k) left = some y' ∧ _
      unfold b0_triesRows
      rw [if_neg hl0]
      refine loop_post (fun s : (Nat → Bl) × Int32 => ∃ t S1, s.2 = Int32.ofNat t ∧ t ≤ T ∧ Fr0 x0 s.1 ∧ Rw0 s.1 row k ∧ Sc0 s.1 n S1 ∧ fdN (fun t S => if lf t = true then srR (stR TS m n) c (k + 1) (upN row k t) (rmB lf t) S else S) t (8 - t) S1 = srR (stR TS m n) (c + 1) k row lf S) (fun s => 100 - s.2.toNatClampNeg) _ ?_ ⟨0, S, rfl, Nat.zero_le _, hF, hr, hS, rfl⟩ (by omega)
      clear hF hr hS y
      rintro K ⟨y, v3⟩ ⟨t, S1, hv, ht, hF, hr, hS, hfd⟩ IH
      dsimp only at hv hF hr hS
      subst hv
      have hzy : decide (¬ (y 0).1 0 = 0) = true := by rw [hF.1 0 (by decide)]; exact decide_eq_true hz
      have hyT : (y 1).1 2 = Int32.ofNat T := by rw [hF.2.2 1 (by decide)]; exact hnT
      simp only [g0_triesRows_69]
      rw [chk_h hzy, hyT, zif_le (by omega) (by omega)]
      by_cases hend : T ≤ t
      · rw [if_pos hend]
        refine ⟨y, rfl, hF, hr, ?_⟩
        rw [fdN_id (8 - t) t (fun j h1 h2 => by
          rw [if_neg]
          intro z
          have := hA j (hJ.1 j z)
          omega)] at hfd
        rw [← hfd]; exact hS
      · rw [if_neg hend, has_bit0 (by omega), bnd_s, if_bit, hl t (by omega), decide_eq_true (show t < 8 by omega), Bool.true_and, zI_succ]
        rw [show 8 - t = (8 - (t + 1)) + 1 by omega] at hfd
        have hfd2 : fdN (fun t S => if lf t = true then srR (stR TS m n) c (k + 1) (upN row k t) (rmB lf t) S else S) (t + 1) (8 - (t + 1)) (if lf t = true then srR (stR TS m n) c (k + 1) (upN row k t) (rmB lf t) S1 else S1) = srR (stR TS m n) (c + 1) k row lf S := hfd
        by_cases hlt : lf t = true
        · rw [if_pos hlt] at hfd2 ⊢
          have hkn : inB (Int32.ofNat k) 7 = true := zI_in (by omega) (by decide)
          rw [chk_h hkn, zI_nat (by omega), zI_succ]
          have hF2 : Fr0 x0 (upX y 0 (bA (y 0) 15 k (Int32.ofNat t))) := by
            refine ⟨fun f hf => by rw [upX_self]; exact hF.1 f hf, fun f h1 h2 => ?_, fun j hj => by rw [upX_ne hj]; exact hF.2.2 j hj⟩
            rw [upX_self, ← hF.2.1 f h1 h2]; simp [bA, bS, h1]
          have hr2 : Rw0 (upX y 0 (bA (y 0) 15 k (Int32.ofNat t))) (upN row k t) (k + 1) := by
            intro i hi
            rw [upX_self]
            show upd ((y 0).2.1 15) k (Int32.ofNat t) i = _ ∧ _
            unfold upd upN
            by_cases e : i = k
            · rw [if_pos e, if_pos e]; exact ⟨rfl, by omega⟩
            · rw [if_neg e, if_neg e]; exact hr i (by omega)
          have hS2 : Sc0 (upX y 0 (bA (y 0) 15 k (Int32.ofNat t))) n S1 := by
            refine ⟨by rw [upX_self]; exact hS.1, fun h0 i hi => ?_⟩
            rw [upX_self, ← hS.2 h0 i hi]; simp [bA, bS]
          have hl2 : ∀ j, j < 32 → bit (left &&& (((1 : Int32) <<< (Int32.ofNat t &&& 31)) ^^^ (-1 : Int32))) j = (decide (j < 8) && rmB lf t j) := fun j hj => by
            rw [bit_and, bit_not _ hj, bit_shl (by omega) hj, hl j hj]
            unfold rmB
            cases decide (j < 8) <;> cases lf j <;> rfl
          obtain ⟨y2, q1, q2, q3, q4⟩ := ih fuel (k + 1) (upN row k t) (rmB lf t) S1 _ _ (by omega) (by omega) (hJ.next hlt (by omega)) hl2 hF2 hr2 hS2
          rw [q1, bnd_s]
          refine IH _ ⟨t + 1, _, rfl, by omega, q2, fun i hi => ?_, q4, hfd2⟩ ?_
          · have := q3 i (by omega)
            unfold upN at this
            rw [if_neg (by omega)] at this
            exact this
          · dsimp only; rw [zI_nat (by omega), zI_nat (by omega)]; omega
        · rw [if_neg hlt] at hfd2 ⊢
          refine IH _ ⟨t + 1, _, zI_succ t, by omega, hF, hr, hS, hfd2⟩ ?_
          dsimp only; rw [zI_succ, zI_nat (by omega), zI_nat (by omega)]; omega
end R

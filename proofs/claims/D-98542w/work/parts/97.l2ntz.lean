/-! PLAIN LAW: pieces, weak things, count; printed by gen/l2count.py -/
set_option maxRecDepth 100000
theorem ntz_dec : ∀ i, i < 64 → ∀ j, j < 64 → Int32.ofNat (64 * i + j) = 0 ∨ fJ8_numberOfTrailingZeros (Int32.ofNat (64 * i + j)) = some (Int32.ofNat (fsN (bit (Int32.ofNat (64 * i + j))) 12)) := by decide +kernel
def lowB (s : Int32) : Nat := fsN (bit s) 12
theorem ntz_eq {s : Int32} (h : ∀ k, 12 ≤ k → k < 32 → bit s k = false) (h0 : ¬ s = 0) : lowB s < 12 ∧ bit s (lowB s) = true ∧ fJ8_numberOfTrailingZeros s = some (Int32.ofNat (lowB s)) ∧ f3_least s = some (Int32.ofNat (lowB s)) := by
  have hl : lowB s < 12 := by
    unfold lowB
    rw [fsN_ex]
    refine Classical.byContradiction fun hc => h0 (bit_ext fun k hk => ?_)
    rw [bit_zero]
    by_cases h12 : 12 ≤ k
    · exact h k h12 hk
    · cases hb : bit s k with
      | false => rfl
      | true => exact absurd ⟨k, by omega, hb⟩ hc
  have hs := fsN_spec (bit s) 12
  refine ⟨hl, hs.2 hl, ?_, least_eq (by omega) (hs.2 hl) hs.1⟩
  obtain ⟨m, hm, rfl⟩ := mkS_nat h
  have e : m = 64 * (m / 64) + m % 64 := by omega
  have hm2 : m < 4096 := hm
  rcases ntz_dec (m / 64) (by omega) (m % 64) (by omega) with g | g
  · rw [← e] at g; exact absurd g h0
  · rw [← e] at g; exact g

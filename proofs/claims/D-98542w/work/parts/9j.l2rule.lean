/-! PLAIN LAW: who is a rule; run when there is none -/
set_option maxRecDepth 100000
section R
variable {x : Nat → Bl} {M : Bl} {v v1 v2 v3 : Int32}
theorem f0_isRule_eq {R : Nat} (h6 : R ≤ 6) (h : (x 0).1 13 = Int32.ofNat R) : f0_isRule x v = some (b2 (isK R v)) := by
  unfold f0_isRule
  rw [h, isK_case (by omega)]
  cases isK R v <;> rfl
theorem f3_isRule_eq {R : Nat} (h6 : R ≤ 6) (h : M.1 35 = Int32.ofNat R) : f3_isRule M v = some (b2 (isK R v)) := by
  unfold f3_isRule
  have e3 := f3_in32 v 0 (M.1 35 - 1)
  change f3_in v.toInt64 (0 : Int64) (M.1 35 - 1).toInt64 = _ at e3
  have e : decide (v ≤ M.1 35 - 1) = decide (v < Int32.ofNat R) := decide_eq_decide.mpr (by rw [h, le_pred (by omega)])
  rw [e3, bnd_s, e, chk_h (isB_b2 _)]
  rfl
/-- run answers alike where it does nothing -/
theorem run_none (h : RL x M) {nR : Nat} {R : Nat → List Cls} (hk : (x 0).1 0 = 0 ∨ isK (M.1 35).toNatClampNeg v1 = false) : Sim x M (f0_run x nR R v1 v2 v3) (f3_run M v1 v2 v3) := by
  obtain ⟨n, r1, r2, r3, -⟩ := h.2.2.2.1
  rw [r3, zI_nat (by omega)] at hk
  unfold f0_run f3_run
  rcases h.1 with ⟨hz, hn⟩ | ⟨hz, hv⟩
  · rw [if_pos hz, isRiver_no hn, bnd_s]; exact Sim.same h _
  · have hk := hk.resolve_left hz
    rw [if_neg hz, isRiver_yes hv.2.1, bnd_s, if_neg (show ¬ (1 : Int32) = 0 by decide), f0_isRule_eq r1 r2, f3_isRule_eq r1 r3, bnd_s, bnd_s, if_bit, if_bit, hk]
    exact Sim.same h _
end R

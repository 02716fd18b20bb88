/-! PLAIN LAW: at the start -/
set_option maxRecDepth 100000
theorem RL.start : RL (fun _ => s1i) s3i := by
  refine ⟨Or.inl ⟨rfl, fun _ _ => rfl, rfl⟩, fun k _ => Or.inl ⟨rfl, rfl⟩, ⟨0, by omega, rfl, rfl, fun i hi => by omega⟩, ⟨0, by omega, rfl, rfl, fun r _ => ⟨fun _ => by omega, fun _ => rfl⟩⟩, ⟨rfl, Int.le_refl _⟩, ⟨fun _ _ => rfl, fun _ _ => rfl⟩, rfl⟩

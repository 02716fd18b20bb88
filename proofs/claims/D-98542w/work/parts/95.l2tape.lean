/-! PLAIN LAW: seed, end, feed, offer, count -/
set_option maxRecDepth 100000
theorem RVa.d8 {F M : Bl} {v : Int32} {p : Int32} (h : RVa F M.2.1 p) : RVa F (bA M 1 8 v).2.1 p := by
  obtain ⟨hF, hG, hO, e7, n, hn, e55, hrow⟩ := h
  refine ⟨hF.d8, hG.d8, hO, e7, n, hn, e55, fun k hk => ?_⟩
  obtain ⟨g1, g2⟩ := hrow k hk
  refine ⟨?_, g2⟩
  have e53 : (bA M 1 8 v).2.1 53 = M.2.1 53 := by simp [bA, bS]
  have eP : mP (bA M 1 8 v).2.1 k = mP M.2.1 k := by funext j i; unfold mP; rw [e53]
  rw [eP]
  have key : AG (putM (bA M 1 8 v).2.1 (mP M.2.1 k)) (bA ((fun _ => 0), putM M.2.1 (mP M.2.1 k), M.2.2) 1 8 v).2.1 := by
    refine ⟨fun i hi => ?_, fun i hi => ⟨rfl, rfl, rfl, rfl, rfl, rfl, rfl, rfl⟩, fun i hi => ⟨rfl, rfl, rfl, rfl, rfl, rfl⟩, fun i hi => ⟨rfl, rfl, rfl⟩⟩
    have hx : i = 0 ∨ i = 1 ∨ i = 2 ∨ i = 3 ∨ i = 4 ∨ i = 5 ∨ i = 6 ∨ i = 7 ∨ i = 8 := by omega
    rcases hx with rfl | rfl | rfl | rfl | rfl | rfl | rfl | rfl | rfl <;> rfl
  exact GR.congr key (GR.d8 (M := ((fun _ => 0), putM M.2.1 (mP M.2.1 k), M.2.2)) (v := v) g1)
section I
variable {x : Nat → Bl} {M : Bl} {v v1 v2 v3 v4 v5 : Int32}
theorem seed_sim (h : RL x M) : Op (f0_seed x v1) (f3_seed M v1) := by
  unfold f0_seed f3_seed
  by_cases hc : 0 ≤ v1
  · rw [if_pos hc, if_pos hc]
    refine ⟨M.2.1 1 8, upX x 0 (bI (x 0) 5 v1), bA M 1 8 v1, by rw [h.2.2.2.2.1.1], rfl, ?_⟩
    have e8 : (bA M 1 8 v1).2.1 1 8 = v1 := by simp [bA, bS, upd]
    refine h.rest (fun f hf => ?_) (fun f hf => ?_) (upX_ne (by decide)) (fun f _ => rfl) (by simp [bA, bS]) ⟨?_, ?_⟩ ?_ (fun k hk => ?_)
    · simp only [List.mem_cons, List.not_mem_nil, or_false] at hf
      rw [upX_self]
      rcases hf with rfl | rfl <;> simp [bI]
    · rw [upX_self]; rfl
    · rw [upX_self, bI_v, e8]
    · rw [e8]; exact (Int32.le_iff_toInt_le.mp hc)
    · have z0 : ((upX x 0 (bI (x 0) 5 v1)) 0).1 0 = (x 0).1 0 := by rw [upX_self]; simp [bI]
      unfold RV
      rw [z0, upX_ne (by decide)]
      rcases h.1 with ⟨hz, hn⟩ | ⟨hz, hv⟩
      · refine Or.inl ⟨hz, fun i hi => ?_, hn.2⟩
        rw [← hn.1 i hi]
        have : ¬ i = 8 := by omega
        simp [bA, bS, upd, this]
      · exact Or.inr ⟨hz, hv.d8⟩
    · exact RIj.same (h.2.1 k hk) (by rw [upX_self]; rfl) (by simp [bA, bS]) (upX_ne (by omega)) (upX_ne (by omega)) (fun i _ => by simp [bA, bS])
  · rw [if_neg hc, if_neg hc]; exact ⟨_, x, M, rfl, rfl, h⟩
/-- a change of the tape alone -/
theorem RL.tape {x' : Nat → Bl} {M' : Bl} (h : RL x M) (k0 : ∀ f, f ≠ 8 → (x' 0).1 f = (x 0).1 f) (ka : ∀ f, f ≠ 7 → (x' 0).2.1 f = (x 0).2.1 f) (kj : ∀ j, j ≠ 0 → x' j = x j) (mi : ∀ f, f ≠ 31 → M'.1 f = M.1 f) (ma : ∀ k, k ≠ 41 → M'.2.1 k = M.2.1 k) (ht : RT x' M') : RL x' M' := by
  obtain ⟨h1, h2, -, ⟨R, r1, r2, r3, r4⟩, hd, h6, h7⟩ := h
  have hag : AG M'.2.1 M.2.1 := by
    refine ⟨fun i _ => by rw [ma 1 (by decide)], fun i _ => ?_, fun i _ => ?_, fun i _ => ?_⟩
    · rw [ma 2 (by decide), ma 3 (by decide), ma 4 (by decide), ma 14 (by decide), ma 15 (by decide), ma 16 (by decide), ma 17 (by decide), ma 18 (by decide)]; exact ⟨rfl, rfl, rfl, rfl, rfl, rfl, rfl, rfl⟩
    · rw [ma 5 (by decide), ma 6 (by decide), ma 7 (by decide), ma 8 (by decide), ma 9 (by decide), ma 10 (by decide)]; exact ⟨rfl, rfl, rfl, rfl, rfl, rfl⟩
    · rw [ma 11 (by decide), ma 12 (by decide), ma 13 (by decide)]; exact ⟨rfl, rfl, rfl⟩
  refine ⟨?_, fun k hk => RIj.same (h2 k hk) (by rw [ka 28 (by decide)]) (by rw [ma 70 (by decide)]) (kj _ (by omega)) (kj _ (by omega)) (fun i _ => by rw [ma 69 (by decide)]), ht, ⟨R, r1, by rw [k0 13 (by decide)]; exact r2, by rw [mi 35 (by decide)]; exact r3, by rw [ka 12 (by decide)]; exact r4⟩, by rw [k0 5 (by decide), ma 1 (by decide)]; exact hd, by rw [kj 4 (by decide)]; exact h6, by rw [mi 40 (by decide)]; exact h7⟩
  unfold RV
  rw [k0 0 (by decide), kj 1 (by decide), mi 55 (by decide)]
  rcases h1 with ⟨hz, hn⟩ | ⟨hz, hv⟩
  · exact Or.inl ⟨hz, hn.congr hag rfl⟩
  · exact Or.inr ⟨hz, hv.congr hag (fun i _ => by rw [ma 53 (by decide)]) rfl⟩
theorem end_sim (h : RL x M) : Op (f0_end x v1) (f3_end M v1) := by
  obtain ⟨T, t1, t2, t3, t4⟩ := h.2.2.1
  unfold f0_end f3_end
  rw [t2, t3]
  by_cases hc : v1 < 0
  · rw [if_pos hc, if_pos hc]; exact ⟨_, x, M, rfl, rfl, h⟩
  · rw [if_neg hc, if_neg hc]
    by_cases hd : v1 ≤ Int32.ofNat T
    · rw [if_pos hd, if_pos hd]
      obtain ⟨n, rfl, hn, hn31⟩ := nn_le (Int32.not_lt.mp hc) hd
      rw [zI_int (by omega)] at hn
      refine ⟨Int32.ofNat n, _, bI M 31 (Int32.ofNat n), rfl, rfl, h.tape (fun f hf => ?_) (fun f hf => ?_) (fun j hj => upX_ne hj) (fun f hf => by simp [bI, hf]) (fun k _ => rfl) ⟨n, by omega, ?_, bI_v, fun i hi => ?_⟩⟩
      · rw [upX_self]; simp [bI, hf]
      · rw [upX_self]; rfl
      · rw [upX_self, bI_v]
      · rw [upX_self]; exact t4 i (by omega)
    · rw [if_neg hd, if_neg hd]; exact ⟨_, x, M, rfl, rfl, h⟩
theorem byte_in (w : Int32) : -128 ≤ (vp_nar .byte w).toInt ∧ (vp_nar .byte w).toInt ≤ 127 := by
  rw [vp_nar_byte, Int8.toInt_toInt32]
  exact ⟨Int8.le_toInt _, by have := Int8.toInt_lt w.toInt8; omega⟩
/-- a word of four bytes goes to both tapes -/
def Tp (x : Nat → Bl) (M : Bl) (x' : Nat → Bl) (M' : Bl) (T : Nat) : Prop := (∀ f, f ≠ 8 → (x' 0).1 f = (x 0).1 f) ∧ (∀ f, f ≠ 7 → (x' 0).2.1 f = (x 0).2.1 f) ∧ (∀ j, j ≠ 0 → x' j = x j) ∧ (∀ f, f ≠ 31 → M'.1 f = M.1 f) ∧ (∀ k, k ≠ 41 → M'.2.1 k = M.2.1 k) ∧ (x' 0).1 8 = Int32.ofNat T ∧ M'.1 31 = Int32.ofNat T ∧ ∀ i, i < T → (x' 0).2.1 7 i = M'.2.1 41 i ∧ -128 ≤ (M'.2.1 41 i).toInt ∧ (M'.2.1 41 i).toInt ≤ 127
theorem Tp.one {x' : Nat → Bl} {M' : Bl} {T : Nat} (h : Tp x M x' M' T) (w : Int32) : Tp x M (upX x' 0 (bI (bA (x' 0) 7 T (vp_nar .byte w)) 8 (Int32.ofNat (T + 1)))) (bI (bA M' 41 T (vp_nar .byte w)) 31 (Int32.ofNat (T + 1))) (T + 1) := by
  obtain ⟨h1, h2, h3, h4, h5, h6, h7, h8⟩ := h
  refine ⟨fun f hf => ?_, fun f hf => ?_, fun j hj => ?_, fun f hf => ?_, fun k hk => ?_, ?_, bI_v, fun i hi => ?_⟩
  · rw [upX_self]; simp [bI, bA, bS, hf]; exact h1 f hf
  · rw [upX_self]; simp [bI, bA, bS, hf]; exact h2 f hf
  · rw [upX_ne hj]; exact h3 j hj
  · simp [bI, bA, bS, hf]; exact h4 f hf
  · simp [bI, bA, bS, hk]; exact h5 k hk
  · rw [upX_self, bI_v]
  · rw [upX_self]
    by_cases e : i = T
    · subst e; simp only [bI, bA, bS, upd, if_true]; exact ⟨trivial, byte_in w⟩
    · have := h8 i (by omega); simp [bI, bA, bS, upd, e]; exact this
theorem four_sim {x' : Nat → Bl} {M' : Bl} {T : Nat} (h : Tp x M x' M' T) (hT : T + 4 ≤ 400) : ∃ x2 M2, f0_four x' v = some x2 ∧ f3_put M' v = some M2 ∧ Tp x M x2 M2 (T + 4) := by
  have key : Bo (fun a b => Tp x M a b (T + 4)) (f0_four x' v) (f3_put M' v) := by
    unfold f0_four f3_put
    refine loop_sim (fun a b => ∃ k, k ≤ 4 ∧ a.2 = 24 - 8 * Int32.ofNat k ∧ b.2 = 24 - 8 * Int32.ofNat k ∧ Tp x M a.1 b.1 (T + k)) (fun b => (b.2 + 8).toNatClampNeg) _ ?_ ⟨0, by omega, rfl, rfl, h⟩ (by show (32 : Int32).toNatClampNeg < _; decide)
    rintro K1 K2 ⟨x1, w1⟩ ⟨M1, w2⟩ ⟨k, hk, e1, e2, ht⟩ hK
    dsimp only at e1 e2 ht
    subst e1 e2
    simp only [g0_four_3, g3_put_3]
    by_cases hk4 : k = 4
    · subst hk4
      rw [if_pos (by decide), if_pos (by decide)]
      exact Bo.some ht
    · have hlt : ¬ (24 : Int32) - 8 * Int32.ofNat k < 0 := (by decide : ∀ k, k < 4 → ¬ (24 : Int32) - 8 * Int32.ofNat k < 0) k (by omega)
      have hst : (24 : Int32) - 8 * Int32.ofNat k + (-8) = 24 - 8 * Int32.ofNat (k + 1) := (by decide : ∀ k, k < 4 → (24 : Int32) - 8 * Int32.ofNat k + (-8) = 24 - 8 * Int32.ofNat (k + 1)) k (by omega)
      have hms : ((24 : Int32) - 8 * Int32.ofNat (k + 1) + 8).toNatClampNeg < ((24 : Int32) - 8 * Int32.ofNat k + 8).toNatClampNeg := (by decide : ∀ k, k < 4 → ((24 : Int32) - 8 * Int32.ofNat (k + 1) + 8).toNatClampNeg < ((24 : Int32) - 8 * Int32.ofNat k + 8).toNatClampNeg) k (by omega)
      have e8 : (x1 0).1 8 = Int32.ofNat (T + k) := ht.2.2.2.2.2.1
      have e31 : M1.1 31 = Int32.ofNat (T + k) := ht.2.2.2.2.2.2.1
      have hin : inB (Int32.ofNat (T + k)) 400 = true := zI_in (by omega) (by decide)
      have hkk : (Int32.ofNat (T + k)).toNatClampNeg = T + k := zI_nat (by omega)
      rw [if_neg hlt, if_neg hlt, e8, e31, hin, chk_t, chk_t, hkk, ltv_s, ltv_s, upX_upX, hst]
      have b8 : ∀ w : Int32, (upX x1 0 (bA (x1 0) 7 (T + k) w) 0).1 8 + 1 = Int32.ofNat (T + (k + 1)) := fun w => by
        rw [upX_self, ← Nat.add_assoc, ← zI_succ, ← e8]; rfl
      have b31 : ∀ w : Int32, (bA M1 41 (T + k) w).1 31 + 1 = Int32.ofNat (T + (k + 1)) := fun w => by
        rw [← Nat.add_assoc, ← zI_succ, ← e31]; rfl
      rw [b8, b31, upX_self]
      exact hK _ _ ⟨k + 1, by omega, rfl, rfl, ht.one _⟩ hms
  obtain ⟨a, b, e1, e2, e3⟩ := key
  exact ⟨a, b, e1, e2, e3⟩
theorem feed_sim (h : RL x M) : Op (f0_feed x v1 v2 v3 v4 v5) (f3_feed M v1 v2 v3 v4 v5) := by
  obtain ⟨T, t1, t2, t3, t4⟩ := h.2.2.1
  unfold f0_feed f3_feed
  rw [t2, t3]
  have e20 : Int32.ofNat T + (20 : Int32) = Int32.ofNat (T + 20) := (Int32.ofNat_add T 20).symm
  have e400 : (400 : Int32) = Int32.ofNat 400 := rfl
  rw [e20, e400, zif_le (by omega) (by omega), zif_le (by omega) (by omega)]
  by_cases hc : T + 20 ≤ 400
  · rw [if_pos hc, if_pos hc]
    have h0 : Tp x M x M T := ⟨fun _ _ => rfl, fun _ _ => rfl, fun _ _ => rfl, fun _ _ => rfl, fun _ _ => rfl, t2, t3, t4⟩
    obtain ⟨x1, M1, a1, b1, h1⟩ := four_sim (v := v1) h0 (by omega)
    obtain ⟨x2, M2, a2, b2, h2⟩ := four_sim (v := v2) h1 (by omega)
    obtain ⟨x3, M3, a3, b3, h3⟩ := four_sim (v := v3) h2 (by omega)
    obtain ⟨x4, M4, a4, b4, h4⟩ := four_sim (v := v4) h3 (by omega)
    obtain ⟨x5, M5, a5, b5, h5⟩ := four_sim (v := v5) h4 (by omega)
    rw [a1, bnd_s, a2, bnd_s, a3, bnd_s, a4, bnd_s, a5, bnd_s, b1, bnd_s, b2, bnd_s, b3, bnd_s, b4, bnd_s, b5, bnd_s]
    obtain ⟨q1, q2, q3, q4, q5, q6, q7, q8⟩ := h5
    exact ⟨_, x5, M5, rfl, by rw [q6, q7], h.tape q1 q2 q3 q4 q5 ⟨_, by omega, q6, q7, q8⟩⟩
  · rw [if_neg hc, if_neg hc]; exact ⟨_, x, M, rfl, rfl, h⟩
end I

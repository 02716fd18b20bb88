/-! PLAIN LAW: plan answers alike -/
set_option maxRecDepth 100000
section P
variable {x y : Nat → Bl} {M s : Bl} {v v1 v2 v3 : Int32}
/-- rows of all, as both find them -/
noncomputable def plS (a : Ar) (st : (Nat → Nat) → Bool) (G : Bool) (n : Nat) : Int32 × (Nat → Nat) := if G = true then srR st n 0 (fun _ => 0) (bit (sAf a)) (0, fun _ => 0) else (0, fun _ => 0)
theorem stR_0 {TS : Nat → Int32} {m : Nat} {row : Nat → Nat} : stR TS m 0 row = true := by
  have hs := fsN_spec (noR TS 0 row) m
  unfold stR
  rw [decide_eq_true_iff]
  intro h
  have h1 := hs.2 h
  unfold noR at h1
  have h1 := of_decide_eq_true h1
  have : rnB (fun i => bit (TS (fsN (noR TS 0 row) m)) (row i)) 0 = 0 := rfl
  unfold noR at this
  omega
/-- frames of plan -/
def Fp3 (M s : Bl) : Prop := (∀ f, f ≠ 61 → f ≠ 62 → s.1 f = M.1 f) ∧ (∀ f, f ≠ 58 → f ≠ 59 → f ≠ 60 → s.2.1 f = M.2.1 f)
theorem af_lt {a : Ar} (g : GC a) {j : Nat} (hj : j < 32) (h : bit (sAf a) j = true) : j < cT a := by
  rw [bit_af hj, Bool.and_eq_true, decide_eq_true_iff] at h
  exact h.1
theorem f3_findsRows_eq (g : GR M.2.1) {nw ml n : Nat} (h6 : M.2.1 1 6 = Int32.ofNat nw) (h0 : M.2.1 1 0 = Int32.ofNat ml) (hml : nw ≤ ml ∧ ml ≤ 99) (hn : pop (sAf M.2.1) = n) (h7 : n ≤ 7) : ∃ s', f3_findsRows M (sAf M.2.1) = some s' ∧ Fp3 M s' ∧ Sc3 s' n (plS M.2.1 (stR (fun k => (glM M.2.1 nw (ml - nw)).getD k 0) (glM M.2.1 nw (ml - nw)).length n) (brn M.2.1 (sAf M.2.1) && gqM M.2.1 nw (ml - nw)) n) := by
  have h8 := g.1.2.1.2
  have hlen : (glM M.2.1 nw (ml - nw)).length ≤ 6 := glM_len g (by omega)
  unfold f3_findsRows plS
  have g62 : GR (bI M 62 0).2.1 := g
  obtain ⟨h, hh, hl⟩ := f3_laysLater_eq (M := bI M 62 0) g62 h6 h0 hml
  change ∀ i, i < (glM M.2.1 nw (ml - nw)).length → h i = (glM M.2.1 nw (ml - nw)).getD i 0 at hh
  change f3_laysLater (bI M 62 0) (sAf M.2.1) = some (b2 (brn M.2.1 (sAf M.2.1) && gqM M.2.1 nw (ml - nw)), bI (bS (bI M 62 0) 60 h) 61 (Int32.ofNat (glM M.2.1 nw (ml - nw)).length)) at hl
  rw [f3_bits_eq, bnd_s, hl, bnd2_s, if_bit, hn]
  have hs62 : (bI (bS (bI M 62 0) 60 h) 61 (Int32.ofNat (glM M.2.1 nw (ml - nw)).length)).1 62 = 0 := by simp [bI, bS]
  have hs61 : (bI (bS (bI M 62 0) 60 h) 61 (Int32.ofNat (glM M.2.1 nw (ml - nw)).length)).1 61 = Int32.ofNat (glM M.2.1 nw (ml - nw)).length := by simp [bI]
  have hs60 : (bI (bS (bI M 62 0) 60 h) 61 (Int32.ofNat (glM M.2.1 nw (ml - nw)).length)).2.1 60 = h := by simp [bI, bS]
  have hfp : Fp3 M (bI (bS (bI M 62 0) 60 h) 61 (Int32.ofNat (glM M.2.1 nw (ml - nw)).length)) := ⟨fun f h1 h2 => by simp [bI, bS, h1, h2], fun f h1 h2 h3 => by simp [bI, bS, h3]⟩
  generalize (bI (bS (bI M 62 0) 60 h) 61 (Int32.ofNat (glM M.2.1 nw (ml - nw)).length)) = s2 at hs62 hs61 hs60 hfp ⊢
  cases hG : (brn M.2.1 (sAf M.2.1) && gqM M.2.1 nw (ml - nw)) with
  | false => exact ⟨s2, rfl, hfp, hs62, fun z => absurd rfl z⟩
  | true =>
    rw [if_pos rfl, if_pos rfl]
    by_cases hn0 : n = 0
    · subst hn0
      rw [if_pos (show Int32.ofNat 0 = 0 from rfl)]
      refine ⟨_, rfl, ⟨fun f h1 h2 => by rw [← hfp.1 f h1 h2]; simp [bI, h2], hfp.2⟩, ?_, fun _ i hi => absurd hi (Nat.not_lt_zero i)⟩
      show _ = (vsR _ _ _).1
      unfold vsR
      rw [stR_0, if_pos rfl]
      simp [bI]
    · rw [if_neg (by
        intro z
        have : (Int32.ofNat n = Int32.ofNat 0) = (n = 0) := zI_inj (by omega) (by decide)
        rw [show (0 : Int32) = Int32.ofNat 0 from rfl, this] at z
        exact hn0 z)]
      obtain ⟨c, rfl⟩ : ∃ c, n = c + 1 := ⟨n - 1, by omega⟩
      obtain ⟨s', p1, p2, p3, p4⟩ := level_eq (M0 := s2) (A := fun j => decide (j < 8) && bit (sAf M.2.1) j) (LS := fun k => (glM M.2.1 nw (ml - nw)).getD k 0) (all := sAf M.2.1) (n := c + 1) (fun j hj => by rw [Bool.and_eq_true] at hj; exact of_decide_eq_true hj.1) (fun j hj => by
        cases e : bit (sAf M.2.1) j with
        | false => rw [Bool.and_false]
        | true => have := af_lt g.1 hj e; rw [decide_eq_true (by omega)]; rfl) hlen hs61 (fun k hk => by rw [hs60]; exact hh k hk) h7 c 0 (fun _ => 0) (fun j => decide (j < 8) && bit (sAf M.2.1) j) (0, fun _ => 0) (bA s2 58 0 (-1)) 0 (by omega) (fun _ h => h) (fun j hj => by rw [bit_zero]; simp) Fr3.refl.row (fun i hi => absurd hi (Nat.not_lt_zero i)) ⟨hs62, fun z => absurd rfl z⟩ row_at
      have hbd : bdR c < 1000000000000000 := (by decide : ∀ c, c < 7 → bdR c < 1000000000000000) c (by omega)
      have hfin : loop (g3_findsRows_41 (sAf M.2.1) (Int32.ofNat (c + 1))) FU (bA s2 58 0 (-1), (0 : Int32), (0 : Int32)) = some s' := p1.fin hbd (fun K => by
        simp only [g3_findsRows_41]
        rw [if_pos (by decide)])
      refine ⟨s', hfin, ⟨fun f h1 h2 => ?_, fun f h1 h2 h3 => ?_⟩, ?_⟩
      · rw [p2.1 f h2]; exact hfp.1 f h1 h2
      · rw [p2.2.1 f h1 h2]; exact hfp.2 f h1 h2 h3
      · have e : (fun j => decide (j < 8) && bit (sAf M.2.1) j) = bit (sAf M.2.1) := by
          funext j
          by_cases c8 : j < 8
          · rw [decide_eq_true c8, Bool.true_and]
          · rw [decide_eq_false c8, Bool.false_and]
            cases e : bit (sAf M.2.1) j with
            | false => rfl
            | true =>
              by_cases c32 : j < 32
              · have := af_lt g.1 c32 e; omega
              · unfold bit at e; rw [BitVec.getLsbD_of_ge _ _ (by omega)] at e; cases e
        rw [e] at p4; exact p4
end P

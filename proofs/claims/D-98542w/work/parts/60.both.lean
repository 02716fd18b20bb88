/-! Text.parted, Text.tested; printed by gen/both.py -/
set_option maxRecDepth 100000
theorem w4_parted_5 {Γ : Gam} {A : XA} {L : List Nat} {E : va_W} {r9 : Cn Tf} {F : (Nat → Bl) → Option (Cn Tf)} {cf clo : Nat} (hF : ∀ (E : va_W) (s0 : Nat → Bl) (r : Cn Tf), F s0 = some r → MtX Γ.l Γ.d yX4_fact cX4_fact 6 (some (.object "PartyRaft$Test")) (cf, r.2.1, r.2.2) clo (XW Γ.d A L E s0) [.ref (A.1 14 0)] (fun v w => ∃ (s9 : Nat → Bl) (f : Tf) (a9 : Nat) (E9 : va_W), r.1 = .inr (f, s9) ∧ v = some (.ref a9) ∧ w = XW Γ.d A L (E ++ E9) s9 ∧ tAt (E ++ E9) f.2 a9 f.1) (fun w => ∃ (s9 : Nat → Bl) (E9 : va_W), r.1 = .inl s9 ∧ w = XW Γ.d A L (E ++ E9) s9)) (hc : 6 ≤ cf) (hN : Γ.nL = 2) (C : Cx Γ cX4_parted RX4 (cf + 1, r9.2.1, r9.2.2) (clo + 150)) (hE : Rets Γ cX4_parted (some (.object "PartyRaft$Test")) r9.2.1 r9.2.2 (fun v w => ∃ (s9 : Nat → Bl) (f : Tf) (a9 : Nat) (E9 : va_W), r9.1 = .inr (f, s9) ∧ v = some (.ref a9) ∧ w = XW Γ.d A L (E ++ E9) s9 ∧ tAt (E ++ E9) f.2 a9 f.1)) (hX : ∀ (k n : Nat) (ws' : va_W) (pc : Nat) (lv : List (Nat × Value)) (st : List Value), k ≤ r9.2.1 → n ≤ r9.2.2 → (fun w => ∃ (s9 : Nat → Bl) (E9 : va_W), r9.1 = .inl s9 ∧ w = XW Γ.d A L (E ++ E9) s9) ws' → GoX Γ k n ws' pc lv st) (hL : xOK L) (hT : 14 ∈ L) : ∀ (m : Nat) (p : Tf × (Nat → Bl)) (r : Cn Tf), loop (gB F 21 1) m p = some r → (fun (p : Tf × (Nat → Bl)) (r : Cn Tf) => ∀ (k n : Nat) (E1 : va_W) (a1 : Nat), tAt (E ++ E1) p.1.2 a1 p.1.1 → k + r.2.1 ≤ r9.2.1 → n + r.2.2 ≤ r9.2.2 → r.1 = r9.1 → Go Γ k n (XW Γ.d A L (E ++ E1) p.2) 5 [(1, .ref a1), (0, .ref (A.1 14 0))] []) p r := by
  refine loop_walkR (P := fun (p : Tf × (Nat → Bl)) (r : Cn Tf) => ∀ (k n : Nat) (E1 : va_W) (a1 : Nat), tAt (E ++ E1) p.1.2 a1 p.1.1 → k + r.2.1 ≤ r9.2.1 → n + r.2.2 ≤ r9.2.2 → r.1 = r9.1 → Go Γ k n (XW Γ.d A L (E ++ E1) p.2) 5 [(1, .ref a1), (0, .ref (A.1 14 0))] []) ?_
  intro K hK ⟨v, s0⟩ r h k n E1 a1 hv hk hn hr
  dsimp only [gB] at h
  show Go Γ k n (XW Γ.d A L (E ++ E1) s0) 5 [(1, .ref a1), (0, .ref (A.1 14 0))] []
  refine go_aload_n (pc := 5) C dX4_parted_5 rfl 1 rfl ?_
  refine go_ldcS 21 (pc := 6) C dX4_parted_6 (by decide +kernel) ?_
  obtain ⟨r1, s1, e1, h⟩ := bnd2_some h
  refine go_callVi (pc := 8) C [.ref (Γ.d.2.2.1 21)] (m4_takesWord hL hT e1) q797 q799 qs23 q145 q800 x4pd_takesWord (by show 5 + 1 ≤ cf + 1; omega) (by omega) (xO hT hL.1) xc14 rfl (Nat.le_of_ble_eq_true rfl) ⟨by show k ≤ r9.2.1; omega, by show n ≤ r9.2.2; omega⟩ dX4_parted_8 rfl ?_
  refine go_if_eq (pc := 11) (tgt := 31) C dX4_parted_11 (by decide) h (fun h => ?_) (fun h => ?_)
  · have h := Option.some.inj h
    subst h
    refine go_aload_n (pc := 31) C dX4_parted_31 rfl 0 rfl ?_
    exact (hE k n _ 32 _ (by omega) (by omega)).2.2.2.2.1 _ _ rfl dX4_parted_32 ⟨_, _, a1, E1, hr.symm, rfl, rfl, hv⟩
  obtain ⟨r1, h, er⟩ := cnt_some h
  obtain ⟨r2, e2, hk9, hx9⟩ := bndC_some h
  have g1 : r.2.1 = 1 + r1.2.1 := by rw [er]
  have g2 : r.2.2 = 3 + r1.2.2 := by rw [er]
  have g3 : r.1 = r1.1 := by rw [er]
  have g4 : r2.2.1 ≤ r1.2.1 ∧ r2.2.2 ≤ r1.2.2 := by
    cases hz : r2.1 with
    | inl z => rw [hx9 z hz]; exact ⟨Nat.le_refl _, Nat.le_refl _⟩
    | inr z => obtain ⟨r3, -, e3⟩ := hk9 z.1 z.2 hz; rw [e3]; exact ⟨Nat.le_add_right _ _, Nat.le_add_right _ _⟩
  refine go_new (pc := 14) (ci := 12) (T := TX14) (N := 3) (fs := [.null, .null, .int 0]) C in_X14 tyX14 tyX14_ok q852 q853 q161 rfl (dflt_all (by decide +kernel)) ⟨by show k + 1 ≤ r9.2.1; omega, by show n + 3 ≤ r9.2.2; omega⟩ dX4_parted_14 (fun q => ?_)
  rw [XW_app, List.append_assoc]
  refine go_dup (pc := 17) C dX4_parted_17 rfl ?_
  refine go_aload_n (pc := 18) C dX4_parted_18 rfl 0 rfl ?_
  refine go_iconst (pc := 19) (v := (1 : Int32)) C dX4_parted_19 (by decide) ?_
  refine go_aload_n (pc := 20) C dX4_parted_20 rfl 1 rfl ?_
  refine go_callVX (pc := 21) C [] (hF _ _ _ e2) q809 q811 qs26 q145 q812 x4pd_fact (Nat.le_refl _) (by omega) (xO hT hL.1) xc14 rfl (Nat.le_of_ble_eq_true rfl) ⟨by show k + 1 + r2.2.1 ≤ r9.2.1; omega, by show n + 3 + r2.2.2 ≤ r9.2.2; omega⟩ dX4_parted_21 rfl (fun v9 w9 hp => ?_) (fun w9 hp => ?_)
  · obtain ⟨s2, v2, a2, E2, g5, rfl, rfl, hv2⟩ := hp
    obtain ⟨r3, e3, er3⟩ := hk9 v2 s2 g5
    have g6 : r1.2.1 = r2.2.1 + r3.2.1 := by rw [er3]
    have g7 : r1.2.2 = r2.2.2 + r3.2.2 := by rw [er3]
    have g8 : r1.1 = r3.1 := by rw [er3]
    have ew : XW Γ.d A L (E ++ (E1 ++ [(q, .inr (12, [.null, .null, .int 0]))]) ++ E2) s2 = XW Γ.d A L (E ++ E1) s2 ++ ([(q, .inr (12, [.null, .null, .int 0]))] ++ E2) := by rw [XW_app]; simp only [List.append_assoc]
    rw [ew]
    refine go_callI (pc := 24) (nA := 3) C [.ref a1, .int 1, .ref a2] (Mt.frame (XW Γ.d A L (E ++ E1) s2) E2 (m14_init (b := q) (v1 := a1) (v2 := 1) (v3 := a2) (by decide))) q854 q855 q161 q856 rfl (by decide +kernel) ⟨by show 2 + 1 ≤ cf + 1; omega, by omega⟩ rfl (Nat.le_of_ble_eq_true rfl) ⟨by show k + 1 + r2.2.1 + 0 ≤ r9.2.1; omega, by show n + 3 + r2.2.2 + 0 ≤ r9.2.2; omega⟩ dX4_parted_24 rfl (fun v8 w8 h8 => ?_)
    obtain ⟨w0, ⟨rfl, rfl⟩, rfl⟩ := h8
    refine go_astore_n (pc := 27) C hN dX4_parted_27 rfl (by decide) rfl ?_
    refine go_goto (pc := 28) (tgt := 5) C dX4_parted_28 (by decide) ?_
    have hq := hK _ r3 e3 (k + 1 + r2.2.1 + 0) (n + 3 + r2.2.2 + 0) (E1 ++ ([(q, .inr (12, [.ref a1, .ref a2, .int 1]))] ++ E2)) q ?_ (by omega) (by omega) (by rw [← g8, ← g3]; exact hr)
    · rw [XW_app, List.append_assoc]; exact hq
    · have hm : ∀ b c9 gs, gs.head? ≠ some Value.null → hasO (E ++ (E1 ++ [(q, .inr (12, [.null, .null, .int 0]))]) ++ E2) b c9 gs → hasO (E ++ (E1 ++ ([(q, .inr (12, [.ref a1, .ref a2, .int 1]))] ++ E2))) b c9 gs := by
        intro b c9 gs hg hh
        have := hole_mono (E1 := E ++ E1) (E9 := E2) (q := q) (ci := 12) (fs := [.null, .null, .int 0]) (e := .inr (12, [.ref a1, .ref a2, .int 1])) rfl b c9 gs hg (by simpa [List.append_assoc] using hh)
        simpa [List.append_assoc] using this
      have hv1' := tAt.mono2 hm _ _ _ ((hv.mono (w2 := E ++ (E1 ++ [(q, .inr (12, [.null, .null, .int 0]))]) ++ E2) (fun b c9 gs hh => by have := (hh.appL (w2 := [(q, .inr (12, [.null, .null, .int 0]))] ++ E2)); simpa [List.append_assoc] using this)))
      have hv2' := tAt.mono2 hm _ _ _ hv2
      exact Or.inr (Or.inr ⟨a1, a2, 1, v.1, v2.1, (by have z : hasO (((E ++ E1) ++ [(q, .inr (12, [.ref a1, .ref a2, .int 1]))]) ++ E2) q 12 [.ref a1, .ref a2, .int 1] := hasO.appL (hasO.appR ⟨0, rfl⟩); simpa [List.append_assoc] using z), hv1'.le (Nat.le_max_left _ _), hv2'.le (Nat.le_max_right _ _), rfl⟩)
  · obtain ⟨s2, E2, g5, rfl⟩ := hp
    have e4 := hx9 s2 g5
    refine hX _ _ _ _ _ _ (by omega) (by omega) ⟨s2, E1 ++ ([(q, .inr (12, [.null, .null, .int 0]))] ++ E2), by rw [← hr, g3, e4], by simp only [List.append_assoc]⟩
theorem h4_parted {l : Launch} {d : gD} {A : XA} {L : List Nat} {E : va_W} {s0 : Nat → Bl} {r9 : Cn Tf} {F : (Nat → Bl) → Option (Cn Tf)} {cf clo : Nat} (hF : ∀ (E : va_W) (s0 : Nat → Bl) (r : Cn Tf), F s0 = some r → MtX l d yX4_fact cX4_fact 6 (some (.object "PartyRaft$Test")) (cf, r.2.1, r.2.2) clo (XW d A L E s0) [.ref (A.1 14 0)] (fun v w => ∃ (s9 : Nat → Bl) (f : Tf) (a9 : Nat) (E9 : va_W), r.1 = .inr (f, s9) ∧ v = some (.ref a9) ∧ w = XW d A L (E ++ E9) s9 ∧ tAt (E ++ E9) f.2 a9 f.1) (fun w => ∃ (s9 : Nat → Bl) (E9 : va_W), r.1 = .inl s9 ∧ w = XW d A L (E ++ E9) s9)) (hc : 6 ≤ cf) (hL : xOK L) (hT : 14 ∈ L) (h : fB F 21 1 s0 = some r9) : MtX l d yX4_parted cX4_parted 2 (some (.object "PartyRaft$Test")) (cf + 1, r9.2.1, r9.2.2) (clo + 150) (XW d A L E s0) [.ref (A.1 14 0)] (fun v w => ∃ (s9 : Nat → Bl) (f : Tf) (a9 : Nat) (E9 : va_W), r9.1 = .inr (f, s9) ∧ v = some (.ref a9) ∧ w = XW d A L (E ++ E9) s9 ∧ tAt (E ++ E9) f.2 a9 f.1) (fun w => ∃ (s9 : Nat → Bl) (E9 : va_W), r9.1 = .inl s9 ∧ w = XW d A L (E ++ E9) s9) := by
  refine MtX.of x4pn (Nat.le_of_ble_eq_true rfl) ?_
  intro Γ hl hd hN C hE hX
  subst hl; subst hd
  show Go Γ 0 0 (XW Γ.d A L E s0) 0 [(0, .ref (A.1 14 0))] []
  obtain ⟨r2, e2, hk9, hx9⟩ := bndC_some h
  have g4 : r2.2.1 ≤ r9.2.1 ∧ r2.2.2 ≤ r9.2.2 := by
    cases hz : r2.1 with
    | inl z => rw [hx9 z hz]; exact ⟨Nat.le_refl _, Nat.le_refl _⟩
    | inr z => obtain ⟨r3, -, e3⟩ := hk9 z.1 z.2 hz; rw [e3]; exact ⟨Nat.le_add_right _ _, Nat.le_add_right _ _⟩
  refine go_aload_n (pc := 0) C dX4_parted_0 rfl 0 rfl ?_
  refine go_callVX (pc := 1) C [] (hF _ _ _ e2) q809 q811 qs26 q145 q812 x4pd_fact (Nat.le_refl _) (by omega) (xO hT hL.1) xc14 rfl (Nat.le_of_ble_eq_true rfl) ⟨by show 0 + r2.2.1 ≤ r9.2.1; omega, by show 0 + r2.2.2 ≤ r9.2.2; omega⟩ dX4_parted_1 rfl (fun v9 w9 hp => ?_) (fun w9 hp => ?_)
  · obtain ⟨s2, v2, a2, E2, g5, rfl, rfl, hv2⟩ := hp
    obtain ⟨r3, e3, er3⟩ := hk9 v2 s2 g5
    refine go_astore_n (pc := 4) C hN dX4_parted_4 rfl (by decide) rfl ?_
    exact w4_parted_5 hF hc hN C hE hX hL hT FU (v2, s2) r3 e3 _ _ E2 a2 hv2 (by rw [er3]; show 0 + r2.2.1 + r3.2.1 ≤ r2.2.1 + r3.2.1; omega) (by rw [er3]; show 0 + r2.2.2 + r3.2.2 ≤ r2.2.2 + r3.2.2; omega) (by rw [er3])
  · obtain ⟨s2, E2, g5, rfl⟩ := hp
    have e4 := hx9 s2 g5
    exact hX _ _ _ _ _ _ (by show 0 + r2.2.1 ≤ r9.2.1; omega) (by show 0 + r2.2.2 ≤ r9.2.2; omega) ⟨s2, E2, by rw [e4], rfl⟩
theorem w4_tested_5 {Γ : Gam} {A : XA} {L : List Nat} {E : va_W} {r9 : Cn Tf} {F : (Nat → Bl) → Option (Cn Tf)} {cf clo : Nat} (hF : ∀ (E : va_W) (s0 : Nat → Bl) (r : Cn Tf), F s0 = some r → MtX Γ.l Γ.d yX4_parted cX4_parted 2 (some (.object "PartyRaft$Test")) (cf, r.2.1, r.2.2) clo (XW Γ.d A L E s0) [.ref (A.1 14 0)] (fun v w => ∃ (s9 : Nat → Bl) (f : Tf) (a9 : Nat) (E9 : va_W), r.1 = .inr (f, s9) ∧ v = some (.ref a9) ∧ w = XW Γ.d A L (E ++ E9) s9 ∧ tAt (E ++ E9) f.2 a9 f.1) (fun w => ∃ (s9 : Nat → Bl) (E9 : va_W), r.1 = .inl s9 ∧ w = XW Γ.d A L (E ++ E9) s9)) (hc : 6 ≤ cf) (hN : Γ.nL = 2) (C : Cx Γ cX4_tested RX4 (cf + 1, r9.2.1, r9.2.2) (clo + 150)) (hE : Rets Γ cX4_tested (some (.object "PartyRaft$Test")) r9.2.1 r9.2.2 (fun v w => ∃ (s9 : Nat → Bl) (f : Tf) (a9 : Nat) (E9 : va_W), r9.1 = .inr (f, s9) ∧ v = some (.ref a9) ∧ w = XW Γ.d A L (E ++ E9) s9 ∧ tAt (E ++ E9) f.2 a9 f.1)) (hX : ∀ (k n : Nat) (ws' : va_W) (pc : Nat) (lv : List (Nat × Value)) (st : List Value), k ≤ r9.2.1 → n ≤ r9.2.2 → (fun w => ∃ (s9 : Nat → Bl) (E9 : va_W), r9.1 = .inl s9 ∧ w = XW Γ.d A L (E ++ E9) s9) ws' → GoX Γ k n ws' pc lv st) (hL : xOK L) (hT : 14 ∈ L) : ∀ (m : Nat) (p : Tf × (Nat → Bl)) (r : Cn Tf), loop (gB F 22 0) m p = some r → (fun (p : Tf × (Nat → Bl)) (r : Cn Tf) => ∀ (k n : Nat) (E1 : va_W) (a1 : Nat), tAt (E ++ E1) p.1.2 a1 p.1.1 → k + r.2.1 ≤ r9.2.1 → n + r.2.2 ≤ r9.2.2 → r.1 = r9.1 → Go Γ k n (XW Γ.d A L (E ++ E1) p.2) 5 [(1, .ref a1), (0, .ref (A.1 14 0))] []) p r := by
  refine loop_walkR (P := fun (p : Tf × (Nat → Bl)) (r : Cn Tf) => ∀ (k n : Nat) (E1 : va_W) (a1 : Nat), tAt (E ++ E1) p.1.2 a1 p.1.1 → k + r.2.1 ≤ r9.2.1 → n + r.2.2 ≤ r9.2.2 → r.1 = r9.1 → Go Γ k n (XW Γ.d A L (E ++ E1) p.2) 5 [(1, .ref a1), (0, .ref (A.1 14 0))] []) ?_
  intro K hK ⟨v, s0⟩ r h k n E1 a1 hv hk hn hr
  dsimp only [gB] at h
  show Go Γ k n (XW Γ.d A L (E ++ E1) s0) 5 [(1, .ref a1), (0, .ref (A.1 14 0))] []
  refine go_aload_n (pc := 5) C dX4_tested_5 rfl 1 rfl ?_
  refine go_ldcS 22 (pc := 6) C dX4_tested_6 (by decide +kernel) ?_
  obtain ⟨r1, s1, e1, h⟩ := bnd2_some h
  refine go_callVi (pc := 8) C [.ref (Γ.d.2.2.1 22)] (m4_takesWord hL hT e1) q797 q799 qs23 q145 q800 x4pd_takesWord (by show 5 + 1 ≤ cf + 1; omega) (by omega) (xO hT hL.1) xc14 rfl (Nat.le_of_ble_eq_true rfl) ⟨by show k ≤ r9.2.1; omega, by show n ≤ r9.2.2; omega⟩ dX4_tested_8 rfl ?_
  refine go_if_eq (pc := 11) (tgt := 31) C dX4_tested_11 (by decide) h (fun h => ?_) (fun h => ?_)
  · have h := Option.some.inj h
    subst h
    refine go_aload_n (pc := 31) C dX4_tested_31 rfl 0 rfl ?_
    exact (hE k n _ 32 _ (by omega) (by omega)).2.2.2.2.1 _ _ rfl dX4_tested_32 ⟨_, _, a1, E1, hr.symm, rfl, rfl, hv⟩
  obtain ⟨r1, h, er⟩ := cnt_some h
  obtain ⟨r2, e2, hk9, hx9⟩ := bndC_some h
  have g1 : r.2.1 = 1 + r1.2.1 := by rw [er]
  have g2 : r.2.2 = 3 + r1.2.2 := by rw [er]
  have g3 : r.1 = r1.1 := by rw [er]
  have g4 : r2.2.1 ≤ r1.2.1 ∧ r2.2.2 ≤ r1.2.2 := by
    cases hz : r2.1 with
    | inl z => rw [hx9 z hz]; exact ⟨Nat.le_refl _, Nat.le_refl _⟩
    | inr z => obtain ⟨r3, -, e3⟩ := hk9 z.1 z.2 hz; rw [e3]; exact ⟨Nat.le_add_right _ _, Nat.le_add_right _ _⟩
  refine go_new (pc := 14) (ci := 12) (T := TX14) (N := 3) (fs := [.null, .null, .int 0]) C in_X14 tyX14 tyX14_ok q852 q853 q161 rfl (dflt_all (by decide +kernel)) ⟨by show k + 1 ≤ r9.2.1; omega, by show n + 3 ≤ r9.2.2; omega⟩ dX4_tested_14 (fun q => ?_)
  rw [XW_app, List.append_assoc]
  refine go_dup (pc := 17) C dX4_tested_17 rfl ?_
  refine go_aload_n (pc := 18) C dX4_tested_18 rfl 0 rfl ?_
  refine go_iconst (pc := 19) (v := (0 : Int32)) C dX4_tested_19 (by decide) ?_
  refine go_aload_n (pc := 20) C dX4_tested_20 rfl 1 rfl ?_
  refine go_callVX (pc := 21) C [] (hF _ _ _ e2) q805 q807 qs25 q145 q808 x4pd_parted (Nat.le_refl _) (by omega) (xO hT hL.1) xc14 rfl (Nat.le_of_ble_eq_true rfl) ⟨by show k + 1 + r2.2.1 ≤ r9.2.1; omega, by show n + 3 + r2.2.2 ≤ r9.2.2; omega⟩ dX4_tested_21 rfl (fun v9 w9 hp => ?_) (fun w9 hp => ?_)
  · obtain ⟨s2, v2, a2, E2, g5, rfl, rfl, hv2⟩ := hp
    obtain ⟨r3, e3, er3⟩ := hk9 v2 s2 g5
    have g6 : r1.2.1 = r2.2.1 + r3.2.1 := by rw [er3]
    have g7 : r1.2.2 = r2.2.2 + r3.2.2 := by rw [er3]
    have g8 : r1.1 = r3.1 := by rw [er3]
    have ew : XW Γ.d A L (E ++ (E1 ++ [(q, .inr (12, [.null, .null, .int 0]))]) ++ E2) s2 = XW Γ.d A L (E ++ E1) s2 ++ ([(q, .inr (12, [.null, .null, .int 0]))] ++ E2) := by rw [XW_app]; simp only [List.append_assoc]
    rw [ew]
    refine go_callI (pc := 24) (nA := 3) C [.ref a1, .int 0, .ref a2] (Mt.frame (XW Γ.d A L (E ++ E1) s2) E2 (m14_init (b := q) (v1 := a1) (v2 := 0) (v3 := a2) (by decide))) q854 q855 q161 q856 rfl (by decide +kernel) ⟨by show 2 + 1 ≤ cf + 1; omega, by omega⟩ rfl (Nat.le_of_ble_eq_true rfl) ⟨by show k + 1 + r2.2.1 + 0 ≤ r9.2.1; omega, by show n + 3 + r2.2.2 + 0 ≤ r9.2.2; omega⟩ dX4_tested_24 rfl (fun v8 w8 h8 => ?_)
    obtain ⟨w0, ⟨rfl, rfl⟩, rfl⟩ := h8
    refine go_astore_n (pc := 27) C hN dX4_tested_27 rfl (by decide) rfl ?_
    refine go_goto (pc := 28) (tgt := 5) C dX4_tested_28 (by decide) ?_
    have hq := hK _ r3 e3 (k + 1 + r2.2.1 + 0) (n + 3 + r2.2.2 + 0) (E1 ++ ([(q, .inr (12, [.ref a1, .ref a2, .int 0]))] ++ E2)) q ?_ (by omega) (by omega) (by rw [← g8, ← g3]; exact hr)
    · rw [XW_app, List.append_assoc]; exact hq
    · have hm : ∀ b c9 gs, gs.head? ≠ some Value.null → hasO (E ++ (E1 ++ [(q, .inr (12, [.null, .null, .int 0]))]) ++ E2) b c9 gs → hasO (E ++ (E1 ++ ([(q, .inr (12, [.ref a1, .ref a2, .int 0]))] ++ E2))) b c9 gs := by
        intro b c9 gs hg hh
        have := hole_mono (E1 := E ++ E1) (E9 := E2) (q := q) (ci := 12) (fs := [.null, .null, .int 0]) (e := .inr (12, [.ref a1, .ref a2, .int 0])) rfl b c9 gs hg (by simpa [List.append_assoc] using hh)
        simpa [List.append_assoc] using this
      have hv1' := tAt.mono2 hm _ _ _ ((hv.mono (w2 := E ++ (E1 ++ [(q, .inr (12, [.null, .null, .int 0]))]) ++ E2) (fun b c9 gs hh => by have := (hh.appL (w2 := [(q, .inr (12, [.null, .null, .int 0]))] ++ E2)); simpa [List.append_assoc] using this)))
      have hv2' := tAt.mono2 hm _ _ _ hv2
      exact Or.inr (Or.inr ⟨a1, a2, 0, v.1, v2.1, (by have z : hasO (((E ++ E1) ++ [(q, .inr (12, [.ref a1, .ref a2, .int 0]))]) ++ E2) q 12 [.ref a1, .ref a2, .int 0] := hasO.appL (hasO.appR ⟨0, rfl⟩); simpa [List.append_assoc] using z), hv1'.le (Nat.le_max_left _ _), hv2'.le (Nat.le_max_right _ _), rfl⟩)
  · obtain ⟨s2, E2, g5, rfl⟩ := hp
    have e4 := hx9 s2 g5
    refine hX _ _ _ _ _ _ (by omega) (by omega) ⟨s2, E1 ++ ([(q, .inr (12, [.null, .null, .int 0]))] ++ E2), by rw [← hr, g3, e4], by simp only [List.append_assoc]⟩
theorem h4_tested {l : Launch} {d : gD} {A : XA} {L : List Nat} {E : va_W} {s0 : Nat → Bl} {r9 : Cn Tf} {F : (Nat → Bl) → Option (Cn Tf)} {cf clo : Nat} (hF : ∀ (E : va_W) (s0 : Nat → Bl) (r : Cn Tf), F s0 = some r → MtX l d yX4_parted cX4_parted 2 (some (.object "PartyRaft$Test")) (cf, r.2.1, r.2.2) clo (XW d A L E s0) [.ref (A.1 14 0)] (fun v w => ∃ (s9 : Nat → Bl) (f : Tf) (a9 : Nat) (E9 : va_W), r.1 = .inr (f, s9) ∧ v = some (.ref a9) ∧ w = XW d A L (E ++ E9) s9 ∧ tAt (E ++ E9) f.2 a9 f.1) (fun w => ∃ (s9 : Nat → Bl) (E9 : va_W), r.1 = .inl s9 ∧ w = XW d A L (E ++ E9) s9)) (hc : 6 ≤ cf) (hL : xOK L) (hT : 14 ∈ L) (h : fB F 22 0 s0 = some r9) : MtX l d yX4_tested cX4_tested 2 (some (.object "PartyRaft$Test")) (cf + 1, r9.2.1, r9.2.2) (clo + 150) (XW d A L E s0) [.ref (A.1 14 0)] (fun v w => ∃ (s9 : Nat → Bl) (f : Tf) (a9 : Nat) (E9 : va_W), r9.1 = .inr (f, s9) ∧ v = some (.ref a9) ∧ w = XW d A L (E ++ E9) s9 ∧ tAt (E ++ E9) f.2 a9 f.1) (fun w => ∃ (s9 : Nat → Bl) (E9 : va_W), r9.1 = .inl s9 ∧ w = XW d A L (E ++ E9) s9) := by
  refine MtX.of x4pn (Nat.le_of_ble_eq_true rfl) ?_
  intro Γ hl hd hN C hE hX
  subst hl; subst hd
  show Go Γ 0 0 (XW Γ.d A L E s0) 0 [(0, .ref (A.1 14 0))] []
  obtain ⟨r2, e2, hk9, hx9⟩ := bndC_some h
  have g4 : r2.2.1 ≤ r9.2.1 ∧ r2.2.2 ≤ r9.2.2 := by
    cases hz : r2.1 with
    | inl z => rw [hx9 z hz]; exact ⟨Nat.le_refl _, Nat.le_refl _⟩
    | inr z => obtain ⟨r3, -, e3⟩ := hk9 z.1 z.2 hz; rw [e3]; exact ⟨Nat.le_add_right _ _, Nat.le_add_right _ _⟩
  refine go_aload_n (pc := 0) C dX4_tested_0 rfl 0 rfl ?_
  refine go_callVX (pc := 1) C [] (hF _ _ _ e2) q805 q807 qs25 q145 q808 x4pd_parted (Nat.le_refl _) (by omega) (xO hT hL.1) xc14 rfl (Nat.le_of_ble_eq_true rfl) ⟨by show 0 + r2.2.1 ≤ r9.2.1; omega, by show 0 + r2.2.2 ≤ r9.2.2; omega⟩ dX4_tested_1 rfl (fun v9 w9 hp => ?_) (fun w9 hp => ?_)
  · obtain ⟨s2, v2, a2, E2, g5, rfl, rfl, hv2⟩ := hp
    obtain ⟨r3, e3, er3⟩ := hk9 v2 s2 g5
    refine go_astore_n (pc := 4) C hN dX4_tested_4 rfl (by decide) rfl ?_
    exact w4_tested_5 hF hc hN C hE hX hL hT FU (v2, s2) r3 e3 _ _ E2 a2 hv2 (by rw [er3]; show 0 + r2.2.1 + r3.2.1 ≤ r2.2.1 + r3.2.1; omega) (by rw [er3]; show 0 + r2.2.2 + r3.2.2 ≤ r2.2.2 + r3.2.2; omega) (by rw [er3])
  · obtain ⟨s2, E2, g5, rfl⟩ := hp
    have e4 := hx9 s2 g5
    exact hX _ _ _ _ _ _ (by show 0 + r2.2.1 ≤ r9.2.1; omega) (by show 0 + r2.2.2 ≤ r9.2.2; omega) ⟨s2, E2, by rw [e4], rfl⟩

/-! Text.clauseHere, Text.ruleTold -/
set_option maxRecDepth 100000
theorem vAt.mono3 {ws w2 : va_W} (hw : ∀ b ci fs, 7 ≤ ci → hasO ws b ci fs → hasO w2 b ci fs) : ∀ (n a : Nat) (f : (Nat → Int64) → Int64), vAt ws n a f → vAt w2 n a f := by
  intro n
  induction n with
  | zero => intro a f h; exact h
  | succ n ih =>
    rintro a f (⟨z, h1, h2⟩ | ⟨z, h1, h2⟩ | ⟨a1, a2, sg, f1, f2, h1, h2, h3, h4⟩)
    · exact Or.inl ⟨z, hw _ _ _ (by decide) h1, h2⟩
    · exact Or.inr (Or.inl ⟨z, hw _ _ _ (by decide) h1, h2⟩)
    · exact Or.inr (Or.inr ⟨a1, a2, sg, f1, f2, hw _ _ _ (by decide) h1, ih _ _ h2, ih _ _ h3, h4⟩)
theorem tAt.mono3 {ws w2 : va_W} (hw : ∀ b ci fs, 7 ≤ ci → hasO ws b ci fs → hasO w2 b ci fs) : ∀ (n a : Nat) (f : (Nat → Int64) → Bool), tAt ws n a f → tAt w2 n a f := by
  intro n
  induction n with
  | zero => intro a f h; exact h
  | succ n ih =>
    rintro a f (⟨a1, f1, h1, h2, h3⟩ | ⟨a1, a2, sg, f1, f2, h1, h2, h3, h4⟩ | ⟨a1, a2, sg, f1, f2, h1, h2, h3, h4⟩)
    · exact Or.inl ⟨a1, f1, hw _ _ _ (by decide) h1, ih _ _ h2, h3⟩
    · exact Or.inr (Or.inl ⟨a1, a2, sg, f1, f2, hw _ _ _ (by decide) h1, vAt.mono3 hw _ _ _ h2, vAt.mono3 hw _ _ _ h3, h4⟩)
    · exact Or.inr (Or.inr ⟨a1, a2, sg, f1, f2, hw _ _ _ (by decide) h1, ih _ _ h2, ih _ _ h3, h4⟩)
theorem cAt.mono3 {ws w2 : va_W} {n b : Nat} {c : Cls} (hw : ∀ b ci fs, 6 ≤ ci → hasO ws b ci fs → hasO w2 b ci fs) (h : cAt ws n b c) : cAt w2 n b c := by
  obtain ⟨a1, tv, h1, h2, h3⟩ := h
  refine ⟨a1, tv, hw _ _ _ (by decide) h1, vAt.mono3 (fun b ci fs hc => hw b ci fs (by omega)) _ _ _ h2, ?_⟩
  rcases h3 with h3 | ⟨a2, f, g1, g2, g3⟩
  · exact Or.inl h3
  · exact Or.inr ⟨a2, f, g1, g2, tAt.mono3 (fun b ci fs hc => hw b ci fs (by omega)) _ _ _ g3⟩
theorem cAt.le {ws : va_W} {n m b : Nat} {c : Cls} (h : cAt ws n b c) (hm : n ≤ m) : cAt ws m b c := by
  obtain ⟨a1, tv, h1, h2, h3⟩ := h
  refine ⟨a1, tv, h1, h2.le hm, ?_⟩
  rcases h3 with h3 | ⟨a2, f, g1, g2, g3⟩
  · exact Or.inl h3
  · exact Or.inr ⟨a2, f, g1, g2, g3.le hm⟩
/-- a cell in the midst of the trees changes that is none of theirs -/
theorem mid_mono {E1 E9 : va_W} {X X' : va_W} (hl : X.length = X'.length) {lo : Nat} (hX : ∀ (k b ci : Nat) (fs : List Value), X[k]? = some (b, .inr (ci, fs)) → lo ≤ ci → X'[k]? = some (b, .inr (ci, fs))) : ∀ b ci fs, lo ≤ ci → hasO (E1 ++ (X ++ E9)) b ci fs → hasO (E1 ++ (X' ++ E9)) b ci fs := by
  intro b ci fs hc h
  obtain ⟨k, hk⟩ := h
  refine ⟨k, ?_⟩
  by_cases h1 : k < E1.length
  · rw [List.getElem?_append_left h1] at hk ⊢; exact hk
  · rw [List.getElem?_append_right (by omega)] at hk ⊢
    by_cases h2 : k - E1.length < X.length
    · rw [List.getElem?_append_left h2] at hk
      rw [List.getElem?_append_left (by omega)]
      exact hX _ _ _ _ hk hc
    · rw [List.getElem?_append_right (by omega)] at hk ⊢
      rw [← hl]; exact hk
theorem xputO {d : gD} {A : XA} {L : List Nat} {E X Y E9 : va_W} {x : Nat → Bl} {b ci : Nat} {fs fs' : List Value} (h : putO X b ci fs fs' Y) : putO (XW d A L (E ++ (X ++ E9)) x) b ci fs fs' (XW d A L (E ++ (Y ++ E9)) x) := putO.appR (putO.appR (putO.appL h))
theorem xputA {d : gD} {A : XA} {L : List Nat} {E X Y E9 : va_W} {x : Nat → Bl} {b : Nat} {z z' : ClassId × vp_A} (h : putA X b z z' Y) : putA (XW d A L (E ++ (X ++ E9)) x) b z z' (XW d A L (E ++ (Y ++ E9)) x) := putA.appR (putA.appR (putA.appL h))
theorem xhasO {d : gD} {A : XA} {L : List Nat} {E : va_W} {x : Nat → Bl} {b ci : Nat} {fs : List Value} (h : hasO E b ci fs) : hasO (XW d A L E x) b ci fs := hasO.appR h
theorem xhasA {d : gD} {A : XA} {L : List Nat} {E : va_W} {x : Nat → Bl} {b : Nat} {z : ClassId × vp_A} (h : hasA E b z) : hasA (XW d A L E x) b z := hasA.appR h
theorem xc6 : CL[6]? = some (RX6, TX6, 2) := rfl
theorem xc5 : CL[5]? = some (RX5, TX5, 2) := rfl
theorem X4fl_X6_0 : Cond.fieldLinkNest RX4 199 (TX6 0).1 (TX6 0).2.1 (TX6 0).2.2.1 "PartyRaft" ∈ lw_tbl := q732
theorem X4fl_X6_1 : Cond.fieldLinkNest RX4 211 (TX6 1).1 (TX6 1).2.1 (TX6 1).2.2.1 "PartyRaft" ∈ lw_tbl := q734
theorem X4fl_X5_0 : Cond.fieldLinkNest RX4 221 (TX5 0).1 (TX5 0).2.1 (TX5 0).2.2.1 "PartyRaft" ∈ lw_tbl := q713
theorem X4fl_X5_1 : Cond.fieldLinkNest RX4 225 (TX5 1).1 (TX5 1).2.1 (TX5 1).2.2.1 "PartyRaft" ∈ lw_tbl := q715
/-- a clause and the height of its trees -/
abbrev Cf : Type := Cls × Nat
def f4_clauseHere (n : Nat) (s0 : Nat → Bl) : Option (Cn Cf) :=
  cnt 1 2 (bndC (f4_sum s0) (fun v s1 => bnd2 (f4_takesWord s1 19) (fun r2 s2 => if r2 = 0 then some (.inr (((v.1, none), v.2), s2), (0, 0)) else bndC (f4_tested n s2) (fun t s3 => some (.inr (((v.1, some t.1), max v.2 t.2), s3), (0, 0))))))
theorem m4_tested {l : Launch} {d : gD} {A : XA} {L : List Nat} (hL : xOK L) (hT : 14 ∈ L) (n : Nat) (E : va_W) (s0 : Nat → Bl) (r9 : Cn Tf) (h : f4_tested n s0 = some r9) : MtX l d yX4_tested cX4_tested 2 (some (.object "PartyRaft$Test")) (11 + 3 * n, r9.2.1, r9.2.2) (560 + 400 * n) (XW d A L E s0) [.ref (A.1 14 0)] (fun v w => ∃ (s9 : Nat → Bl) (f : Tf) (a9 : Nat) (E9 : va_W), r9.1 = .inr (f, s9) ∧ v = some (.ref a9) ∧ w = XW d A L (E ++ E9) s9 ∧ tAt (E ++ E9) f.2 a9 f.1) (fun w => ∃ (s9 : Nat → Bl) (E9 : va_W), r9.1 = .inl s9 ∧ w = XW d A L (E ++ E9) s9) := by
  have hP : ∀ (E : va_W) (s0 : Nat → Bl) (r : Cn Tf), fB (f4_fact n) 21 1 s0 = some r → MtX l d yX4_parted cX4_parted 2 (some (.object "PartyRaft$Test")) (9 + 3 * n + 1, r.2.1, r.2.2) (260 + 400 * n + 150) (XW d A L E s0) [.ref (A.1 14 0)] (fun v w => ∃ (s9 : Nat → Bl) (f : Tf) (a9 : Nat) (E9 : va_W), r.1 = .inr (f, s9) ∧ v = some (.ref a9) ∧ w = XW d A L (E ++ E9) s9 ∧ tAt (E ++ E9) f.2 a9 f.1) (fun w => ∃ (s9 : Nat → Bl) (E9 : va_W), r.1 = .inl s9 ∧ w = XW d A L (E ++ E9) s9) := fun E s0 r hh => h4_parted (m4_fact hL hT n) (by omega) hL hT hh
  have h9 := h4_tested (E := E) hP (by omega) hL hT h
  have e1 : 9 + 3 * n + 1 + 1 = 11 + 3 * n := by omega
  have e2 : 260 + 400 * n + 150 + 150 = 560 + 400 * n := by omega
  rw [e1, e2] at h9
  exact h9
theorem m4_clauseHere {l : Launch} {d : gD} {A : XA} {L : List Nat} (hL : xOK L) (hT : 14 ∈ L) (n : Nat) (E : va_W) (s0 : Nat → Bl) (r9 : Cn Cf) (h : f4_clauseHere n s0 = some r9) : MtX l d yX4_clauseHere cX4_clauseHere 2 (some (.object "PartyRaft$Clause")) (12 + 3 * n, r9.2.1, r9.2.2) (660 + 400 * n) (XW d A L E s0) [.ref (A.1 14 0)] (fun v w => ∃ (s9 : Nat → Bl) (f : Cf) (a9 : Nat) (E9 : va_W), r9.1 = .inr (f, s9) ∧ v = some (.ref a9) ∧ w = XW d A L (E ++ E9) s9 ∧ cAt (E ++ E9) f.2 a9 f.1) (fun w => ∃ (s9 : Nat → Bl) (E9 : va_W), r9.1 = .inl s9 ∧ w = XW d A L (E ++ E9) s9) := by
  refine MtX.of x4pn (Nat.le_of_ble_eq_true rfl) ?_
  intro Γ hl hd hN C hE hX
  subst hl; subst hd
  show Go Γ 0 0 (XW Γ.d A L E s0) 0 [(0, .ref (A.1 14 0))] []
  unfold f4_clauseHere at h
  obtain ⟨r2, h, er2⟩ := cnt_some h
  obtain ⟨r3, e3, hk3, hx3⟩ := bndC_some h
  have g3 := bndC_le hk3 hx3
  have k1 : r9.2.1 = 1 + r2.2.1 := by rw [er2]
  have k2 : r9.2.2 = 2 + r2.2.2 := by rw [er2]
  have k3 : r9.1 = r2.1 := by rw [er2]
  refine go_new (pc := 0) (ci := 6) (T := TX6) (N := 2) (fs := [.null, .null]) C in_X6 tyX6 tyX6_ok q725 q726 q153 rfl (dflt_all (by decide +kernel)) ⟨by show 0 + 1 ≤ r9.2.1; omega, by show 0 + 2 ≤ r9.2.2; omega⟩ dX4_clauseHere_0 (fun q => ?_)
  refine go_dup (pc := 3) C dX4_clauseHere_3 rfl ?_
  refine go_callIN (pc := 4) (nA := 0) (st := [.ref q]) C [] (m6_init (ws := XW Γ.d A L E s0 ++ [(q, .inr (6, [.null, .null]))]) (b := q)) q727 q728 q153 q729 rfl (by decide +kernel) ⟨by show 1 + 1 ≤ 12 + 3 * n; omega, by omega⟩ rfl (Nat.le_of_ble_eq_true rfl) ⟨by show 0 + 1 + 0 ≤ r9.2.1; omega, by show 0 + 2 + 0 ≤ r9.2.2; omega⟩ dX4_clauseHere_4 rfl (fun v9 w9 h9 => ?_)
  obtain ⟨rfl, rfl⟩ := h9
  rw [XW_app]
  refine go_astore_n (pc := 7) C hN dX4_clauseHere_7 rfl (by decide) rfl ?_
  refine go_aload_n (pc := 8) C dX4_clauseHere_8 rfl 0 rfl ?_
  refine go_aload_n (pc := 9) C dX4_clauseHere_9 rfl 1 rfl ?_
  refine go_callVX (pc := 10) C [] (m4_sum hL hT e3) q740 q742 qs19 q145 q743 x4pd_sum (by show 8 + 1 ≤ 12 + 3 * n; omega) (by omega) (xO hT hL.1) xc14 rfl (Nat.le_of_ble_eq_true rfl) ⟨by show 0 + 1 + 0 + r3.2.1 ≤ r9.2.1; omega, by show 0 + 2 + 0 + r3.2.2 ≤ r9.2.2; omega⟩ dX4_clauseHere_10 rfl (fun v9 w9 hp => ?_) (fun w9 hp => ?_)
  · obtain ⟨s3, v3, a3, E3, g5, rfl, rfl, hv3⟩ := hp
    obtain ⟨r4, h, er4⟩ := hk3 v3 s3 g5
    have k4 : r2.2.1 = r3.2.1 + r4.2.1 := by rw [er4]
    have k5 : r2.2.2 = r3.2.2 + r4.2.2 := by rw [er4]
    have k6 : r2.1 = r4.1 := by rw [er4]
    rw [show E ++ [(q, .inr (6, [.null, .null]))] ++ E3 = E ++ ([(q, .inr (6, [.null, .null]))] ++ E3) by rw [List.append_assoc]]
    refine go_putfieldN (pc := 13) (v := .ref a3) (ty := .object "PartyRaft$Value") C 0 (xputO (Y := [(q, .inr (6, [.ref a3, .null]))]) ⟨0, rfl, rfl⟩) xc6 in_X6 tyX6 tyX6_ok nmX6 (by decide) X4fl_X6_0 rfl rfl rfl rfl (Nat.le_of_ble_eq_true rfl) dX4_clauseHere_13 ?_
    have hv3' : vAt (E ++ ([(q, .inr (6, [.ref a3, .null]))] ++ E3)) v3.2 a3 v3.1 := vAt.mono3 (mid_mono (lo := 7) (X := [(q, .inr (6, [.null, .null]))]) (X' := [(q, .inr (6, [.ref a3, .null]))]) rfl (fun k b ci fs hk hc => by
      match k, hk with
      | 0, hk => cases hk; omega
      | k + 1, hk => cases hk)) _ _ _ (by rw [List.append_assoc] at hv3; exact hv3)
    refine go_aload_n (pc := 16) C dX4_clauseHere_16 rfl 0 rfl ?_
    refine go_aload_n (pc := 17) C dX4_clauseHere_17 rfl 1 rfl ?_
    refine go_ldcS 19 (pc := 18) C dX4_clauseHere_18 (by decide +kernel) ?_
    obtain ⟨x5, s5, e5, h⟩ := bnd2_some h
    refine go_callVi (pc := 20) C [.ref (Γ.d.2.2.1 19)] (m4_takesWord hL hT e5) q797 q799 qs23 q145 q800 x4pd_takesWord (by show 5 + 1 ≤ 12 + 3 * n; omega) (by omega) (xO hT hL.1) xc14 rfl (Nat.le_of_ble_eq_true rfl) ⟨by show 0 + 1 + 0 + r3.2.1 ≤ r9.2.1; omega, by show 0 + 2 + 0 + r3.2.2 ≤ r9.2.2; omega⟩ dX4_clauseHere_20 rfl ?_
    refine go_if_eq (pc := 23) (tgt := 33) C dX4_clauseHere_23 (by decide) h (fun h => ?_) (fun h => ?_)
    · have h := Option.some.inj h
      refine go_aconst_null (pc := 33) C dX4_clauseHere_33 ?_
      refine go_putfieldN (pc := 34) (v := .null) (ty := .object "PartyRaft$Test") C 1 (xputO (X := [(q, .inr (6, [.ref a3, .null]))]) (Y := [(q, .inr (6, [.ref a3, .null]))]) ⟨0, rfl, rfl⟩) xc6 in_X6 tyX6 tyX6_ok nmX6 (by decide) X4fl_X6_1 rfl rfl rfl rfl (Nat.le_of_ble_eq_true rfl) dX4_clauseHere_34 ?_
      refine go_aload_n (pc := 37) C dX4_clauseHere_37 rfl 0 rfl ?_
      exact (hE _ _ _ 38 _ (by show 0 + 1 + 0 + r3.2.1 ≤ r9.2.1; omega) (by show 0 + 2 + 0 + r3.2.2 ≤ r9.2.2; omega)).2.2.2.2.1 _ _ rfl dX4_clauseHere_38 ⟨s5, _, q, [(q, .inr (6, [.ref a3, .null]))] ++ E3, by rw [k3, k6, ← h], rfl, rfl, a3, .null, hasO.appR (hasO.appL ⟨0, rfl⟩), hv3', Or.inl ⟨rfl, rfl⟩⟩
    · obtain ⟨r6, e6, hk6, hx6⟩ := bndC_some h
      have g6 := bndC_le hk6 hx6
      refine go_aload_n (pc := 26) C dX4_clauseHere_26 rfl 1 rfl ?_
      refine go_callVX (pc := 27) C [] (m4_tested hL hT n _ _ _ e6) q801 q803 qs24 q145 q804 x4pd_tested (by show 11 + 3 * n + 1 ≤ 12 + 3 * n; omega) (by omega) (xO hT hL.1) xc14 rfl (Nat.le_of_ble_eq_true rfl) ⟨by show 0 + 1 + 0 + r3.2.1 + r6.2.1 ≤ r9.2.1; omega, by show 0 + 2 + 0 + r3.2.2 + r6.2.2 ≤ r9.2.2; omega⟩ dX4_clauseHere_27 rfl (fun v9 w9 hp => ?_) (fun w9 hp => ?_)
      · obtain ⟨s6, v6, a6, E6, g7, rfl, rfl, hv6⟩ := hp
        obtain ⟨r7, h, er7⟩ := hk6 v6 s6 g7
        have h := Option.some.inj h
        have k7 : r4.1 = r7.1 := by rw [er7]
        refine go_goto (pc := 30) (tgt := 34) C dX4_clauseHere_30 (by decide) ?_
        rw [show E ++ ([(q, .inr (6, [.ref a3, .null]))] ++ E3) ++ E6 = E ++ ([(q, .inr (6, [.ref a3, .null]))] ++ (E3 ++ E6)) by simp only [List.append_assoc]]
        refine go_putfieldN (pc := 34) (v := .ref a6) (ty := .object "PartyRaft$Test") C 1 (xputO (Y := [(q, .inr (6, [.ref a3, .ref a6]))]) ⟨0, rfl, rfl⟩) xc6 in_X6 tyX6 tyX6_ok nmX6 (by decide) X4fl_X6_1 rfl rfl rfl rfl (Nat.le_of_ble_eq_true rfl) dX4_clauseHere_34 ?_
        have hm := mid_mono (E1 := E) (E9 := E3 ++ E6) (lo := 7) (X := [(q, .inr (6, [.ref a3, .null]))]) (X' := [(q, .inr (6, [.ref a3, .ref a6]))]) rfl (fun k b ci fs hk hc => by
          match k, hk with
          | 0, hk => cases hk; omega
          | k + 1, hk => cases hk)
        have hv3'' := vAt.mono3 hm _ _ _ (hv3'.mono (w2 := E ++ ([(q, .inr (6, [.ref a3, .null]))] ++ (E3 ++ E6))) (fun b ci fs hh => by have := hh.appL (w2 := E6); simpa only [List.append_assoc] using this))
        have hv6' := tAt.mono3 hm _ _ _ (by simpa only [List.append_assoc] using hv6)
        refine go_aload_n (pc := 37) C dX4_clauseHere_37 rfl 0 rfl ?_
        exact (hE _ _ _ 38 _ (by show 0 + 1 + 0 + r3.2.1 + r6.2.1 ≤ r9.2.1; omega) (by show 0 + 2 + 0 + r3.2.2 + r6.2.2 ≤ r9.2.2; omega)).2.2.2.2.1 _ _ rfl dX4_clauseHere_38 ⟨s6, _, q, [(q, .inr (6, [.ref a3, .ref a6]))] ++ (E3 ++ E6), by rw [k3, k6, k7, ← h], rfl, rfl, a3, .ref a6, hasO.appR (hasO.appL ⟨0, rfl⟩), hv3''.le (Nat.le_max_left _ _), Or.inr ⟨a6, v6.1, rfl, rfl, hv6'.le (Nat.le_max_right _ _)⟩⟩
      · obtain ⟨s6, E6, g7, rfl⟩ := hp
        exact hX _ _ _ _ _ _ (by show 0 + 1 + 0 + r3.2.1 + r6.2.1 ≤ r9.2.1; omega) (by show 0 + 2 + 0 + r3.2.2 + r6.2.2 ≤ r9.2.2; omega) ⟨s6, [(q, .inr (6, [.ref a3, .null]))] ++ E3 ++ E6, by rw [k3, k6, hx6 s6 g7], by simp only [List.append_assoc]⟩
  · obtain ⟨s3, E3, g5, rfl⟩ := hp
    exact hX _ _ _ _ _ _ (by show 0 + 1 + 0 + r3.2.1 ≤ r9.2.1; omega) (by show 0 + 2 + 0 + r3.2.2 ≤ r9.2.2; omega) ⟨s3, [(q, .inr (6, [.null, .null]))] ++ E3, by rw [k3, hx3 s3 g5], by simp only [List.append_assoc]⟩

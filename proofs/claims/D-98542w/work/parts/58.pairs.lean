/-! Text.term, Text.sum; printed by gen/pairs.py -/
set_option maxRecDepth 100000
def pairF (sg : Int32) (v v2 : Vf) : Vf := (fun wds => pairV sg (v.1 wds) (v2.1 wds), max v.2 v2.2 + 1)
def b4_term (K : Vf × (Nat → Bl) → Option (Cn Vf)) (v : Vf) (s1 : Nat → Bl) : Option (Cn Vf) :=
  chk (inB ((s1 14).1 2) 400) (cnt 1 3 (bndC (f4_value (upX s1 14 (bI (s1 14) 2 ((s1 14).1 2 + (1 : Int32))))) (fun v2 s2 => K (pairF ((s1 0).2.1 7 ((s1 14).1 2).toNatClampNeg) v v2, s2))))
def g4_term (K : Vf × (Nat → Bl) → Option (Cn Vf)) (p : Vf × (Nat → Bl)) : Option (Cn Vf) := match p with
  | (v, s0) => bnd2 (f4_see s0) (fun r1 s1 => if r1 = (42 : Int32) then b4_term K v s1 else bnd2 (f4_see s1) (fun r2 s2 => if r2 = (47 : Int32) then b4_term K v s2 else bnd2 (f4_see s2) (fun r3 s3 => if r3 = (37 : Int32) then b4_term K v s3 else some (.inr (v, s3), (0, 0)))))
def f4_term (s0 : Nat → Bl) : Option (Cn Vf) := bndC (f4_value s0) (fun v s => loop g4_term FU (v, s))
theorem b4_term_walk {Γ : Gam} {A : XA} {L : List Nat} {E : va_W} {r9 : Cn Vf} (hN : Γ.nL = 3) (C : Cx Γ cX4_term RX4 (7, r9.2.1, r9.2.2) 180) (hE : Rets Γ cX4_term (some (.object "PartyRaft$Value")) r9.2.1 r9.2.2 (fun v w => ∃ (s9 : Nat → Bl) (f : Vf) (a9 : Nat) (E9 : va_W), r9.1 = .inr (f, s9) ∧ v = some (.ref a9) ∧ w = XW Γ.d A L (E ++ E9) s9 ∧ vAt (E ++ E9) f.2 a9 f.1)) (hX : ∀ (k n : Nat) (ws' : va_W) (pc : Nat) (lv : List (Nat × Value)) (st : List Value), k ≤ r9.2.1 → n ≤ r9.2.2 → (fun w => ∃ (s9 : Nat → Bl) (E9 : va_W), r9.1 = .inl s9 ∧ w = XW Γ.d A L (E ++ E9) s9) ws' → GoX Γ k n ws' pc lv st) (hL : xOK L) (hT : 14 ∈ L) (K : Vf × (Nat → Bl) → Option (Cn Vf)) (hK : ∀ (v : Vf) (s : Nat → Bl) (r : Cn Vf), K (v, s) = some r → ∀ (k n : Nat) (E1 : va_W) (a1 : Nat), vAt (E ++ E1) v.2 a1 v.1 → k + r.2.1 ≤ r9.2.1 → n + r.2.2 ≤ r9.2.2 → r.1 = r9.1 → Go Γ k n (XW Γ.d A L (E ++ E1) s) 5 [(1, .ref a1), (0, .ref (A.1 14 0))] []) (v : Vf) (s1 : Nat → Bl) (r : Cn Vf) (h : b4_term K v s1 = some r) (k n : Nat) (E1 : va_W) (a1 : Nat) (hv : vAt (E ++ E1) v.2 a1 v.1) (hk : k + r.2.1 ≤ r9.2.1) (hn : n + r.2.2 ≤ r9.2.2) (hr : r.1 = r9.1) : Go Γ k n (XW Γ.d A L (E ++ E1) s1) 32 [(1, .ref a1), (0, .ref (A.1 14 0))] [] := by
  unfold b4_term at h
  refine go_aload_n (pc := 32) C dX4_term_32 rfl 1 rfl ?_
  refine X4g_14_6 (pc := 33) C hL hT dX4_term_33 ?_
  refine X4g_0_7 (pc := 36) C hL dX4_term_36 ?_
  refine go_aload_n (pc := 39) C dX4_term_39 rfl 1 rfl ?_
  refine X4g_14_2 (pc := 40) C hL hT dX4_term_40 ?_
  refine go_bald (pc := 43) C (xa_0_7 hL) h dX4_term_43 (fun h => ?_)
  refine go_istore_n (pc := 44) C hN dX4_term_44 rfl (by decide) rfl ?_
  refine go_aload_n (pc := 45) C dX4_term_45 rfl 2 rfl ?_
  refine go_dup (pc := 46) C dX4_term_46 rfl ?_
  refine X4g_14_2 (pc := 47) C hL hT dX4_term_47 ?_
  refine go_iconst (pc := 50) (v := (1 : Int32)) C dX4_term_50 (by decide) ?_
  refine go_iadd (pc := 51) C dX4_term_51 ?_
  refine X4p_14_2 (pc := 52) C hL hT dX4_term_52 ?_
  obtain ⟨r1, h, er⟩ := cnt_some h
  obtain ⟨r2, e2, hk9, hx9⟩ := bndC_some h
  have g1 : r.2.1 = 1 + r1.2.1 := by rw [er]
  have g2 : r.2.2 = 3 + r1.2.2 := by rw [er]
  have g3 : r.1 = r1.1 := by rw [er]
  have g4 : r2.2.1 ≤ r1.2.1 ∧ r2.2.2 ≤ r1.2.2 := by
    cases hz : r2.1 with
    | inl z => rw [hx9 z hz]; exact ⟨Nat.le_refl _, Nat.le_refl _⟩
    | inr z => obtain ⟨r3, -, e3⟩ := hk9 z.1 z.2 hz; rw [e3]; exact ⟨Nat.le_add_right _ _, Nat.le_add_right _ _⟩
  refine go_new (pc := 55) (ci := 9) (T := TX10) (N := 3) (fs := [.null, .null, .int 0]) C in_X10 tyX10 tyX10_ok q780 q781 q157 rfl (dflt_all (by decide +kernel)) ⟨by show k + 1 ≤ r9.2.1; omega, by show n + 3 ≤ r9.2.2; omega⟩ dX4_term_55 (fun q => ?_)
  rw [XW_app, List.append_assoc]
  refine go_dup (pc := 58) C dX4_term_58 rfl ?_
  refine go_aload_n (pc := 59) C dX4_term_59 rfl 1 rfl ?_
  refine go_iload_n (pc := 60) C dX4_term_60 rfl 0 rfl ?_
  refine go_aload_n (pc := 61) C dX4_term_61 rfl 2 rfl ?_
  refine go_callVX (pc := 62) C [] (m4_value hL hT e2) q748 q750 qs21 q145 q751 x4pd_value (by show 6 + 1 ≤ 7; decide) (by decide) (xO hT hL.1) xc14 rfl (Nat.le_of_ble_eq_true rfl) ⟨by show k + 1 + r2.2.1 ≤ r9.2.1; omega, by show n + 3 + r2.2.2 ≤ r9.2.2; omega⟩ dX4_term_62 rfl (fun v9 w9 hp => ?_) (fun w9 hp => ?_)
  · obtain ⟨s2, v2, a2, E2, g5, rfl, rfl, hv2⟩ := hp
    obtain ⟨r3, e3, er3⟩ := hk9 v2 s2 g5
    have g6 : r1.2.1 = r2.2.1 + r3.2.1 := by rw [er3]
    have g7 : r1.2.2 = r2.2.2 + r3.2.2 := by rw [er3]
    have g8 : r1.1 = r3.1 := by rw [er3]
    have ew : XW Γ.d A L (E ++ (E1 ++ [(q, .inr (9, [.null, .null, .int 0]))]) ++ E2) s2 = XW Γ.d A L (E ++ E1) s2 ++ ([(q, .inr (9, [.null, .null, .int 0]))] ++ E2) := by rw [XW_app]; simp only [List.append_assoc]
    rw [ew]
    refine go_callI (pc := 65) (nA := 3) C [.ref a1, .int ((s1 0).2.1 7 ((s1 14).1 2).toNatClampNeg), .ref a2] (Mt.frame (XW Γ.d A L (E ++ E1) s2) E2 (m10_init (b := q) (v1 := a1) (v2 := ((s1 0).2.1 7 ((s1 14).1 2).toNatClampNeg)) (v3 := a2))) q782 q783 q157 q784 rfl (by decide +kernel) ⟨by show 2 + 1 ≤ 7; decide, by decide⟩ rfl (Nat.le_of_ble_eq_true rfl) ⟨by show k + 1 + r2.2.1 + 0 ≤ r9.2.1; omega, by show n + 3 + r2.2.2 + 0 ≤ r9.2.2; omega⟩ dX4_term_65 rfl (fun v8 w8 h8 => ?_)
    obtain ⟨w0, ⟨rfl, rfl⟩, rfl⟩ := h8
    refine go_astore_n (pc := 68) C hN dX4_term_68 rfl (by decide) rfl ?_
    refine go_goto (pc := 69) (tgt := 5) C dX4_term_69 (by decide) ?_
    refine go_sub [0, 2] rfl ?_
    have hq := hK _ s2 r3 e3 (k + 1 + r2.2.1 + 0) (n + 3 + r2.2.2 + 0) (E1 ++ ([(q, .inr (9, [.ref a1, .ref a2, .int ((s1 0).2.1 7 ((s1 14).1 2).toNatClampNeg)]))] ++ E2)) q ?_ (by omega) (by omega) (by rw [← g8, ← g3]; exact hr)
    · rw [XW_app, List.append_assoc]; exact hq
    · have hm : ∀ b c9 gs, gs.head? ≠ some Value.null → hasO (E ++ (E1 ++ [(q, .inr (9, [.null, .null, .int 0]))]) ++ E2) b c9 gs → hasO (E ++ (E1 ++ ([(q, .inr (9, [.ref a1, .ref a2, .int ((s1 0).2.1 7 ((s1 14).1 2).toNatClampNeg)]))] ++ E2))) b c9 gs := by
        intro b c9 gs hg hh
        have := hole_mono (E1 := E ++ E1) (E9 := E2) (q := q) (ci := 9) (fs := [.null, .null, .int 0]) (e := .inr (9, [.ref a1, .ref a2, .int ((s1 0).2.1 7 ((s1 14).1 2).toNatClampNeg)])) rfl b c9 gs hg (by simpa [List.append_assoc] using hh)
        simpa [List.append_assoc] using this
      have hv1' := vAt.mono2 hm _ _ _ ((hv.mono (w2 := E ++ (E1 ++ [(q, .inr (9, [.null, .null, .int 0]))]) ++ E2) (fun b c9 gs hh => by have := (hh.appL (w2 := [(q, .inr (9, [.null, .null, .int 0]))] ++ E2)); simpa [List.append_assoc] using this)))
      have hv2' := vAt.mono2 hm _ _ _ hv2
      exact Or.inr (Or.inr ⟨a1, a2, ((s1 0).2.1 7 ((s1 14).1 2).toNatClampNeg), v.1, v2.1, (by have z : hasO (((E ++ E1) ++ [(q, .inr (9, [.ref a1, .ref a2, .int ((s1 0).2.1 7 ((s1 14).1 2).toNatClampNeg)]))]) ++ E2) q 9 [.ref a1, .ref a2, .int ((s1 0).2.1 7 ((s1 14).1 2).toNatClampNeg)] := hasO.appL (hasO.appR ⟨0, rfl⟩); simpa [List.append_assoc] using z), hv1'.le (Nat.le_max_left _ _), hv2'.le (Nat.le_max_right _ _), rfl⟩)
  · obtain ⟨s2, E2, g5, rfl⟩ := hp
    have e4 := hx9 s2 g5
    refine hX _ _ _ _ _ _ (by omega) (by omega) ⟨s2, E1 ++ ([(q, .inr (9, [.null, .null, .int 0]))] ++ E2), by rw [← hr, g3, e4], by simp only [List.append_assoc]⟩
theorem w4_term_5 {Γ : Gam} {A : XA} {L : List Nat} {E : va_W} {r9 : Cn Vf} (hN : Γ.nL = 3) (C : Cx Γ cX4_term RX4 (7, r9.2.1, r9.2.2) 180) (hE : Rets Γ cX4_term (some (.object "PartyRaft$Value")) r9.2.1 r9.2.2 (fun v w => ∃ (s9 : Nat → Bl) (f : Vf) (a9 : Nat) (E9 : va_W), r9.1 = .inr (f, s9) ∧ v = some (.ref a9) ∧ w = XW Γ.d A L (E ++ E9) s9 ∧ vAt (E ++ E9) f.2 a9 f.1)) (hX : ∀ (k n : Nat) (ws' : va_W) (pc : Nat) (lv : List (Nat × Value)) (st : List Value), k ≤ r9.2.1 → n ≤ r9.2.2 → (fun w => ∃ (s9 : Nat → Bl) (E9 : va_W), r9.1 = .inl s9 ∧ w = XW Γ.d A L (E ++ E9) s9) ws' → GoX Γ k n ws' pc lv st) (hL : xOK L) (hT : 14 ∈ L) : ∀ (m : Nat) (p : Vf × (Nat → Bl)) (r : Cn Vf), loop g4_term m p = some r → ∀ (k n : Nat) (E1 : va_W) (a1 : Nat), vAt (E ++ E1) p.1.2 a1 p.1.1 → k + r.2.1 ≤ r9.2.1 → n + r.2.2 ≤ r9.2.2 → r.1 = r9.1 → Go Γ k n (XW Γ.d A L (E ++ E1) p.2) 5 [(1, .ref a1), (0, .ref (A.1 14 0))] [] := by
  refine loop_walkR (P := fun (p : Vf × (Nat → Bl)) (r : Cn Vf) => ∀ (k n : Nat) (E1 : va_W) (a1 : Nat), vAt (E ++ E1) p.1.2 a1 p.1.1 → k + r.2.1 ≤ r9.2.1 → n + r.2.2 ≤ r9.2.2 → r.1 = r9.1 → Go Γ k n (XW Γ.d A L (E ++ E1) p.2) 5 [(1, .ref a1), (0, .ref (A.1 14 0))] []) ?_
  intro K hK ⟨v, s0⟩ r h k n E1 a1 hv hk hn hr
  dsimp only [g4_term] at h
  show Go Γ k n (XW Γ.d A L (E ++ E1) s0) 5 [(1, .ref a1), (0, .ref (A.1 14 0))] []
  have hb := b4_term_walk hN C hE hX hL hT K (fun v s r hh => hK (v, s) r hh) v
  refine go_aload_n (pc := 5) C dX4_term_5 rfl 1 rfl ?_
  obtain ⟨r1, s1, e1, h⟩ := bnd2_some h
  refine go_callVi (pc := 6) C [] (m4_see hL hT e1) q562 q564 qs2 q145 q565 x4pd_see (by show 0 + 1 ≤ 7; decide) (by decide) (xO hT hL.1) xc14 rfl (Nat.le_of_ble_eq_true rfl) ⟨by show k ≤ r9.2.1; omega, by show n ≤ r9.2.2; omega⟩ dX4_term_6 rfl ?_
  refine go_bipush (pc := 9) (v := (42 : Int32)) C dX4_term_9 (by decide) ?_
  refine go_icmp_eq (pc := 11) (tgt := 32) C dX4_term_11 (by decide) h (fun h => hb s1 r h k n E1 a1 hv hk hn hr) (fun h => ?_)
  refine go_aload_n (pc := 14) C dX4_term_14 rfl 1 rfl ?_
  obtain ⟨r2, s2, e2, h⟩ := bnd2_some h
  refine go_callVi (pc := 15) C [] (m4_see hL hT e2) q562 q564 qs2 q145 q565 x4pd_see (by show 0 + 1 ≤ 7; decide) (by decide) (xO hT hL.1) xc14 rfl (Nat.le_of_ble_eq_true rfl) ⟨by show k ≤ r9.2.1; omega, by show n ≤ r9.2.2; omega⟩ dX4_term_15 rfl ?_
  refine go_bipush (pc := 18) (v := (47 : Int32)) C dX4_term_18 (by decide) ?_
  refine go_icmp_eq (pc := 20) (tgt := 32) C dX4_term_20 (by decide) h (fun h => hb s2 r h k n E1 a1 hv hk hn hr) (fun h => ?_)
  refine go_aload_n (pc := 23) C dX4_term_23 rfl 1 rfl ?_
  obtain ⟨r3, s3, e3, h⟩ := bnd2_some h
  refine go_callVi (pc := 24) C [] (m4_see hL hT e3) q562 q564 qs2 q145 q565 x4pd_see (by show 0 + 1 ≤ 7; decide) (by decide) (xO hT hL.1) xc14 rfl (Nat.le_of_ble_eq_true rfl) ⟨by show k ≤ r9.2.1; omega, by show n ≤ r9.2.2; omega⟩ dX4_term_24 rfl ?_
  refine go_bipush (pc := 27) (v := (37 : Int32)) C dX4_term_27 (by decide) ?_
  refine go_icmp_ne (pc := 29) (tgt := 72) C dX4_term_29 (by decide) h (fun h => ?_) (fun h => hb s3 r h k n E1 a1 hv hk hn hr)
  have h := Option.some.inj h
  subst h
  refine go_aload_n (pc := 72) C dX4_term_72 rfl 0 rfl ?_
  exact (hE k n _ 73 _ (by omega) (by omega)).2.2.2.2.1 _ _ rfl dX4_term_73 ⟨_, _, a1, E1, hr.symm, rfl, rfl, hv⟩
theorem m4_term {l : Launch} {d : gD} {A : XA} {L : List Nat} {E : va_W} {s0 : Nat → Bl} {r9 : Cn Vf} (hL : xOK L) (hT : 14 ∈ L) (h : f4_term s0 = some r9) : MtX l d yX4_term cX4_term 3 (some (.object "PartyRaft$Value")) (7, r9.2.1, r9.2.2) 180 (XW d A L E s0) [.ref (A.1 14 0)] (fun v w => ∃ (s9 : Nat → Bl) (f : Vf) (a9 : Nat) (E9 : va_W), r9.1 = .inr (f, s9) ∧ v = some (.ref a9) ∧ w = XW d A L (E ++ E9) s9 ∧ vAt (E ++ E9) f.2 a9 f.1) (fun w => ∃ (s9 : Nat → Bl) (E9 : va_W), r9.1 = .inl s9 ∧ w = XW d A L (E ++ E9) s9) := by
  refine MtX.of x4pn (Nat.le_of_ble_eq_true rfl) ?_
  intro Γ hl hd hN C hE hX
  subst hl; subst hd
  show Go Γ 0 0 (XW Γ.d A L E s0) 0 [(0, .ref (A.1 14 0))] []
  obtain ⟨r2, e2, hk9, hx9⟩ := bndC_some h
  have g4 : r2.2.1 ≤ r9.2.1 ∧ r2.2.2 ≤ r9.2.2 := by
    cases hz : r2.1 with
    | inl z => rw [hx9 z hz]; exact ⟨Nat.le_refl _, Nat.le_refl _⟩
    | inr z => obtain ⟨r3, -, e3⟩ := hk9 z.1 z.2 hz; rw [e3]; exact ⟨Nat.le_add_right _ _, Nat.le_add_right _ _⟩
  refine go_aload_n (pc := 0) C dX4_term_0 rfl 0 rfl ?_
  refine go_callVX (pc := 1) C [] (m4_value hL hT e2) q748 q750 qs21 q145 q751 x4pd_value (by show 6 + 1 ≤ 7; decide) (by decide) (xO hT hL.1) xc14 rfl (Nat.le_of_ble_eq_true rfl) ⟨by show 0 + r2.2.1 ≤ r9.2.1; omega, by show 0 + r2.2.2 ≤ r9.2.2; omega⟩ dX4_term_1 rfl (fun v9 w9 hp => ?_) (fun w9 hp => ?_)
  · obtain ⟨s2, v2, a2, E2, g5, rfl, rfl, hv2⟩ := hp
    obtain ⟨r3, e3, er3⟩ := hk9 v2 s2 g5
    refine go_astore_n (pc := 4) C hN dX4_term_4 rfl (by decide) rfl ?_
    exact w4_term_5 hN C hE hX hL hT FU (v2, s2) r3 e3 _ _ E2 a2 hv2 (by rw [er3]; show 0 + r2.2.1 + r3.2.1 ≤ r2.2.1 + r3.2.1; omega) (by rw [er3]; show 0 + r2.2.2 + r3.2.2 ≤ r2.2.2 + r3.2.2; omega) (by rw [er3])
  · obtain ⟨s2, E2, g5, rfl⟩ := hp
    have e4 := hx9 s2 g5
    exact hX _ _ _ _ _ _ (by show 0 + r2.2.1 ≤ r9.2.1; omega) (by show 0 + r2.2.2 ≤ r9.2.2; omega) ⟨s2, E2, by rw [e4], rfl⟩
def b4_sum (K : Vf × (Nat → Bl) → Option (Cn Vf)) (v : Vf) (s1 : Nat → Bl) : Option (Cn Vf) :=
  chk (inB ((s1 14).1 2) 400) (cnt 1 3 (bndC (f4_term (upX s1 14 (bI (s1 14) 2 ((s1 14).1 2 + (1 : Int32))))) (fun v2 s2 => K (pairF ((s1 0).2.1 7 ((s1 14).1 2).toNatClampNeg) v v2, s2))))
def g4_sum (K : Vf × (Nat → Bl) → Option (Cn Vf)) (p : Vf × (Nat → Bl)) : Option (Cn Vf) := match p with
  | (v, s0) => bnd2 (f4_see s0) (fun r1 s1 => if r1 = (43 : Int32) then b4_sum K v s1 else bnd2 (f4_see s1) (fun r2 s2 => if r2 = (45 : Int32) then b4_sum K v s2 else some (.inr (v, s2), (0, 0))))
def f4_sum (s0 : Nat → Bl) : Option (Cn Vf) := bndC (f4_term s0) (fun v s => loop g4_sum FU (v, s))
theorem b4_sum_walk {Γ : Gam} {A : XA} {L : List Nat} {E : va_W} {r9 : Cn Vf} (hN : Γ.nL = 3) (C : Cx Γ cX4_sum RX4 (8, r9.2.1, r9.2.2) 220) (hE : Rets Γ cX4_sum (some (.object "PartyRaft$Value")) r9.2.1 r9.2.2 (fun v w => ∃ (s9 : Nat → Bl) (f : Vf) (a9 : Nat) (E9 : va_W), r9.1 = .inr (f, s9) ∧ v = some (.ref a9) ∧ w = XW Γ.d A L (E ++ E9) s9 ∧ vAt (E ++ E9) f.2 a9 f.1)) (hX : ∀ (k n : Nat) (ws' : va_W) (pc : Nat) (lv : List (Nat × Value)) (st : List Value), k ≤ r9.2.1 → n ≤ r9.2.2 → (fun w => ∃ (s9 : Nat → Bl) (E9 : va_W), r9.1 = .inl s9 ∧ w = XW Γ.d A L (E ++ E9) s9) ws' → GoX Γ k n ws' pc lv st) (hL : xOK L) (hT : 14 ∈ L) (K : Vf × (Nat → Bl) → Option (Cn Vf)) (hK : ∀ (v : Vf) (s : Nat → Bl) (r : Cn Vf), K (v, s) = some r → ∀ (k n : Nat) (E1 : va_W) (a1 : Nat), vAt (E ++ E1) v.2 a1 v.1 → k + r.2.1 ≤ r9.2.1 → n + r.2.2 ≤ r9.2.2 → r.1 = r9.1 → Go Γ k n (XW Γ.d A L (E ++ E1) s) 5 [(1, .ref a1), (0, .ref (A.1 14 0))] []) (v : Vf) (s1 : Nat → Bl) (r : Cn Vf) (h : b4_sum K v s1 = some r) (k n : Nat) (E1 : va_W) (a1 : Nat) (hv : vAt (E ++ E1) v.2 a1 v.1) (hk : k + r.2.1 ≤ r9.2.1) (hn : n + r.2.2 ≤ r9.2.2) (hr : r.1 = r9.1) : Go Γ k n (XW Γ.d A L (E ++ E1) s1) 23 [(1, .ref a1), (0, .ref (A.1 14 0))] [] := by
  unfold b4_sum at h
  refine go_aload_n (pc := 23) C dX4_sum_23 rfl 1 rfl ?_
  refine X4g_14_6 (pc := 24) C hL hT dX4_sum_24 ?_
  refine X4g_0_7 (pc := 27) C hL dX4_sum_27 ?_
  refine go_aload_n (pc := 30) C dX4_sum_30 rfl 1 rfl ?_
  refine X4g_14_2 (pc := 31) C hL hT dX4_sum_31 ?_
  refine go_bald (pc := 34) C (xa_0_7 hL) h dX4_sum_34 (fun h => ?_)
  refine go_istore_n (pc := 35) C hN dX4_sum_35 rfl (by decide) rfl ?_
  refine go_aload_n (pc := 36) C dX4_sum_36 rfl 2 rfl ?_
  refine go_dup (pc := 37) C dX4_sum_37 rfl ?_
  refine X4g_14_2 (pc := 38) C hL hT dX4_sum_38 ?_
  refine go_iconst (pc := 41) (v := (1 : Int32)) C dX4_sum_41 (by decide) ?_
  refine go_iadd (pc := 42) C dX4_sum_42 ?_
  refine X4p_14_2 (pc := 43) C hL hT dX4_sum_43 ?_
  obtain ⟨r1, h, er⟩ := cnt_some h
  obtain ⟨r2, e2, hk9, hx9⟩ := bndC_some h
  have g1 : r.2.1 = 1 + r1.2.1 := by rw [er]
  have g2 : r.2.2 = 3 + r1.2.2 := by rw [er]
  have g3 : r.1 = r1.1 := by rw [er]
  have g4 : r2.2.1 ≤ r1.2.1 ∧ r2.2.2 ≤ r1.2.2 := by
    cases hz : r2.1 with
    | inl z => rw [hx9 z hz]; exact ⟨Nat.le_refl _, Nat.le_refl _⟩
    | inr z => obtain ⟨r3, -, e3⟩ := hk9 z.1 z.2 hz; rw [e3]; exact ⟨Nat.le_add_right _ _, Nat.le_add_right _ _⟩
  refine go_new (pc := 46) (ci := 9) (T := TX10) (N := 3) (fs := [.null, .null, .int 0]) C in_X10 tyX10 tyX10_ok q780 q781 q157 rfl (dflt_all (by decide +kernel)) ⟨by show k + 1 ≤ r9.2.1; omega, by show n + 3 ≤ r9.2.2; omega⟩ dX4_sum_46 (fun q => ?_)
  rw [XW_app, List.append_assoc]
  refine go_dup (pc := 49) C dX4_sum_49 rfl ?_
  refine go_aload_n (pc := 50) C dX4_sum_50 rfl 1 rfl ?_
  refine go_iload_n (pc := 51) C dX4_sum_51 rfl 0 rfl ?_
  refine go_aload_n (pc := 52) C dX4_sum_52 rfl 2 rfl ?_
  refine go_callVX (pc := 53) C [] (m4_term hL hT e2) q744 q746 qs20 q145 q747 x4pd_term (by show 7 + 1 ≤ 8; decide) (by decide) (xO hT hL.1) xc14 rfl (Nat.le_of_ble_eq_true rfl) ⟨by show k + 1 + r2.2.1 ≤ r9.2.1; omega, by show n + 3 + r2.2.2 ≤ r9.2.2; omega⟩ dX4_sum_53 rfl (fun v9 w9 hp => ?_) (fun w9 hp => ?_)
  · obtain ⟨s2, v2, a2, E2, g5, rfl, rfl, hv2⟩ := hp
    obtain ⟨r3, e3, er3⟩ := hk9 v2 s2 g5
    have g6 : r1.2.1 = r2.2.1 + r3.2.1 := by rw [er3]
    have g7 : r1.2.2 = r2.2.2 + r3.2.2 := by rw [er3]
    have g8 : r1.1 = r3.1 := by rw [er3]
    have ew : XW Γ.d A L (E ++ (E1 ++ [(q, .inr (9, [.null, .null, .int 0]))]) ++ E2) s2 = XW Γ.d A L (E ++ E1) s2 ++ ([(q, .inr (9, [.null, .null, .int 0]))] ++ E2) := by rw [XW_app]; simp only [List.append_assoc]
    rw [ew]
    refine go_callI (pc := 56) (nA := 3) C [.ref a1, .int ((s1 0).2.1 7 ((s1 14).1 2).toNatClampNeg), .ref a2] (Mt.frame (XW Γ.d A L (E ++ E1) s2) E2 (m10_init (b := q) (v1 := a1) (v2 := ((s1 0).2.1 7 ((s1 14).1 2).toNatClampNeg)) (v3 := a2))) q782 q783 q157 q784 rfl (by decide +kernel) ⟨by show 2 + 1 ≤ 8; decide, by decide⟩ rfl (Nat.le_of_ble_eq_true rfl) ⟨by show k + 1 + r2.2.1 + 0 ≤ r9.2.1; omega, by show n + 3 + r2.2.2 + 0 ≤ r9.2.2; omega⟩ dX4_sum_56 rfl (fun v8 w8 h8 => ?_)
    obtain ⟨w0, ⟨rfl, rfl⟩, rfl⟩ := h8
    refine go_astore_n (pc := 59) C hN dX4_sum_59 rfl (by decide) rfl ?_
    refine go_goto (pc := 60) (tgt := 5) C dX4_sum_60 (by decide) ?_
    refine go_sub [0, 2] rfl ?_
    have hq := hK _ s2 r3 e3 (k + 1 + r2.2.1 + 0) (n + 3 + r2.2.2 + 0) (E1 ++ ([(q, .inr (9, [.ref a1, .ref a2, .int ((s1 0).2.1 7 ((s1 14).1 2).toNatClampNeg)]))] ++ E2)) q ?_ (by omega) (by omega) (by rw [← g8, ← g3]; exact hr)
    · rw [XW_app, List.append_assoc]; exact hq
    · have hm : ∀ b c9 gs, gs.head? ≠ some Value.null → hasO (E ++ (E1 ++ [(q, .inr (9, [.null, .null, .int 0]))]) ++ E2) b c9 gs → hasO (E ++ (E1 ++ ([(q, .inr (9, [.ref a1, .ref a2, .int ((s1 0).2.1 7 ((s1 14).1 2).toNatClampNeg)]))] ++ E2))) b c9 gs := by
        intro b c9 gs hg hh
        have := hole_mono (E1 := E ++ E1) (E9 := E2) (q := q) (ci := 9) (fs := [.null, .null, .int 0]) (e := .inr (9, [.ref a1, .ref a2, .int ((s1 0).2.1 7 ((s1 14).1 2).toNatClampNeg)])) rfl b c9 gs hg (by simpa [List.append_assoc] using hh)
        simpa [List.append_assoc] using this
      have hv1' := vAt.mono2 hm _ _ _ ((hv.mono (w2 := E ++ (E1 ++ [(q, .inr (9, [.null, .null, .int 0]))]) ++ E2) (fun b c9 gs hh => by have := (hh.appL (w2 := [(q, .inr (9, [.null, .null, .int 0]))] ++ E2)); simpa [List.append_assoc] using this)))
      have hv2' := vAt.mono2 hm _ _ _ hv2
      exact Or.inr (Or.inr ⟨a1, a2, ((s1 0).2.1 7 ((s1 14).1 2).toNatClampNeg), v.1, v2.1, (by have z : hasO (((E ++ E1) ++ [(q, .inr (9, [.ref a1, .ref a2, .int ((s1 0).2.1 7 ((s1 14).1 2).toNatClampNeg)]))]) ++ E2) q 9 [.ref a1, .ref a2, .int ((s1 0).2.1 7 ((s1 14).1 2).toNatClampNeg)] := hasO.appL (hasO.appR ⟨0, rfl⟩); simpa [List.append_assoc] using z), hv1'.le (Nat.le_max_left _ _), hv2'.le (Nat.le_max_right _ _), rfl⟩)
  · obtain ⟨s2, E2, g5, rfl⟩ := hp
    have e4 := hx9 s2 g5
    refine hX _ _ _ _ _ _ (by omega) (by omega) ⟨s2, E1 ++ ([(q, .inr (9, [.null, .null, .int 0]))] ++ E2), by rw [← hr, g3, e4], by simp only [List.append_assoc]⟩
theorem w4_sum_5 {Γ : Gam} {A : XA} {L : List Nat} {E : va_W} {r9 : Cn Vf} (hN : Γ.nL = 3) (C : Cx Γ cX4_sum RX4 (8, r9.2.1, r9.2.2) 220) (hE : Rets Γ cX4_sum (some (.object "PartyRaft$Value")) r9.2.1 r9.2.2 (fun v w => ∃ (s9 : Nat → Bl) (f : Vf) (a9 : Nat) (E9 : va_W), r9.1 = .inr (f, s9) ∧ v = some (.ref a9) ∧ w = XW Γ.d A L (E ++ E9) s9 ∧ vAt (E ++ E9) f.2 a9 f.1)) (hX : ∀ (k n : Nat) (ws' : va_W) (pc : Nat) (lv : List (Nat × Value)) (st : List Value), k ≤ r9.2.1 → n ≤ r9.2.2 → (fun w => ∃ (s9 : Nat → Bl) (E9 : va_W), r9.1 = .inl s9 ∧ w = XW Γ.d A L (E ++ E9) s9) ws' → GoX Γ k n ws' pc lv st) (hL : xOK L) (hT : 14 ∈ L) : ∀ (m : Nat) (p : Vf × (Nat → Bl)) (r : Cn Vf), loop g4_sum m p = some r → ∀ (k n : Nat) (E1 : va_W) (a1 : Nat), vAt (E ++ E1) p.1.2 a1 p.1.1 → k + r.2.1 ≤ r9.2.1 → n + r.2.2 ≤ r9.2.2 → r.1 = r9.1 → Go Γ k n (XW Γ.d A L (E ++ E1) p.2) 5 [(1, .ref a1), (0, .ref (A.1 14 0))] [] := by
  refine loop_walkR (P := fun (p : Vf × (Nat → Bl)) (r : Cn Vf) => ∀ (k n : Nat) (E1 : va_W) (a1 : Nat), vAt (E ++ E1) p.1.2 a1 p.1.1 → k + r.2.1 ≤ r9.2.1 → n + r.2.2 ≤ r9.2.2 → r.1 = r9.1 → Go Γ k n (XW Γ.d A L (E ++ E1) p.2) 5 [(1, .ref a1), (0, .ref (A.1 14 0))] []) ?_
  intro K hK ⟨v, s0⟩ r h k n E1 a1 hv hk hn hr
  dsimp only [g4_sum] at h
  show Go Γ k n (XW Γ.d A L (E ++ E1) s0) 5 [(1, .ref a1), (0, .ref (A.1 14 0))] []
  have hb := b4_sum_walk hN C hE hX hL hT K (fun v s r hh => hK (v, s) r hh) v
  refine go_aload_n (pc := 5) C dX4_sum_5 rfl 1 rfl ?_
  obtain ⟨r1, s1, e1, h⟩ := bnd2_some h
  refine go_callVi (pc := 6) C [] (m4_see hL hT e1) q562 q564 qs2 q145 q565 x4pd_see (by show 0 + 1 ≤ 8; decide) (by decide) (xO hT hL.1) xc14 rfl (Nat.le_of_ble_eq_true rfl) ⟨by show k ≤ r9.2.1; omega, by show n ≤ r9.2.2; omega⟩ dX4_sum_6 rfl ?_
  refine go_bipush (pc := 9) (v := (43 : Int32)) C dX4_sum_9 (by decide) ?_
  refine go_icmp_eq (pc := 11) (tgt := 23) C dX4_sum_11 (by decide) h (fun h => hb s1 r h k n E1 a1 hv hk hn hr) (fun h => ?_)
  refine go_aload_n (pc := 14) C dX4_sum_14 rfl 1 rfl ?_
  obtain ⟨r2, s2, e2, h⟩ := bnd2_some h
  refine go_callVi (pc := 15) C [] (m4_see hL hT e2) q562 q564 qs2 q145 q565 x4pd_see (by show 0 + 1 ≤ 8; decide) (by decide) (xO hT hL.1) xc14 rfl (Nat.le_of_ble_eq_true rfl) ⟨by show k ≤ r9.2.1; omega, by show n ≤ r9.2.2; omega⟩ dX4_sum_15 rfl ?_
  refine go_bipush (pc := 18) (v := (45 : Int32)) C dX4_sum_18 (by decide) ?_
  refine go_icmp_ne (pc := 20) (tgt := 63) C dX4_sum_20 (by decide) h (fun h => ?_) (fun h => hb s2 r h k n E1 a1 hv hk hn hr)
  have h := Option.some.inj h
  subst h
  refine go_aload_n (pc := 63) C dX4_sum_63 rfl 0 rfl ?_
  exact (hE k n _ 64 _ (by omega) (by omega)).2.2.2.2.1 _ _ rfl dX4_sum_64 ⟨_, _, a1, E1, hr.symm, rfl, rfl, hv⟩
theorem m4_sum {l : Launch} {d : gD} {A : XA} {L : List Nat} {E : va_W} {s0 : Nat → Bl} {r9 : Cn Vf} (hL : xOK L) (hT : 14 ∈ L) (h : f4_sum s0 = some r9) : MtX l d yX4_sum cX4_sum 3 (some (.object "PartyRaft$Value")) (8, r9.2.1, r9.2.2) 220 (XW d A L E s0) [.ref (A.1 14 0)] (fun v w => ∃ (s9 : Nat → Bl) (f : Vf) (a9 : Nat) (E9 : va_W), r9.1 = .inr (f, s9) ∧ v = some (.ref a9) ∧ w = XW d A L (E ++ E9) s9 ∧ vAt (E ++ E9) f.2 a9 f.1) (fun w => ∃ (s9 : Nat → Bl) (E9 : va_W), r9.1 = .inl s9 ∧ w = XW d A L (E ++ E9) s9) := by
  refine MtX.of x4pn (Nat.le_of_ble_eq_true rfl) ?_
  intro Γ hl hd hN C hE hX
  subst hl; subst hd
  show Go Γ 0 0 (XW Γ.d A L E s0) 0 [(0, .ref (A.1 14 0))] []
  obtain ⟨r2, e2, hk9, hx9⟩ := bndC_some h
  have g4 : r2.2.1 ≤ r9.2.1 ∧ r2.2.2 ≤ r9.2.2 := by
    cases hz : r2.1 with
    | inl z => rw [hx9 z hz]; exact ⟨Nat.le_refl _, Nat.le_refl _⟩
    | inr z => obtain ⟨r3, -, e3⟩ := hk9 z.1 z.2 hz; rw [e3]; exact ⟨Nat.le_add_right _ _, Nat.le_add_right _ _⟩
  refine go_aload_n (pc := 0) C dX4_sum_0 rfl 0 rfl ?_
  refine go_callVX (pc := 1) C [] (m4_term hL hT e2) q744 q746 qs20 q145 q747 x4pd_term (by show 7 + 1 ≤ 8; decide) (by decide) (xO hT hL.1) xc14 rfl (Nat.le_of_ble_eq_true rfl) ⟨by show 0 + r2.2.1 ≤ r9.2.1; omega, by show 0 + r2.2.2 ≤ r9.2.2; omega⟩ dX4_sum_1 rfl (fun v9 w9 hp => ?_) (fun w9 hp => ?_)
  · obtain ⟨s2, v2, a2, E2, g5, rfl, rfl, hv2⟩ := hp
    obtain ⟨r3, e3, er3⟩ := hk9 v2 s2 g5
    refine go_astore_n (pc := 4) C hN dX4_sum_4 rfl (by decide) rfl ?_
    exact w4_sum_5 hN C hE hX hL hT FU (v2, s2) r3 e3 _ _ E2 a2 hv2 (by rw [er3]; show 0 + r2.2.1 + r3.2.1 ≤ r2.2.1 + r3.2.1; omega) (by rw [er3]; show 0 + r2.2.2 + r3.2.2 ≤ r2.2.2 + r3.2.2; omega) (by rw [er3])
  · obtain ⟨s2, E2, g5, rfl⟩ := hp
    have e4 := hx9 s2 g5
    exact hX _ _ _ _ _ _ (by show 0 + r2.2.1 ≤ r9.2.1; omega) (by show 0 + r2.2.2 ≤ r9.2.2; omega) ⟨s2, E2, by rw [e4], rfl⟩

/-! Text.value -/
set_option maxRecDepth 100000
theorem XW_app {d : gD} {A : XA} {L : List Nat} {E Y : va_W} {x : Nat → Bl} : XW d A L E x ++ Y = XW d A L (E ++ Y) x := List.append_assoc _ _ _
theorem m4_value {l : Launch} {d : gD} {A : XA} {L : List Nat} {E : va_W} {s0 : Nat → Bl} {r9 : Cn Vf} (hL : xOK L) (hT : 14 ∈ L) (h : f4_value s0 = some r9) : MtX l d yX4_value cX4_value 3 (some (.object "PartyRaft$Value")) (6, r9.2.1, r9.2.2) 140 (XW d A L E s0) [.ref (A.1 14 0)] (fun v w => ∃ (s9 : Nat → Bl) (f : Vf) (a9 : Nat) (E9 : va_W), r9.1 = .inr (f, s9) ∧ v = some (.ref a9) ∧ w = XW d A L (E ++ E9) s9 ∧ vAt (E ++ E9) f.2 a9 f.1) (fun w => ∃ (s9 : Nat → Bl) (E9 : va_W), r9.1 = .inl s9 ∧ w = XW d A L (E ++ E9) s9) := by
  refine MtX.of x4pn (Nat.le_of_ble_eq_true rfl) ?_
  intro Γ hl hd hN C hE hX
  subst hl; subst hd
  show Go Γ 0 0 (XW Γ.d A L E s0) 0 [(0, .ref (A.1 14 0))] []
  unfold f4_value at h
  have hOut : ∀ (s : Nat → Bl) (k n pc : Nat) (lv : List (Nat × Value)) (st : List Value), r9 = (.inl s, (0, 0)) → GoX Γ 0 0 (XW Γ.d A L E s) pc lv st := fun s _ _ pc lv st e => hX 0 0 _ pc lv st (Nat.zero_le _) (Nat.zero_le _) ⟨s, [], by rw [e], by rw [List.append_nil]⟩
  refine go_aload_n (pc := 0) C dX4_value_0 rfl 0 rfl ?_
  obtain ⟨r1, s1, e1, h⟩ := bnd2_some h
  refine go_callVi (pc := 1) C [] (m4_see hL hT e1) q562 q564 qs2 q145 q565 x4pd_see (by show 0 + 1 ≤ 6; decide) (by decide) (xO hT hL.1) xc14 rfl (Nat.le_of_ble_eq_true rfl) ⟨Nat.zero_le _, Nat.zero_le _⟩ dX4_value_1 rfl ?_
  refine go_pop (pc := 4) C dX4_value_4 rfl ?_
  refine go_aload_n (pc := 5) C dX4_value_5 rfl 0 rfl ?_
  refine X4g_14_2 (pc := 6) C hL hT dX4_value_6 ?_
  refine go_istore_n (pc := 9) C hN dX4_value_9 rfl (by decide) rfl ?_
  refine go_aload_n (pc := 10) C dX4_value_10 rfl 1 rfl ?_
  refine go_iload_n (pc := 11) C dX4_value_11 rfl 0 rfl ?_
  obtain ⟨r2, e2, h⟩ := bnd_some h
  refine go_callVi (pc := 12) C [.int ((s1 14).1 2)] (m4_isDigit hL hT e2) q642 q644 qs10 q145 q645 x4pd_isDigit (by show 0 + 1 ≤ 6; decide) (by decide) (xO hT hL.1) xc14 rfl (Nat.le_of_ble_eq_true rfl) ⟨Nat.zero_le _, Nat.zero_le _⟩ dX4_value_12 rfl ?_
  refine go_if_eq (pc := 15) (tgt := 42) C dX4_value_15 (by decide) h (fun h => ?_) (fun h => ?_)
  · refine go_aload_n (pc := 42) C dX4_value_42 rfl 1 rfl ?_
    refine go_aload_n (pc := 43) C dX4_value_43 rfl 1 rfl ?_
    refine X4g_14_0 (pc := 44) C hL hT dX4_value_44 ?_
    obtain ⟨w, s2, e3, h⟩ := bnd2_some h
    refine go_callVi (pc := 47) C [.ref (A.1 0 (11 + 1))] (m4_oneOf hL hT (fun x => xs_11 hL) e3) q566 q568 qs3 q145 q569 x4pd_oneOf (by show 5 + 1 ≤ 6; decide) (by decide) (xO hT hL.1) xc14 rfl (Nat.le_of_ble_eq_true rfl) ⟨Nat.zero_le _, Nat.zero_le _⟩ dX4_value_47 rfl ?_
    refine go_istore_n (pc := 50) C hN dX4_value_50 rfl (by decide) rfl ?_
    refine go_aload_n (pc := 51) C dX4_value_51 rfl 2 rfl ?_
    refine go_iload_n (pc := 52) C dX4_value_52 rfl 0 rfl ?_
    refine go_iconst (pc := 53) (v := (-1 : Int32)) C dX4_value_53 (by decide) ?_
    have hgo : ∀ b : Int32, (if w = (-1 : Int32) then (0 : Int32) else (1 : Int32)) = b → Go Γ 0 0 (XW Γ.d A L E s2) 62 [(2, .int w), (1, .int ((s1 14).1 2)), (0, .ref (A.1 14 0))] [.int b, .ref (A.1 14 0)] := by
      intro b hb
      rw [hb] at h
      refine go_iconst (pc := 62) (v := (0 : Int32)) C dX4_value_62 (by decide) ?_
      refine go_iload_n (pc := 63) C dX4_value_63 rfl 1 rfl ?_
      obtain ⟨t3, e4, hk9, hx9⟩ := bndXc_some h
      refine go_callVXv (pc := 64) C [.int b, .int (0 : Int32), .int ((s1 14).1 2)] (m4_demand hL hT e4) q626 q628 qs6 q145 q629 x4pd_demand (by show 0 + 1 ≤ 6; decide) (by decide) (xO hT hL.1) xc14 rfl (Nat.le_of_ble_eq_true rfl) ⟨Nat.zero_le _, Nat.zero_le _⟩ dX4_value_64 rfl (fun s3 q9 => ?_) (fun t9 q9 => hOut _ 0 0 _ _ _ (hx9 _ q9))
      have h := hk9 _ q9
      refine go_aload_n (pc := 67) C dX4_value_67 rfl 2 rfl ?_
      refine go_iload_n (pc := 68) C dX4_value_68 rfl 1 rfl ?_
      obtain ⟨t4, e5, hk9, hx9⟩ := bndXc_some h
      refine go_callVXv (pc := 69) C [.int ((s1 14).1 2)] (m4_makes hL hT e5) q753 q755 qs22 q145 q756 x4pd_makes (by show 1 + 1 ≤ 6; decide) (by decide) (xO hT hL.1) xc14 rfl (Nat.le_of_ble_eq_true rfl) ⟨Nat.zero_le _, Nat.zero_le _⟩ dX4_value_69 rfl (fun s4 q9 => ?_) (fun t9 q9 => hOut _ 0 0 _ _ _ (hx9 _ q9))
      have h := hk9 _ q9
      refine go_aload_n (pc := 72) C dX4_value_72 rfl 2 rfl ?_
      refine go_dup (pc := 73) C dX4_value_73 rfl ?_
      refine X4g_14_2 (pc := 74) C hL hT dX4_value_74 ?_
      refine go_aload_n (pc := 77) C dX4_value_77 rfl 2 rfl ?_
      refine X4g_14_0 (pc := 78) C hL hT dX4_value_78 ?_
      refine go_iload_n (pc := 81) C dX4_value_81 rfl 0 rfl ?_
      have hin := (chk_some h).1
      refine go_aald (pc := 82) (t := 4) C (xs_11 hL) rfl h dX4_value_82 (fun h => ?_)
      obtain ⟨hi9, h⟩ := chk_some h
      refine go_callVSi (pc := 83) C (of_decide_eq_true hi9) [] (m_J3_length (of_decide_eq_true hi9)) q578 q579 q580 q581 pd_J3_length (by show 1 + 1 ≤ 6; decide) (by decide) rfl (Nat.le_of_ble_eq_true rfl) ⟨Nat.zero_le _, Nat.zero_le _⟩ dX4_value_83 rfl ?_
      refine go_iadd (pc := 86) C dX4_value_86 ?_
      refine X4p_14_2 (pc := 87) C hL hT dX4_value_87 ?_
      have h := Option.some.inj h
      subst h
      refine go_new (pc := 90) (ci := 8) (T := TX9) (N := 1) (fs := [.int 0]) C in_X9 tyX9 tyX9_ok q770 q771 q156 rfl (dflt_all (by decide +kernel)) ⟨Nat.le_refl _, Nat.le_refl _⟩ dX4_value_90 (fun q => ?_)
      refine go_dup (pc := 93) C dX4_value_93 rfl ?_
      refine go_iload_n (pc := 94) C dX4_value_94 rfl 0 rfl ?_
      refine go_callI (pc := 95) (nA := 1) C [.int w] (Mt.frame _ [] (m9_init (b := q) (v1 := w))) q772 q773 q156 q774 rfl (by decide +kernel) ⟨by show 2 + 1 ≤ 6; decide, by decide⟩ rfl (Nat.le_of_ble_eq_true rfl) ⟨Nat.le_refl _, Nat.le_refl _⟩ dX4_value_95 rfl (fun v9 w9 h9 => ?_)
      obtain ⟨w0, ⟨rfl, rfl⟩, rfl⟩ := h9
      exact (hE 1 1 _ 98 _ (Nat.le_refl _) (Nat.le_refl _)).2.2.2.2.1 _ _ rfl dX4_value_98 ⟨_, _, q, [(q, .inr (8, [.int w]))], rfl, rfl, by rw [List.append_nil, XW_app], Or.inr (Or.inl ⟨w, ⟨E.length, by rw [List.getElem?_append_right (Nat.le_refl _), Nat.sub_self]; rfl⟩, hin, rfl⟩)⟩
    by_cases hw : w = (-1 : Int32)
    · refine go_icmp_eq (A := some ()) (B := none) (r := ()) (pc := 54) (tgt := 61) C dX4_value_54 (by decide) (by rw [if_pos hw]) (fun _ => ?_) (fun h => by cases h)
      refine go_iconst (pc := 61) (v := (0 : Int32)) C dX4_value_61 (by decide) ?_
      exact hgo 0 (if_pos hw)
    · refine go_icmp_eq (A := none) (B := some ()) (r := ()) (pc := 54) (tgt := 61) C dX4_value_54 (by decide) (by rw [if_neg hw]) (fun h => by cases h) (fun _ => ?_)
      refine go_iconst (pc := 57) (v := (1 : Int32)) C dX4_value_57 (by decide) ?_
      refine go_goto (pc := 58) (tgt := 62) C dX4_value_58 (by decide) ?_
      exact hgo 1 (if_neg hw)
  · refine go_aload_n (pc := 18) C dX4_value_18 rfl 1 rfl ?_
    refine go_iconst (pc := 19) (v := (0 : Int32)) C dX4_value_19 (by decide) ?_
    refine go_ldc_w (pc := 20) (v := (99999 : Int32)) C dX4_value_20 q752 ?_
    obtain ⟨t3, e4, hk9, hx9⟩ := bndXc2_some h
    refine go_callVXi (pc := 23) C [.int (0 : Int32), .int (99999 : Int32)] (m4_number hL hT e4) q638 q640 qs9 q145 q641 x4pd_number (by show 1 + 1 ≤ 6; decide) (by decide) (xO hT hL.1) xc14 rfl (Nat.le_of_ble_eq_true rfl) ⟨Nat.zero_le _, Nat.zero_le _⟩ dX4_value_23 rfl (fun v s2 q9 => ?_) (fun t9 q9 => hOut _ 0 0 _ _ _ (hx9 _ q9))
    have h := hk9 _ _ q9
    refine go_istore_n (pc := 26) C hN dX4_value_26 rfl (by decide) rfl ?_
    refine go_aload_n (pc := 27) C dX4_value_27 rfl 2 rfl ?_
    refine go_iload_n (pc := 28) C dX4_value_28 rfl 1 rfl ?_
    obtain ⟨t4, e5, hk9, hx9⟩ := bndXc_some h
    refine go_callVXv (pc := 29) C [.int ((s1 14).1 2)] (m4_makes hL hT e5) q753 q755 qs22 q145 q756 x4pd_makes (by show 1 + 1 ≤ 6; decide) (by decide) (xO hT hL.1) xc14 rfl (Nat.le_of_ble_eq_true rfl) ⟨Nat.zero_le _, Nat.zero_le _⟩ dX4_value_29 rfl (fun s3 q9 => ?_) (fun t9 q9 => hOut _ 0 0 _ _ _ (hx9 _ q9))
    have h := Option.some.inj (hk9 _ q9)
    subst h
    refine go_new (pc := 32) (ci := 7) (T := TX8) (N := 1) (fs := [.long 0]) C in_X8 tyX8 tyX8_ok q757 q758 q155 rfl (dflt_all (by decide +kernel)) ⟨Nat.le_refl _, Nat.le_refl _⟩ dX4_value_32 (fun q => ?_)
    refine go_dup (pc := 35) C dX4_value_35 rfl ?_
    refine go_iload_n (pc := 36) C dX4_value_36 rfl 0 rfl ?_
    refine go_i2l (pc := 37) C dX4_value_37 ?_
    refine go_callI (pc := 38) (nA := 1) C [.long v.toInt64] (Mt.frame _ [] (m8_init (b := q) (v1 := v.toInt64))) q759 q760 q155 q761 rfl (by decide +kernel) ⟨by show 2 + 1 ≤ 6; decide, by decide⟩ rfl (Nat.le_of_ble_eq_true rfl) ⟨Nat.le_refl _, Nat.le_refl _⟩ dX4_value_38 rfl (fun v9 w9 h9 => ?_)
    obtain ⟨w0, ⟨rfl, rfl⟩, rfl⟩ := h9
    exact (hE 1 1 _ 41 _ (Nat.le_refl _) (Nat.le_refl _)).2.2.2.2.1 _ _ rfl dX4_value_41 ⟨_, _, q, [(q, .inr (7, [.long v.toInt64]))], rfl, rfl, by rw [List.append_nil, XW_app], Or.inl ⟨_, ⟨E.length, by rw [List.getElem?_append_right (Nat.le_refl _), Nat.sub_self]; rfl⟩, rfl⟩⟩

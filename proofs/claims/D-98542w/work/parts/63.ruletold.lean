/-! Text.ruleTold -/
set_option maxRecDepth 100000
section GO
variable {Γ : Gam} {cc : ByteArray} {own : String} {fr : Nat × Nat × Nat} {lo k n pc : Nat} {ws ws' : va_W} {lv : List (Nat × Value)} {st : List Value}
/-- an object of the array's own class is laid -/
theorem go_aastO (C : Cx Γ cc own fr lo) {b N t b2 ci N2 : Nat} {fs : List Value} {T : u_T} {cn : String} {f : Nat → Option Nat} {i : Int32} (ha : putA ws b (Γ.d.2.1 t, N, .inr (.inr (.inr (.inr f)))) (Γ.d.2.1 t, N, .inr (.inr (.inr (.inr (va_up f i.toNatClampNeg (some b2)))))) ws') (ho : hasO ws b2 ci fs) (hc : CL[ci]? = some (cn, T, N2)) (ht : (gTy Γ.d)[t]? = some (Γ.d.2.1 t, .object cn)) (h : inB i N = true) (hd : decode cc pc = .ok (.aastore, 1)) (kk : Go Γ k n ws' (pc + 1) lv st) : Go Γ k n ws pc lv (.ref b2 :: .int i :: .ref b :: st) := by
  obtain ⟨p, l, e, R, s, m, args, below, meth, c, nL, d, A, Q⟩ := Γ
  obtain ⟨hx, hb, hml, hown, hts, hlk, hK, hA, hZ, ⟨hfr, hce, hsl⟩, hlo⟩ := C
  intro H locs ls hP hD hS hl
  obtain ⟨q, hq, rfl⟩ := ha
  obtain ⟨q2, hq2⟩ := ho
  obtain ⟨cell, g1, g2, g3⟩ := va_recv hK hP hc hq2
  obtain ⟨kC, hkC, -⟩ := Vm.findClass_spec g3
  exact va_astqM hx hb hK hP hD hS q t hq ht ⟨cell, g1, g2, ⟨kC, hkC⟩, fun comp hc => by
    have : comp = cell.cls := Option.some.inj (hc.symm.trans g3)
    rw [this]; exact asg_self _ _⟩ (inB_in h) hd (fun H1 locs1 hP1 hD1 hS1 => kk H1 locs1 ls hP1 hD1 hS1 hl)
end GO
/-- a rule's clauses and the height of their trees -/
abbrev Rf : Type := List Cls × Nat
def s5R (s4 : Nat → Bl) : Nat → Bl := upX (upX s4 14 (bI (s4 14) 5 ((s4 14).1 5 + (1 : Int32)))) 14 (bI ((upX s4 14 (bI (s4 14) 5 ((s4 14).1 5 + (1 : Int32)))) 14) 2 (((upX s4 14 (bI (s4 14) 5 ((s4 14).1 5 + (1 : Int32)))) 14).1 2 + (3 : Int32)))
def g4_ruleTold (n : Nat) (K : Rf × (Nat → Bl) → Option (Cn Rf)) (p : Rf × (Nat → Bl)) : Option (Cn Rf) :=
  bnd2 (f4_see p.2) (fun _ s1 => bnd2 (f4_oneOf s1 1 6) (fun r2 s2 => bndXc (f4_demand s2 (if r2 = 0 then (1 : Int32) else 0) 0 ((s1 14).1 2)) (fun s3 => bndXc (f4_demand s3 (if (12 : Int32) ≤ (s3 14).1 5 then (0 : Int32) else 1) 4 ((s1 14).1 2)) (fun s4 =>
    bndC (f4_clauseHere n (s5R s4)) (fun c s6 => chk (decide (p.1.1.length < 12)) (bnd2 (f4_takesSign s6 59) (fun r7 s7 => if r7 = 0 then bndXc (f4_ends s7) (fun s8 => some (.inr ((p.1.1 ++ [c.1], max p.1.2 c.2), s8), (0, 0))) else K ((p.1.1 ++ [c.1], max p.1.2 c.2), s7))))))))
def f4_ruleTold (n : Nat) (s0 : Nat → Bl) : Option (Cn Rf) := cnt 2 14 (loop (g4_ruleTold n) FU (([], 0), s0))
def rC (d : gD) (q ca : Nat) (many : Int32) (qf : Nat → Option Nat) : va_W := [(q, .inr (5, [.ref ca, .int many])), (ca, .inl (d.2.1 5, 12, .inr (.inr (.inr (.inr qf)))))]
theorem w4_ruleTold_8 {Γ : Gam} {A : XA} {L : List Nat} {E : va_W} {r9 : Cn Rf} {nn q ca : Nat} (hN : Γ.nL = 3) (C : Cx Γ cX4_ruleTold RX4 (13 + 3 * nn, r9.2.1, r9.2.2) (760 + 400 * nn)) (hE : Rets Γ cX4_ruleTold (some (.object "PartyRaft$Rule")) r9.2.1 r9.2.2 (fun v w => ∃ (s9 : Nat → Bl) (f : Rf) (a9 : Nat) (E9 : va_W), r9.1 = .inr (f, s9) ∧ v = some (.ref a9) ∧ w = XW Γ.d A L (E ++ E9) s9 ∧ rAt (E ++ E9) Γ.d f.2 a9 f.1)) (hX : ∀ (k n : Nat) (ws' : va_W) (pc : Nat) (lv : List (Nat × Value)) (st : List Value), k ≤ r9.2.1 → n ≤ r9.2.2 → (fun w => ∃ (s9 : Nat → Bl) (E9 : va_W), r9.1 = .inl s9 ∧ w = XW Γ.d A L (E ++ E9) s9) ws' → GoX Γ k n ws' pc lv st) (hL : xOK L) (hT : 14 ∈ L) :
    ∀ (m : Nat) (p : Rf × (Nat → Bl)) (r : Cn Rf), loop (g4_ruleTold nn) m p = some r → (fun (p : Rf × (Nat → Bl)) (r : Cn Rf) => ∀ (k n : Nat) (E1 : va_W) (qf : Nat → Option Nat), (∀ (i : Nat) (c : Cls), p.1.1[i]? = some c → ∃ b : Nat, qf i = some b ∧ cAt (E ++ (rC Γ.d q ca (nI p.1.1.length) qf ++ E1)) p.1.2 b c) → k + r.2.1 ≤ r9.2.1 → n + r.2.2 ≤ r9.2.2 → r.1 = r9.1 → Go Γ k n (XW Γ.d A L (E ++ (rC Γ.d q ca (nI p.1.1.length) qf ++ E1)) p.2) 8 [(1, .ref q), (0, .ref (A.1 14 0))] []) p r := by
  refine loop_walkR (P := fun (p : Rf × (Nat → Bl)) (r : Cn Rf) => ∀ (k n : Nat) (E1 : va_W) (qf : Nat → Option Nat), (∀ (i : Nat) (c : Cls), p.1.1[i]? = some c → ∃ b : Nat, qf i = some b ∧ cAt (E ++ (rC Γ.d q ca (nI p.1.1.length) qf ++ E1)) p.1.2 b c) → k + r.2.1 ≤ r9.2.1 → n + r.2.2 ≤ r9.2.2 → r.1 = r9.1 → Go Γ k n (XW Γ.d A L (E ++ (rC Γ.d q ca (nI p.1.1.length) qf ++ E1)) p.2) 8 [(1, .ref q), (0, .ref (A.1 14 0))] []) ?_
  rintro K hK ⟨⟨cs, ht⟩, s0⟩ r h k n E1 qf hcs hk hn hr
  dsimp only [g4_ruleTold] at h hcs ⊢
  have hout : ∀ (s9 : Nat → Bl) (k' n' pc : Nat) (lv : List (Nat × Value)) (st : List Value), r.1 = .inl s9 → k' ≤ r9.2.1 → n' ≤ r9.2.2 → GoX Γ k' n' (XW Γ.d A L (E ++ (rC Γ.d q ca (nI cs.length) qf ++ E1)) s9) pc lv st := fun s9 k' n' pc lv st e h1 h2 => hX _ _ _ _ _ _ h1 h2 ⟨s9, rC Γ.d q ca (nI cs.length) qf ++ E1, by rw [← hr, e], rfl⟩
  refine go_aload_n (pc := 8) C dX4_ruleTold_8 rfl 1 rfl ?_
  obtain ⟨x1, s1, e1, h⟩ := bnd2_some h
  refine go_callVi (pc := 9) C [] (m4_see hL hT e1) q562 q564 qs2 q145 q565 x4pd_see (by show 0 + 1 ≤ 13 + 3 * nn; omega) (by omega) (xO hT hL.1) xc14 rfl (Nat.le_of_ble_eq_true rfl) ⟨by show k ≤ r9.2.1; omega, by show n ≤ r9.2.2; omega⟩ dX4_ruleTold_9 rfl ?_
  refine go_pop (pc := 12) C dX4_ruleTold_12 rfl ?_
  refine go_aload_n (pc := 13) C dX4_ruleTold_13 rfl 1 rfl ?_
  refine X4g_14_2 (pc := 14) C hL hT dX4_ruleTold_14 ?_
  refine go_istore_n (pc := 17) C hN dX4_ruleTold_17 rfl (by decide) rfl ?_
  refine go_aload_n (pc := 18) C dX4_ruleTold_18 rfl 2 rfl ?_
  refine go_aload_n (pc := 19) C dX4_ruleTold_19 rfl 2 rfl ?_
  refine go_aload_n (pc := 20) C dX4_ruleTold_20 rfl 2 rfl ?_
  refine X4g_14_6 (pc := 21) C hL hT dX4_ruleTold_21 ?_
  refine X4g_0_10 (pc := 24) C hL dX4_ruleTold_24 ?_
  obtain ⟨r2, s2, e2, h⟩ := bnd2_some h
  refine go_callVi (pc := 27) C [.ref (A.1 0 (10 + 1))] (m4_oneOf hL hT (fun x => xs_10 hL) e2) q566 q568 qs3 q145 q569 x4pd_oneOf (by show 5 + 1 ≤ 13 + 3 * nn; omega) (by omega) (xO hT hL.1) xc14 rfl (Nat.le_of_ble_eq_true rfl) ⟨by show k ≤ r9.2.1; omega, by show n ≤ r9.2.2; omega⟩ dX4_ruleTold_27 rfl ?_
  have hgo : ∀ b : Int32, (if r2 = 0 then (1 : Int32) else 0) = b → Go Γ k n (XW Γ.d A L (E ++ (rC Γ.d q ca (nI cs.length) qf ++ E1)) s2) 38 [(2, .int ((s1 14).1 2)), (1, .ref q), (0, .ref (A.1 14 0))] [.int b, .ref (A.1 14 0)] := by
    intro b hb
    rw [hb] at h
    refine go_iconst (pc := 38) (v := (0 : Int32)) C dX4_ruleTold_38 (by decide) ?_
    refine go_iload_n (pc := 39) C dX4_ruleTold_39 rfl 0 rfl ?_
    obtain ⟨t3, e3, hk9, hx9⟩ := bndXc_some h
    refine go_callVXv (pc := 40) C [.int b, .int (0 : Int32), .int ((s1 14).1 2)] (m4_demand hL hT e3) q626 q628 qs6 q145 q629 x4pd_demand (by show 0 + 1 ≤ 13 + 3 * nn; omega) (by omega) (xO hT hL.1) xc14 rfl (Nat.le_of_ble_eq_true rfl) ⟨by show k ≤ r9.2.1; omega, by show n ≤ r9.2.2; omega⟩ dX4_ruleTold_40 rfl (fun s3 q9 => ?_) (fun t9 q9 => hout _ _ _ _ _ _ (by rw [hx9 _ q9]) (by omega) (by omega))
    have h := hk9 _ q9
    refine go_aload_n (pc := 43) C dX4_ruleTold_43 rfl 2 rfl ?_
    refine go_aload_n (pc := 44) C dX4_ruleTold_44 rfl 2 rfl ?_
    refine X4g_14_5 (pc := 45) C hL hT dX4_ruleTold_45 ?_
    refine go_bipush (pc := 48) (v := (12 : Int32)) C dX4_ruleTold_48 (by decide) ?_
    have hgo2 : ∀ b2 : Int32, (if (12 : Int32) ≤ (s3 14).1 5 then (0 : Int32) else 1) = b2 → Go Γ k n (XW Γ.d A L (E ++ (rC Γ.d q ca (nI cs.length) qf ++ E1)) s3) 58 [(2, .int ((s1 14).1 2)), (1, .ref q), (0, .ref (A.1 14 0))] [.int b2, .ref (A.1 14 0)] := by
      intro b2 hb2
      rw [hb2] at h
      refine go_iconst (pc := 58) (v := (4 : Int32)) C dX4_ruleTold_58 (by decide) ?_
      refine go_iload_n (pc := 59) C dX4_ruleTold_59 rfl 0 rfl ?_
      obtain ⟨t4, e4, hk9, hx9⟩ := bndXc_some h
      refine go_callVXv (pc := 60) C [.int b2, .int (4 : Int32), .int ((s1 14).1 2)] (m4_demand hL hT e4) q626 q628 qs6 q145 q629 x4pd_demand (by show 0 + 1 ≤ 13 + 3 * nn; omega) (by omega) (xO hT hL.1) xc14 rfl (Nat.le_of_ble_eq_true rfl) ⟨by show k ≤ r9.2.1; omega, by show n ≤ r9.2.2; omega⟩ dX4_ruleTold_60 rfl (fun s4 q9 => ?_) (fun t9 q9 => hout _ _ _ _ _ _ (by rw [hx9 _ q9]) (by omega) (by omega))
      have h := hk9 _ q9
      refine go_aload_n (pc := 63) C dX4_ruleTold_63 rfl 2 rfl ?_
      refine go_dup (pc := 64) C dX4_ruleTold_64 rfl ?_
      refine X4g_14_5 (pc := 65) C hL hT dX4_ruleTold_65 ?_
      refine go_iconst (pc := 68) (v := (1 : Int32)) C dX4_ruleTold_68 (by decide) ?_
      refine go_iadd (pc := 69) C dX4_ruleTold_69 ?_
      refine X4p_14_5 (pc := 70) C hL hT dX4_ruleTold_70 ?_
      refine go_aload_n (pc := 73) C dX4_ruleTold_73 rfl 2 rfl ?_
      refine go_dup (pc := 74) C dX4_ruleTold_74 rfl ?_
      refine X4g_14_2 (pc := 75) C hL hT dX4_ruleTold_75 ?_
      refine go_iconst (pc := 78) (v := (3 : Int32)) C dX4_ruleTold_78 (by decide) ?_
      refine go_iadd (pc := 79) C dX4_ruleTold_79 ?_
      refine X4p_14_2 (pc := 80) C hL hT dX4_ruleTold_80 ?_
      show Go Γ k n (XW Γ.d A L (E ++ (rC Γ.d q ca (nI cs.length) qf ++ E1)) (s5R s4)) 83 [(2, .int ((s1 14).1 2)), (1, .ref q), (0, .ref (A.1 14 0))] []
      have hRO : ∀ (qf : Nat → Option Nat) (E1 : va_W) (z : Int32) (x : Nat → Bl), hasO (XW Γ.d A L (E ++ (rC Γ.d q ca z qf ++ E1)) x) q 5 [.ref ca, .int z] := fun qf E1 z x => xhasO (hasO.appR (hasO.appL ⟨0, rfl⟩))
      refine go_aload_n (pc := 83) C dX4_ruleTold_83 rfl 1 rfl ?_
      refine go_getfieldN (pc := 84) C (hRO _ _ _ _) xc5 in_X5 0 (by decide) X4fl_X5_0 rfl dX4_ruleTold_84 ?_
      refine go_aload_n (pc := 87) C dX4_ruleTold_87 rfl 1 rfl ?_
      refine go_getfieldN (pc := 88) C (hRO _ _ _ _) xc5 in_X5 1 (by decide) X4fl_X5_1 rfl dX4_ruleTold_88 ?_
      refine go_aload_n (pc := 91) C dX4_ruleTold_91 rfl 2 rfl ?_
      obtain ⟨r5, e5, hk5, hx5⟩ := bndC_some h
      have g5 := bndC_le hk5 hx5
      refine go_callVX (pc := 92) C [] (m4_clauseHere hL hT nn _ _ _ e5) q721 q723 qs18 q145 q724 x4pd_clauseHere (by show 12 + 3 * nn + 1 ≤ 13 + 3 * nn; omega) (by omega) (xO hT hL.1) xc14 rfl (Nat.le_of_ble_eq_true rfl) ⟨by show k + r5.2.1 ≤ r9.2.1; omega, by show n + r5.2.2 ≤ r9.2.2; omega⟩ dX4_ruleTold_92 rfl (fun v9 w9 hp => ?_) (fun w9 hp => ?_)
      · obtain ⟨s6, c6, a6, E6, g6, rfl, rfl, hv6⟩ := hp
        obtain ⟨r7, h, er7⟩ := hk5 c6 s6 g6
        have k1 : r.2.1 = r5.2.1 + r7.2.1 := by rw [er7]
        have k2 : r.2.2 = r5.2.2 + r7.2.2 := by rw [er7]
        have k3 : r.1 = r7.1 := by rw [er7]
        obtain ⟨hlt, h⟩ := chk_some h
        have hlt : cs.length < 12 := of_decide_eq_true hlt
        have hin : inB (nI cs.length) 12 = true := by
          have e : (nI cs.length).toNatClampNeg = cs.length := nI_clamp (by omega)
          have e2 : (0 : Int32) ≤ nI cs.length := nI_pos' (by omega)
          simp [inB, e, e2, hlt]
        have eidx : (nI cs.length).toNatClampNeg = cs.length := nI_clamp (by omega)
        rw [show E ++ (rC Γ.d q ca (nI cs.length) qf ++ E1) ++ E6 = E ++ (rC Γ.d q ca (nI cs.length) qf ++ (E1 ++ E6)) by simp only [List.append_assoc]] at hv6 ⊢
        have hcell : ∃ fs, hasO (E ++ (rC Γ.d q ca (nI cs.length) qf ++ (E1 ++ E6))) a6 6 fs := by obtain ⟨a1, tv, h1, -⟩ := hv6; exact ⟨_, h1⟩
        obtain ⟨fs6, hcell⟩ := hcell
        refine go_aastO (pc := 95) (t := 5) (b := ca) C (xputA (Y := rC Γ.d q ca (nI cs.length) (va_up qf (nI cs.length).toNatClampNeg (some a6))) ⟨1, rfl, rfl⟩) (xhasO hcell) xc6 rfl hin dX4_ruleTold_95 ?_
        rw [eidx]
        have hup : ∀ i, va_up qf cs.length (some a6) i = if i = cs.length then some a6 else qf i := fun i => rfl
        generalize va_up qf cs.length (some a6) = qf' at hup ⊢
        refine go_aload_n (pc := 96) C dX4_ruleTold_96 rfl 1 rfl ?_
        refine go_dup (pc := 97) C dX4_ruleTold_97 rfl ?_
        refine go_getfieldN (pc := 98) C (hRO _ _ _ _) xc5 in_X5 1 (by decide) X4fl_X5_1 rfl dX4_ruleTold_98 ?_
        refine go_iconst (pc := 101) (v := (1 : Int32)) C dX4_ruleTold_101 (by decide) ?_
        refine go_iadd (pc := 102) C dX4_ruleTold_102 ?_
        have en : nI cs.length + 1 = nI (cs ++ [c6.1]).length := by rw [List.length_append]; exact (nI_succ _).symm
        rw [en]
        refine go_putfieldN (pc := 103) (v := .int (nI (cs ++ [c6.1]).length)) (ty := .int) C 1 (xputO (Y := rC Γ.d q ca (nI (cs ++ [c6.1]).length) qf') ⟨0, rfl, rfl⟩) xc5 in_X5 tyX5 tyX5_ok nmX5 (by decide) X4fl_X5_1 rfl rfl rfl rfl (Nat.le_of_ble_eq_true rfl) dX4_ruleTold_103 ?_
        have hinv : ∀ (i : Nat) (c : Cls), (cs ++ [c6.1])[i]? = some c → ∃ b : Nat, qf' i = some b ∧ cAt (E ++ (rC Γ.d q ca (nI (cs ++ [c6.1]).length) qf' ++ (E1 ++ E6))) (max ht c6.2) b c := by
          have hm := mid_mono (E1 := E) (E9 := E1 ++ E6) (lo := 6) (X := rC Γ.d q ca (nI cs.length) qf) (X' := rC Γ.d q ca (nI (cs ++ [c6.1]).length) qf') rfl (fun k b ci fs hk hc => by
            match k, hk with
            | 0, hk => cases hk; omega
            | 1, hk => cases hk
            | k + 2, hk => cases hk)
          intro i c hi
          by_cases e : i = cs.length
          · subst e
            rw [List.getElem?_concat_length] at hi
            cases hi
            exact ⟨a6, by rw [hup, if_pos rfl], (cAt.mono3 hm hv6).le (Nat.le_max_right _ _)⟩
          · have hi2 : cs[i]? = some c := by
              rw [List.getElem?_append] at hi
              split at hi
              · exact hi
              · rw [List.getElem?_eq_none (by simp; omega)] at hi; cases hi
            obtain ⟨b, g1, g2⟩ := hcs i c hi2
            refine ⟨b, by rw [hup, if_neg e]; exact g1, (cAt.mono3 hm (cAt.mono (fun b ci fs hh => ?_) g2)).le (Nat.le_max_left _ _)⟩
            have := hh.appL (w2 := E6)
            simpa only [List.append_assoc] using this
        refine go_aload_n (pc := 106) C dX4_ruleTold_106 rfl 2 rfl ?_
        refine go_bipush (pc := 107) (v := (59 : Int32)) C dX4_ruleTold_107 (by decide) ?_
        obtain ⟨x7, s7, e7, h⟩ := bnd2_some h
        refine go_callVi (pc := 109) C [.int (59 : Int32)] (m4_takesSign hL hT e7) q683 q685 qs15 q145 q686 x4pd_takesSign (by show 1 + 1 ≤ 13 + 3 * nn; omega) (by omega) (xO hT hL.1) xc14 rfl (Nat.le_of_ble_eq_true rfl) ⟨by show k + r5.2.1 ≤ r9.2.1; omega, by show n + r5.2.2 ≤ r9.2.2; omega⟩ dX4_ruleTold_109 rfl ?_
        refine go_if_ne (pc := 112) (tgt := 8) C dX4_ruleTold_112 (by decide) h (fun h => ?_) (fun h => ?_)
        · refine go_sub [1, 2] rfl ?_
          exact hK _ r7 h _ _ (E1 ++ E6) qf' hinv (by omega) (by omega) (by rw [← k3]; exact hr)
        · refine go_aload_n (pc := 115) C dX4_ruleTold_115 rfl 2 rfl ?_
          obtain ⟨t8, e8, hk8, hx8⟩ := bndXc_some h
          refine go_callVXv (pc := 116) C [] (m4_ends hL hT e8) q687 q689 qs16 q145 q690 x4pd_ends (by show 1 + 1 ≤ 13 + 3 * nn; omega) (by omega) (xO hT hL.1) xc14 rfl (Nat.le_of_ble_eq_true rfl) ⟨by show k + r5.2.1 ≤ r9.2.1; omega, by show n + r5.2.2 ≤ r9.2.2; omega⟩ dX4_ruleTold_116 rfl (fun s8 q9 => ?_) (fun t9 q9 => hX _ _ _ _ _ _ (by omega) (by omega) ⟨t9, rC Γ.d q ca (nI (cs ++ [c6.1]).length) qf' ++ (E1 ++ E6), by rw [← hr, k3, hx8 _ q9], rfl⟩)
          have h := Option.some.inj (hk8 _ q9)
          refine go_aload_n (pc := 119) C dX4_ruleTold_119 rfl 1 rfl ?_
          exact (hE _ _ _ 120 _ (by omega) (by omega)).2.2.2.2.1 _ _ rfl dX4_ruleTold_120 ⟨s8, (cs ++ [c6.1], max ht c6.2), q, rC Γ.d q ca (nI (cs ++ [c6.1]).length) qf' ++ (E1 ++ E6), by rw [← hr, k3, ← h], rfl, rfl, ca, qf', hasO.appR (hasO.appL ⟨0, rfl⟩), hasA.appR (hasA.appL ⟨1, rfl⟩), by rw [List.length_append]; show cs.length + 1 ≤ 12; omega, hinv⟩
      · obtain ⟨s6, E6, g6, rfl⟩ := hp
        exact hX _ _ _ _ _ _ (by omega) (by omega) ⟨s6, rC Γ.d q ca (nI cs.length) qf ++ E1 ++ E6, by rw [← hr, hx5 s6 g6], by simp only [List.append_assoc]⟩
    by_cases hw : (12 : Int32) ≤ (s3 14).1 5
    · refine go_icmp_ge (A := some ()) (B := none) (r := ()) (pc := 50) (tgt := 57) C dX4_ruleTold_50 (by decide) (by rw [if_pos hw]) (fun _ => ?_) (fun h => by cases h)
      refine go_iconst (pc := 57) (v := (0 : Int32)) C dX4_ruleTold_57 (by decide) ?_
      exact hgo2 0 (if_pos hw)
    · refine go_icmp_ge (A := none) (B := some ()) (r := ()) (pc := 50) (tgt := 57) C dX4_ruleTold_50 (by decide) (by rw [if_neg hw]) (fun h => by cases h) (fun _ => ?_)
      refine go_iconst (pc := 53) (v := (1 : Int32)) C dX4_ruleTold_53 (by decide) ?_
      refine go_goto (pc := 54) (tgt := 58) C dX4_ruleTold_54 (by decide) ?_
      exact hgo2 1 (if_neg hw)
  by_cases hw : r2 = 0
  · refine go_if_ne (A := none) (B := some ()) (r := ()) (pc := 30) (tgt := 37) C dX4_ruleTold_30 (by decide) (by rw [if_pos hw]) (fun h => by cases h) (fun _ => ?_)
    refine go_iconst (pc := 33) (v := (1 : Int32)) C dX4_ruleTold_33 (by decide) ?_
    refine go_goto (pc := 34) (tgt := 38) C dX4_ruleTold_34 (by decide) ?_
    exact hgo 1 (if_pos hw)
  · refine go_if_ne (A := some ()) (B := none) (r := ()) (pc := 30) (tgt := 37) C dX4_ruleTold_30 (by decide) (by rw [if_neg hw]) (fun _ => ?_) (fun h => by cases h)
    refine go_iconst (pc := 37) (v := (0 : Int32)) C dX4_ruleTold_37 (by decide) ?_
    exact hgo 0 (if_neg hw)
theorem m4_ruleTold {l : Launch} {d : gD} {A : XA} {L : List Nat} (hL : xOK L) (hT : 14 ∈ L) (nn : Nat) (E : va_W) (s0 : Nat → Bl) (r9 : Cn Rf) (h : f4_ruleTold nn s0 = some r9) : MtX l d yX4_ruleTold cX4_ruleTold 3 (some (.object "PartyRaft$Rule")) (13 + 3 * nn, r9.2.1, r9.2.2) (760 + 400 * nn) (XW d A L E s0) [.ref (A.1 14 0)] (fun v w => ∃ (s9 : Nat → Bl) (f : Rf) (a9 : Nat) (E9 : va_W), r9.1 = .inr (f, s9) ∧ v = some (.ref a9) ∧ w = XW d A L (E ++ E9) s9 ∧ rAt (E ++ E9) d f.2 a9 f.1) (fun w => ∃ (s9 : Nat → Bl) (E9 : va_W), r9.1 = .inl s9 ∧ w = XW d A L (E ++ E9) s9) := by
  refine MtX.of x4pn (Nat.le_of_ble_eq_true rfl) ?_
  intro Γ hl hd hN C hE hX
  subst hl; subst hd
  show Go Γ 0 0 (XW Γ.d A L E s0) 0 [(0, .ref (A.1 14 0))] []
  unfold f4_ruleTold at h
  obtain ⟨r2, h, er2⟩ := cnt_some h
  have k1 : r9.2.1 = 2 + r2.2.1 := by rw [er2]
  have k2 : r9.2.2 = 14 + r2.2.2 := by rw [er2]
  have k3 : r9.1 = r2.1 := by rw [er2]
  refine go_new (pc := 0) (ci := 5) (T := TX5) (N := 2) (fs := [.null, .int 0]) C in_X5 tyX5 tyX5_ok q704 q705 q152 rfl (dflt_all (by decide +kernel)) ⟨by show 0 + 1 ≤ r9.2.1; omega, by show 0 + 2 ≤ r9.2.2; omega⟩ dX4_ruleTold_0 (fun q => ?_)
  refine go_dup (pc := 3) C dX4_ruleTold_3 rfl ?_
  refine go_callIN (pc := 4) (nA := 0) (st := [.ref q]) C [] (Mt.frame (XW Γ.d A L E s0) [] (m5_init (b := q))) q706 q707 q152 q708 rfl (by decide +kernel) ⟨by show 1 + 1 ≤ 13 + 3 * nn; omega, by omega⟩ rfl (Nat.le_of_ble_eq_true rfl) ⟨by show 0 + 1 + 1 ≤ r9.2.1; omega, by show 0 + 2 + 12 ≤ r9.2.2; omega⟩ dX4_ruleTold_4 rfl (fun v9 w9 h9 => ?_)
  obtain ⟨w0, ⟨rfl, ca, rfl⟩, rfl⟩ := h9
  refine go_astore_n (pc := 7) C hN dX4_ruleTold_7 rfl (by decide) rfl ?_
  have h9 := w4_ruleTold_8 (q := q) (ca := ca) hN C hE hX hL hT FU (([], 0), s0) r2 h (0 + 1 + 1) (0 + 2 + 12) [] (fun _ => none) (fun i c hi => by cases hi) (by omega) (by omega) k3.symm
  have e : XW Γ.d A L (E ++ (rC Γ.d q ca (nI ([] : List Cls).length) (fun _ => none) ++ [])) s0 = XW Γ.d A L E s0 ++ ([(q, .inr (5, [.ref ca, .int 0])), (ca, .inl (Γ.d.2.1 5, 12, .inr (.inr (.inr (.inr (fun _ => none))))))] ++ []) := by
    rw [XW_app]; rfl
  rw [← e]
  exact h9

/-! PartyRaft.image, PartyRaft.back; printed by gen/image.py -/
set_option maxRecDepth 100000
/-- the k-th image and its flow lie at b and a -/
def upI (A : XA) (k b : Nat) (a : Nat → Nat) : XA := (fun j => if j = 9 + k then (fun _ => b) else if j = 5 + k then a else A.1 j, A.2)
/-- images are there as the array says -/
def xIM (L : List Nat) (x : Nat → Bl) : Prop := ∀ k, k < 4 → ((x 0).2.1 28 k = 0 → 9 + k ∉ L ∧ 5 + k ∉ L) ∧ (¬ (x 0).2.1 28 k = 0 → 9 + k ∈ L ∧ 5 + k ∈ L)
def imN (k : Nat) (s0 : Nat → Bl) : Nat → Bl := upX (upX s0 (5 + k) s1i) (9 + k) s1i
def imMk (k : Nat) (s0 : Nat → Bl) : Nat → Bl := if (s0 0).2.1 28 k = 0 then upX (imN k s0) 0 (bA (imN k s0 0) 28 k 1) else s0
def imSt (k : Nat) (s1 : Nat → Bl) : Nat → Bl := upX s1 (9 + k) (bI (s1 (9 + k)) 1 (if (s1 0).1 0 = 0 then 0 else 1))
def imX (k : Nat) (s2 : Nat → Bl) : Nat → Bl := upX s2 (9 + k) (bI (s2 (9 + k)) 2 ((s2 0).1 5))
def f0_im (k : Nat) (s0 : Nat → Bl) : Option (Int32 × (Nat → Bl)) :=
  ltv (imX k (imSt k (imMk k s0))) (fun s3 => if (s3 0).1 0 = 0 then some ((0 : Int32), s3) else bnd (f1_copies (s3 (5 + k)) (s3 1)) (fun σ => some ((upX s3 (5 + k) σ 1).1 6, upX s3 (5 + k) σ)))
def f0_image (s0 : Nat → Bl) (v1 : Int32) : Option (Int32 × (Nat → Bl)) :=
  bnd (f0_in v1.toInt64 (0 : Int64) (3 : Int64)) (fun r1 => if r1 = 0 then some ((-1 : Int32), s0) else f0_im v1.toNatClampNeg s0)
def f0_bk (k : Nat) (s0 : Nat → Bl) : Option (Int32 × (Nat → Bl)) :=
  if (s0 (9 + k)).1 1 = 0 then ltv (upX (upX s0 0 (bI (s0 0) 0 0)) 0 (bI ((upX s0 0 (bI (s0 0) 0 0)) 0) 5 (((upX s0 0 (bI (s0 0) 0 0)) (9 + k)).1 2))) (fun s2 => some ((0 : Int32), s2))
  else bnd (f1_copies (s0 1) (s0 (5 + k))) (fun σ => ltv (upX (upX s0 1 σ) 0 (bI ((upX s0 1 σ) 0) 0 1)) (fun s2 => ltv (upX s2 0 (bI (s2 0) 5 ((s2 (9 + k)).1 2))) (fun s3 => some ((s3 1).1 6, s3))))
def f0_back (s0 : Nat → Bl) (v1 : Int32) : Option (Int32 × (Nat → Bl)) :=
  bnd (f0_in v1.toInt64 (0 : Int64) (3 : Int64)) (fun r1 => if r1 = 0 then some ((-1 : Int32), s0) else if (s0 0).2.1 28 v1.toNatClampNeg = 0 then some ((-1 : Int32), s0) else f0_bk v1.toNatClampNeg s0)
theorem xc13i : CL[13]? = some (RX15, TX15, 3) := rfl
theorem flat_xg {d : gD} {A : XA} {x y : Nat → Bl} : ∀ (L : List Nat), (∀ j ∈ L, x j = y j) → L.flatMap (fun j => XB d A j (x j)) = L.flatMap (fun j => XB d A j (y j))
  | [], _ => rfl
  | i :: t, h => by
    simp only [List.flatMap_cons]
    rw [h i List.mem_cons_self, flat_xg t (fun j hj => h j (List.mem_cons_of_mem _ hj))]
theorem imN0 (k : Nat) (s0 : Nat → Bl) : imN k s0 0 = s0 0 := by unfold imN; rw [upX_ne (by omega), upX_ne (by omega)]

theorem XB_I0 {d : gD} {A : XA} {b : Nat} {a : Nat → Nat} {σ : Bl} : ∀ (j : Nat), j ≠ 9 → j ≠ 5 → (j = 0 → σ.2.1 28 0 = 0) → XB d A j σ = XB d (upI A 0 b a) j σ
  | 0, _, _, h => XB0_cg rfl (fun f => rfl) (fun f hf i => by
    rcases hf with rfl | rfl | rfl | rfl | rfl
    · rfl
    · rfl
    · rfl
    · rfl
    · show (if σ.2.1 28 i = 0 then none else if i < 4 then some (A.1 (9 + i) 0) else none) = (if σ.2.1 28 i = 0 then none else if i < 4 then some ((if 9 + i = 9 + 0 then (fun _ => b) else if 9 + i = 5 + 0 then a else A.1 (9 + i)) 0) else none)
      by_cases hi : i = 0
      · subst hi; rw [if_pos (h rfl), if_pos (h rfl)]
      · by_cases h4 : i < 4
        · rw [if_neg (show ¬ 9 + i = 9 + 0 by omega), if_neg (show ¬ 9 + i = 5 + 0 by omega)]
        · rw [if_neg h4, if_neg h4])
  | 1, _, _, _ => rfl
  | 2, _, _, _ => rfl
  | 3, _, _, _ => rfl
  | 4, _, _, _ => rfl
  | 5, h1, h2, _ => absurd rfl h2
  | 6, _, _, _ => rfl
  | 7, _, _, _ => rfl
  | 8, _, _, _ => rfl
  | 9, h1, h2, _ => absurd rfl h1
  | 10, _, _, _ => rfl
  | 11, _, _, _ => rfl
  | 12, _, _, _ => rfl
  | 13, _, _, _ => rfl
  | 14, _, _, _ => rfl
  | j + 15, h1, h2, _ => by
    have e : (upI A 0 b a).1 (j + 15) = A.1 (j + 15) := by
      show (if j + 15 = 9 + 0 then (fun _ => b) else if j + 15 = 5 + 0 then a else A.1 (j + 15)) = _
      rw [if_neg (by omega), if_neg (by omega)]
    show bWr d 1 FK1 (A.1 (j + 15)) (fun _ _ => .null) (fun _ _ _ => none) σ = bWr d 1 FK1 ((upI A 0 b a).1 (j + 15)) (fun _ _ => .null) (fun _ _ _ => none) σ
    rw [e]
theorem XW_I0 {d : gD} {A : XA} {L : List Nat} {E : va_W} {x : Nat → Bl} {b : Nat} {a : Nat → Nat} (h9 : 9 ∉ L) (h5 : 5 ∉ L) (hz : (x 0).2.1 28 0 = 0) : (XW d A L E x ++ ((b, .inr (13, [.ref (a 0), .int 0, .int 0])) :: bW d 1 FK1 a s1i)).Perm (XW d (upI A 0 b a) (9 :: 5 :: L) E (imN 0 x)) := by
  have e1 : XB d (upI A 0 b a) 9 s1i = [(b, .inr (13, [.ref (a 0), .int 0, .int 0]))] := rfl
  have e2 : XB d (upI A 0 b a) 5 s1i = bW d 1 FK1 a s1i := rfl
  have e3 : XW d (upI A 0 b a) (9 :: 5 :: L) E (imN 0 x) = ((b, .inr (13, [.ref (a 0), .int 0, .int 0])) :: bW d 1 FK1 a s1i) ++ XW d A L E x := by
    have g1 : imN 0 x 9 = s1i := by unfold imN; rw [upX_self]
    have g2 : imN 0 x 5 = s1i := by unfold imN; rw [upX_ne (by decide), upX_self]
    have g3 : L.flatMap (fun j => XB d (upI A 0 b a) j (imN 0 x j)) = L.flatMap (fun j => XB d A j (x j)) := by
      rw [flat_cg (A := A) (A' := upI A 0 b a) L (fun j hj => XB_I0 j (fun e => h9 (e ▸ hj)) (fun e => h5 (e ▸ hj)) (fun e => by subst e; exact hz))]
      exact flat_xg L (fun j hj => by unfold imN; rw [upX_ne (show j ≠ 9 + 0 from fun e => h9 (by rw [e] at hj; exact hj)), upX_ne (show j ≠ 5 + 0 from fun e => h5 (by rw [e] at hj; exact hj))])
    unfold XW
    rw [List.flatMap_cons, List.flatMap_cons, g1, g2, g3, e1, e2, List.append_assoc, List.append_assoc]; rfl
  rw [e3]
  exact List.perm_append_comm
theorem im_tail0 {Γ : Gam} {A : XA} {L : List Nat} {E : va_W} {s1 : Nat → Bl} {r9 : Int32} {s9 : Nat → Bl} {kc nc : Nat} {fr : Nat × Nat × Nat} (hL : xOK L) (hI : 9 ∈ L) (hF : 5 ∈ L) (hz : ¬ (s1 0).2.1 28 0 = 0) (hN : Γ.nL = 3) (hf : 3 ≤ fr.1) (C : Cx Γ cX0_image RX0 fr 130) (h : ltv (imX 0 (imSt 0 s1)) (fun s3 => if (s3 0).1 0 = 0 then some ((0 : Int32), s3) else bnd (f1_copies (s3 (5)) (s3 1)) (fun σ => some ((upX s3 (5) σ 1).1 6, upX s3 (5) σ))) = some (r9, s9)) (hk : kc ≤ fr.2.1 ∧ nc ≤ fr.2.2)
    (hE : ∀ (pc : Nat) (lv : List (Nat × Value)), decode cX0_image pc = .ok (.ireturn, 1) → Go Γ kc nc (XW Γ.d A L E s9) pc lv [.int r9]) : Go Γ kc nc (XW Γ.d A L E s1) 36 [(0, .ref (A.1 0 0)), (1, .int (0 : Int32))] [] := by
  have hin : chk (inB (0 : Int32) 4) (some ()) = some () := rfl
  have hval : va_rf (xrq Γ.d A 0 28 0 ((s1 0).2.1 28 0)) = .ref (A.1 9 0) := by show va_rf (if (s1 0).2.1 28 0 = 0 then none else if 0 < 4 then some (A.1 (9 + 0) 0) else none) = _; rw [if_neg hz, if_pos (by decide)]; rfl
  refine go_aload_n (pc := 36) C dX0_image_36 rfl 0 rfl ?_
  refine X0g_0_28 (pc := 37) C hL dX0_image_37 ?_
  refine go_iload_n (pc := 40) C dX0_image_40 rfl 1 rfl ?_
  refine go_aald (pc := 41) (t := 7) C (xa_0_28 hL) rfl hin dX0_image_41 (fun _ => ?_)
  show Go Γ kc nc (XW Γ.d A L E s1) 42 [(0, .ref (A.1 0 0)), (1, .int (0 : Int32))] (va_rf (xrq Γ.d A 0 28 0 ((s1 0).2.1 28 0)) :: [])
  rw [hval]
  refine go_astore_n (pc := 42) C hN dX0_image_42 rfl (by decide) rfl ?_
  refine go_aload_n (pc := 43) C dX0_image_43 rfl 0 rfl ?_
  refine go_aload_n (pc := 44) C dX0_image_44 rfl 1 rfl ?_
  have hput : ∀ (x : Nat → Bl) (b : Int32) (f : Nat) (hf : FK15[f]? = some (0, 0)), putO (XW Γ.d A L E x) (A.1 9 0) 13 [.ref (A.1 5 0), .int ((x 9).1 1), .int ((x 9).1 2)] ([Value.ref (A.1 5 0), .int ((x 9).1 1), .int ((x 9).1 2)].set f (.int b)) (XW Γ.d A L E (upX x 9 (bI (x 9) f b))) := fun x b f hf => xpO hI hL.1 (bW_putI (FK := FK15) hf)
  have hrest : ∀ b : Int32, (if (s1 0).1 0 = 0 then 0 else 1) = b → narrow .boolean (.int b) = .int b → fits .boolean (.int b) = true → Go Γ kc nc (XW Γ.d A L E s1) 56 [(2, .ref (A.1 9 0)), (0, .ref (A.1 0 0)), (1, .int (0 : Int32))] [.int b, .ref (A.1 9 0)] := by
    intro b hb hnb hfb
    refine go_putfieldN (pc := 56) (v := .int b) (ty := .boolean) C 1 (hput s1 b 1 rfl) xc13i in_X15 tyX15 tyX15_ok nmX15 (by decide) X0fl_X15_1 rfl rfl hnb hfb (Nat.le_of_ble_eq_true rfl) dX0_image_56 ?_
    have e2 : upX s1 9 (bI (s1 9) 1 b) = imSt 0 s1 := by unfold imSt; rw [hb]
    rw [e2]
    have h := h
    generalize imSt 0 s1 = s2 at h
    refine go_aload_n (pc := 59) C dX0_image_59 rfl 0 rfl ?_
    refine go_aload_n (pc := 60) C dX0_image_60 rfl 1 rfl ?_
    refine X0g_0_5 (pc := 61) C hL dX0_image_61 ?_
    refine go_putfieldN (pc := 64) (v := .int ((s2 0).1 5)) (ty := .int) C 2 (hput s2 _ 2 rfl) xc13i in_X15 tyX15 tyX15_ok nmX15 (by decide) X0fl_X15_2 rfl rfl rfl rfl (Nat.le_of_ble_eq_true rfl) dX0_image_64 ?_
    have e3 : upX s2 9 (bI (s2 9) 2 ((s2 0).1 5)) = imX 0 s2 := rfl
    rw [e3]
    generalize imX 0 s2 = s3 at h
    have h : (if (s3 0).1 0 = 0 then some ((0 : Int32), s3) else bnd (f1_copies (s3 (5)) (s3 1)) (fun σ => some ((upX s3 (5) σ 1).1 6, upX s3 (5) σ))) = some (r9, s9) := h
    refine go_aload_n (pc := 67) C dX0_image_67 rfl 1 rfl ?_
    by_cases c : (s3 0).1 0 = 0
    · rw [if_pos c] at h
      have h := Option.some.inj h
      simp only [Prod.mk.injEq] at h
      obtain ⟨rfl, rfl⟩ := h
      refine X0g_0_0N (pc := 68) C hL c dX0_image_68 ?_
      refine go_ifnonnullN (pc := 71) C dX0_image_71 ?_
      refine go_iconst (pc := 74) (v := (0 : Int32)) C dX0_image_74 (by decide) ?_
      exact hE 75 _ dX0_image_75
    · rw [if_neg c] at h
      obtain ⟨σ, e4, h⟩ := bnd_some h
      have h := Option.some.inj h
      simp only [Prod.mk.injEq] at h
      obtain ⟨rfl, rfl⟩ := h
      refine X0g_0_0 (pc := 68) C hL c dX0_image_68 ?_
      refine go_ifnonnull (pc := 71) (tgt := 76) C dX0_image_71 (by decide) ?_
      refine go_aload_n (pc := 76) C dX0_image_76 rfl 0 rfl ?_
      refine go_getfieldN (pc := 77) C (ci := 13) (fs := [.ref (A.1 5 0), .int ((s3 9).1 1), .int ((s3 9).1 2)]) (xO hI hL.1) xc13i in_X15 0 (by decide) X0fl_X15_0 rfl dX0_image_77 ?_
      refine go_aload_n (pc := 80) C dX0_image_80 rfl 1 rfl ?_
      refine X0g_0_0 (pc := 81) C hL c dX0_image_81 ?_
      refine go_callVa (pc := 84) C [.ref (A.1 1 0)] (Mt.x2 (j := 5) (i := 1) hF (hL.2 1 (by decide)) (by decide) hL.1 (m1_copies e4)) q691 q552 q553 q139 q554 x1pd_copies (by show 2 + 1 ≤ fr.1; exact hf) (by decide) (xO hF hL.1) xc1 rfl (Nat.le_of_ble_eq_true rfl) hk dX0_image_84 rfl ?_
      refine go_pop (pc := 87) C dX0_image_87 rfl ?_
      refine go_aload_n (pc := 88) C dX0_image_88 rfl 1 rfl ?_
      refine X0g_0_0 (pc := 89) C hL (by rw [upX_ne (by decide)]; exact c) dX0_image_89 ?_
      refine X0g_1_6 (pc := 92) C hL dX0_image_92 ?_
      exact hE 95 _ dX0_image_95
  by_cases c : (s1 0).1 0 = 0
  · refine X0g_0_0N (pc := 45) C hL c dX0_image_45 ?_
    refine go_ifnullN (pc := 48) (tgt := 55) C dX0_image_48 (by decide) ?_
    refine go_iconst (pc := 55) (v := (0 : Int32)) C dX0_image_55 (by decide) ?_
    exact hrest 0 (if_pos c) rfl rfl
  · refine X0g_0_0 (pc := 45) C hL c dX0_image_45 ?_
    refine go_ifnull (pc := 48) C dX0_image_48 ?_
    refine go_iconst (pc := 51) (v := (1 : Int32)) C dX0_image_51 (by decide) ?_
    refine go_goto (pc := 52) (tgt := 56) C dX0_image_52 (by decide) ?_
    exact hrest 1 (if_neg c) rfl rfl
theorem im_fr0 {s1 : Nat → Bl} {r9 : Int32} {s9 : Nat → Bl} (h : ltv (imX 0 (imSt 0 s1)) (fun s3 => if (s3 0).1 0 = 0 then some ((0 : Int32), s3) else bnd (f1_copies (s3 (5)) (s3 1)) (fun σ => some ((upX s3 (5) σ 1).1 6, upX s3 (5) σ))) = some (r9, s9)) : s9 0 = s1 0 := by
  have e0 : imX 0 (imSt 0 s1) 0 = s1 0 := by unfold imX imSt; rw [upX_ne (by omega), upX_ne (by omega)]
  generalize imX 0 (imSt 0 s1) = s3 at h e0
  have h : (if (s3 0).1 0 = 0 then some ((0 : Int32), s3) else bnd (f1_copies (s3 (5)) (s3 1)) (fun σ => some ((upX s3 (5) σ 1).1 6, upX s3 (5) σ))) = some (r9, s9) := h
  split at h
  · have h := Option.some.inj h; simp only [Prod.mk.injEq] at h; rw [← h.2, e0]
  · obtain ⟨σ, e4, h⟩ := bnd_some h
    have h := Option.some.inj h; simp only [Prod.mk.injEq] at h; rw [← h.2, upX_ne (by decide), e0]
theorem im_go0 {Γ : Gam} {A : XA} {L : List Nat} {E : va_W} {s0 : Nat → Bl} {r9 : Int32} {s9 : Nat → Bl} (hL : xOK L) (h14 : 14 ∉ L) (hIM : xIM L s0) (hN : Γ.nL = 3) (C : Cx Γ cX0_image RX0 (3, 19, 1712) 130) (hE : Rets Γ cX0_image (some .int) 19 1712 (fun v w => v = some (.int r9) ∧ ∃ (A' : XA) (L' : List Nat), w = XW Γ.d A' L' E s9 ∧ xOK L' ∧ xIM L' s9 ∧ 14 ∉ L' ∧ A'.2.2 = A.2.2 ∧ A'.1 0 = A.1 0)) (h : f0_im 0 s0 = some (r9, s9)) : Go Γ 0 0 (XW Γ.d A L E s0) 14 [(0, .ref (A.1 0 0)), (1, .int (0 : Int32))] [] := by
  have hin : chk (inB (0 : Int32) 4) (some ()) = some () := rfl
  unfold f0_im at h
  refine go_aload_n (pc := 14) C dX0_image_14 rfl 0 rfl ?_
  refine X0g_0_28 (pc := 15) C hL dX0_image_15 ?_
  refine go_iload_n (pc := 18) C dX0_image_18 rfl 1 rfl ?_
  refine go_aald (pc := 19) (t := 7) C (xa_0_28 hL) rfl hin dX0_image_19 (fun _ => ?_)
  show Go Γ 0 0 (XW Γ.d A L E s0) 20 [(0, .ref (A.1 0 0)), (1, .int (0 : Int32))] (va_rf (xrq Γ.d A 0 28 0 ((s0 0).2.1 28 0)) :: [])
  by_cases hz : (s0 0).2.1 28 0 = 0
  · have hval : va_rf (xrq Γ.d A 0 28 0 ((s0 0).2.1 28 0)) = .null := by show va_rf (if (s0 0).2.1 28 0 = 0 then none else _) = _; rw [if_pos hz]; rfl
    rw [hval]
    obtain ⟨n9, n5⟩ := (hIM 0 (by decide)).1 hz
    have n9 : 9 ∉ L := n9
    have n5 : 5 ∉ L := n5
    have eM : imMk 0 s0 = upX (imN 0 s0) 0 (bA (imN 0 s0 0) 28 0 1) := if_pos hz
    rw [eM] at h
    refine go_ifnonnullN (pc := 20) C dX0_image_20 ?_
    refine go_aload_n (pc := 23) C dX0_image_23 rfl 0 rfl ?_
    refine X0g_0_28 (pc := 24) C hL dX0_image_24 ?_
    refine go_iload_n (pc := 27) C dX0_image_27 rfl 1 rfl ?_
    refine go_new (pc := 28) (ci := 13) (T := TX15) (N := 3) (fs := [.null, .int 0, .int 0]) C in_X15 tyX15 tyX15_ok q403 q1240 q163 rfl (dflt_all (by decide +kernel)) ⟨by decide, by decide⟩ dX0_image_28 (fun b => ?_)
    refine go_dup (pc := 31) C dX0_image_31 rfl ?_
    refine go_callIN (pc := 32) (nA := 0) (st := [.ref b, .int (0 : Int32), .ref (A.1 0 (28 + 1))]) C [] (Mt.frame (XW Γ.d A L E s0) [] (m15_init (b := b))) q1241 q1242 q163 q1243 rfl (by decide +kernel) ⟨by decide, by decide⟩ rfl (Nat.le_of_ble_eq_true rfl) ⟨by decide, by decide⟩ dX0_image_32 rfl (fun v9 w9 h9 => ?_)
    obtain ⟨w0, ⟨rfl, a, rfl⟩, rfl⟩ := h9
    rw [List.append_nil]
    refine go_perm (XW_I0 n9 n5 hz) ?_
    have hL' : xOK (9 :: 5 :: L) := ⟨List.nodup_cons.mpr ⟨fun z => by rcases List.mem_cons.mp z with e | e; exact absurd e (by decide); exact n9 e, List.nodup_cons.mpr ⟨n5, hL.1⟩⟩, fun j hj => List.mem_cons_of_mem _ (List.mem_cons_of_mem _ (hL.2 j hj))⟩
    have hI : 9 ∈ 9 :: 5 :: L := List.mem_cons_self
    have hF : 5 ∈ 9 :: 5 :: L := List.mem_cons_of_mem _ List.mem_cons_self
    have hput : putA (XW Γ.d (upI A 0 b a) (9 :: 5 :: L) E (imN 0 s0)) (A.1 0 (28 + 1)) (Γ.d.2.1 7, 4, .inr (.inr (.inr (.inr (fun i => xrq Γ.d (upI A 0 b a) 0 28 i ((imN 0 s0 0).2.1 28 i)))))) (Γ.d.2.1 7, 4, .inr (.inr (.inr (.inr (va_up (fun i => xrq Γ.d (upI A 0 b a) 0 28 i ((imN 0 s0 0).2.1 28 i)) (0 : Int32).toNatClampNeg (some b)))))) (XW Γ.d (upI A 0 b a) (9 :: 5 :: L) E (upX (imN 0 s0) 0 (bA (imN 0 s0 0) 28 0 1))) := by
      have g := bW_putQ (d := Γ.d) (ci := 0) (FK := FK0) (a := A.1 0) (rf := xrf (upI A 0 b a) 0) (rq := xrq Γ.d (upI A 0 b a) 0) (σ := imN 0 s0 0) (f := 28) (k := 3) (z := 4) (i := 0) (v := 1) rfl
      have e : (fun j => xrq Γ.d (upI A 0 b a) 0 28 j (upd ((imN 0 s0 0).2.1 28) 0 1 j)) = va_up (fun i => xrq Γ.d (upI A 0 b a) 0 28 i ((imN 0 s0 0).2.1 28 i)) 0 (some b) := by
        funext j
        by_cases hj : j = 0
        · rw [hj, va_up_self]; rfl
        · rw [va_up_ne _ _ hj]
          have e1 : upd ((imN 0 s0 0).2.1 28) 0 1 j = (imN 0 s0 0).2.1 28 j := by simp [upd, hj]
          rw [e1]
      rw [e] at g
      exact xpA (A := upI A 0 b a) (hL'.2 0 (by decide)) hL'.1 g
    refine go_aastO (pc := 35) (t := 7) (ci := 13) (fs := [.ref ((upI A 0 b a).1 5 0), .int ((imN 0 s0 9).1 1), .int ((imN 0 s0 9).1 2)]) C hput (xO (A := upI A 0 b a) hI hL'.1) xc13i rfl rfl dX0_image_35 ?_
    refine im_tail0 (A := upI A 0 b a) hL' hI hF (by rw [upX_self]; simp [bA, bS, upd]) hN (by decide) C h ⟨by decide, by decide⟩ (fun pc lv hd => (hE _ _ _ pc lv (by decide) (by decide)).1 _ rfl hd ⟨rfl, upI A 0 b a, 9 :: 5 :: L, rfl, hL', ?_, ?_, rfl, rfl⟩)
    · have e0 : s9 0 = bA (imN 0 s0 0) 28 0 1 := by rw [im_fr0 h, upX_self]
      intro j hj
      rw [e0, imN0]
      by_cases e : j = 0
      · subst e; exact ⟨fun z => by simp [bA, bS, upd] at z, fun _ => ⟨hI, hF⟩⟩
      · have e1 : (bA (s0 0) 28 0 1).2.1 28 j = (s0 0).2.1 28 j := by simp [bA, bS, upd, e]
        rw [e1]
        have hh := hIM j hj
        refine ⟨fun z => ⟨fun y => ?_, fun y => ?_⟩, fun z => ⟨List.mem_cons_of_mem _ (List.mem_cons_of_mem _ (hh.2 z).1), List.mem_cons_of_mem _ (List.mem_cons_of_mem _ (hh.2 z).2)⟩⟩
        · simp only [List.mem_cons] at y; rcases y with y | y | y; omega; omega; exact (hh.1 z).1 y
        · simp only [List.mem_cons] at y; rcases y with y | y | y; omega; omega; exact (hh.1 z).2 y
    · intro y; simp only [List.mem_cons] at y; rcases y with y | y | y; exact absurd y (by decide); exact absurd y (by decide); exact h14 y
  · have hval : va_rf (xrq Γ.d A 0 28 0 ((s0 0).2.1 28 0)) = .ref (A.1 9 0) := by show va_rf (if (s0 0).2.1 28 0 = 0 then none else if 0 < 4 then some (A.1 (9 + 0) 0) else none) = _; rw [if_neg hz, if_pos (by decide)]; rfl
    rw [hval]
    obtain ⟨n9, n5⟩ := (hIM 0 (by decide)).2 hz
    have eM : imMk 0 s0 = s0 := if_neg hz
    rw [eM] at h
    refine go_ifnonnull (pc := 20) (tgt := 36) C dX0_image_20 (by decide) ?_
    refine im_tail0 hL n9 n5 hz hN (by decide) C h ⟨by decide, by decide⟩ (fun pc lv hd => (hE _ _ _ pc lv (by decide) (by decide)).1 _ rfl hd ⟨rfl, A, L, rfl, hL, ?_, h14, rfl, rfl⟩)
    intro j hj; rw [im_fr0 h]; exact hIM j hj
theorem bk_go0 {Γ : Gam} {A : XA} {L : List Nat} {E : va_W} {s0 : Nat → Bl} {r9 : Int32} {s9 : Nat → Bl} (hL : xOK L) (hIM : xIM L s0) (hN : Γ.nL = 2) (C : Cx Γ cX0_back RX0 (3, 0, 0) 100) (hE : Rets Γ cX0_back (some .int) 0 0 (fun v w => v = some (.int r9) ∧ w = XW Γ.d A L E s9)) (h : (if (s0 0).2.1 28 0 = 0 then some ((-1 : Int32), s0) else f0_bk 0 s0) = some (r9, s9)) : Go Γ 0 0 (XW Γ.d A L E s0) 12 [(0, .ref (A.1 0 0)), (1, .int (0 : Int32))] [] := by
  have hin : chk (inB (0 : Int32) 4) (some ()) = some () := rfl
  refine go_aload_n (pc := 12) C dX0_back_12 rfl 0 rfl ?_
  refine X0g_0_28 (pc := 13) C hL dX0_back_13 ?_
  refine go_iload_n (pc := 16) C dX0_back_16 rfl 1 rfl ?_
  refine go_aald (pc := 17) (t := 7) C (xa_0_28 hL) rfl hin dX0_back_17 (fun _ => ?_)
  show Go Γ 0 0 (XW Γ.d A L E s0) 18 [(0, .ref (A.1 0 0)), (1, .int (0 : Int32))] (va_rf (xrq Γ.d A 0 28 0 ((s0 0).2.1 28 0)) :: [])
  by_cases hz : (s0 0).2.1 28 0 = 0
  · have hval : va_rf (xrq Γ.d A 0 28 0 ((s0 0).2.1 28 0)) = .null := by show va_rf (if (s0 0).2.1 28 0 = 0 then none else _) = _; rw [if_pos hz]; rfl
    rw [hval]
    rw [if_pos hz] at h
    have h := Option.some.inj h
    simp only [Prod.mk.injEq] at h
    obtain ⟨rfl, rfl⟩ := h
    refine go_ifnonnullN (pc := 18) C dX0_back_18 ?_
    refine go_iconst (pc := 21) (v := (-1 : Int32)) C dX0_back_21 (by decide) ?_
    exact (hE _ _ _ 22 _ (Nat.zero_le _) (Nat.zero_le _)).1 _ rfl dX0_back_22 ⟨rfl, rfl⟩
  have hval : ∀ x : Nat → Bl, x 0 = s0 0 ∨ (x 0).2.1 = (s0 0).2.1 → va_rf (xrq Γ.d A 0 28 0 ((x 0).2.1 28 0)) = .ref (A.1 9 0) := by
    intro x hx
    have e : (x 0).2.1 28 0 = (s0 0).2.1 28 0 := by rcases hx with e | e <;> rw [e]
    show va_rf (if (x 0).2.1 28 0 = 0 then none else if 0 < 4 then some (A.1 (9 + 0) 0) else none) = _
    rw [if_neg (by rw [e]; exact hz), if_pos (by decide)]; rfl
  rw [hval s0 (Or.inl rfl)]
  rw [if_neg hz] at h
  obtain ⟨hI, hF⟩ := (hIM 0 (by decide)).2 hz
  have hI : 9 ∈ L := hI
  have hF : 5 ∈ L := hF
  unfold f0_bk at h
  refine go_ifnonnull (pc := 18) (tgt := 23) C dX0_back_18 (by decide) ?_
  refine go_aload_n (pc := 23) C dX0_back_23 rfl 0 rfl ?_
  refine go_aload_n (pc := 24) C dX0_back_24 rfl 0 rfl ?_
  refine X0g_0_28 (pc := 25) C hL dX0_back_25 ?_
  refine go_iload_n (pc := 28) C dX0_back_28 rfl 1 rfl ?_
  refine go_aald (pc := 29) (t := 7) C (xa_0_28 hL) rfl hin dX0_back_29 (fun _ => ?_)
  show Go Γ 0 0 (XW Γ.d A L E s0) 30 [(0, .ref (A.1 0 0)), (1, .int (0 : Int32))] (va_rf (xrq Γ.d A 0 28 0 ((s0 0).2.1 28 0)) :: [.ref (A.1 0 0)])
  rw [hval s0 (Or.inl rfl)]
  refine go_getfieldN (pc := 30) C (ci := 13) (fs := [.ref (A.1 5 0), .int ((s0 9).1 1), .int ((s0 9).1 2)]) (xO hI hL.1) xc13i in_X15 1 (by decide) X0fl_X15_1 rfl dX0_back_30 ?_
  have htail : ∀ (s1 : Nat → Bl), (s1 0).2.1 = (s0 0).2.1 → ∀ {r : Int32}, r = (if (s1 0).1 0 = 0 then (0 : Int32) else ((upX s1 0 (bI (s1 0) 5 ((s1 9).1 2))) 1).1 6) → r = r9 → upX s1 0 (bI (s1 0) 5 ((s1 9).1 2)) = s9 → Go Γ 0 0 (XW Γ.d A L E s1) 59 [(0, .ref (A.1 0 0)), (1, .int (0 : Int32))] [] := by
    intro s1 e1 r hr h1 h2
    subst h1; subst h2
    refine go_aload_n (pc := 59) C dX0_back_59 rfl 0 rfl ?_
    refine go_aload_n (pc := 60) C dX0_back_60 rfl 0 rfl ?_
    refine X0g_0_28 (pc := 61) C hL dX0_back_61 ?_
    refine go_iload_n (pc := 64) C dX0_back_64 rfl 1 rfl ?_
    refine go_aald (pc := 65) (t := 7) C (xa_0_28 hL) rfl hin dX0_back_65 (fun _ => ?_)
    show Go Γ 0 0 (XW Γ.d A L E s1) 66 [(0, .ref (A.1 0 0)), (1, .int (0 : Int32))] (va_rf (xrq Γ.d A 0 28 0 ((s1 0).2.1 28 0)) :: [.ref (A.1 0 0)])
    rw [hval s1 (Or.inr e1)]
    refine go_getfieldN (pc := 66) C (ci := 13) (fs := [.ref (A.1 5 0), .int ((s1 9).1 1), .int ((s1 9).1 2)]) (xO hI hL.1) xc13i in_X15 2 (by decide) X0fl_X15_2 rfl dX0_back_66 ?_
    refine X0p_0_5 (pc := 69) C hL dX0_back_69 ?_
    refine go_aload_n (pc := 72) C dX0_back_72 rfl 0 rfl ?_
    have e5 : ((upX s1 0 (bI (s1 0) 5 ((s1 9).1 2))) 0).1 0 = (s1 0).1 0 := by rw [upX_self]; rfl
    by_cases c : (s1 0).1 0 = 0
    · rw [if_pos c] at hr
      subst hr
      refine X0g_0_0N (pc := 73) C hL (by rw [e5]; exact c) dX0_back_73 ?_
      refine go_ifnonnullN (pc := 76) C dX0_back_76 ?_
      refine go_iconst (pc := 79) (v := (0 : Int32)) C dX0_back_79 (by decide) ?_
      refine go_goto (pc := 80) (tgt := 90) C dX0_back_80 (by decide) ?_
      exact (hE _ _ _ 90 _ (Nat.zero_le _) (Nat.zero_le _)).1 _ rfl dX0_back_90 ⟨rfl, rfl⟩
    · rw [if_neg c] at hr
      subst hr
      refine X0g_0_0 (pc := 73) C hL (by rw [e5]; exact c) dX0_back_73 ?_
      refine go_ifnonnull (pc := 76) (tgt := 83) C dX0_back_76 (by decide) ?_
      refine go_aload_n (pc := 83) C dX0_back_83 rfl 0 rfl ?_
      refine X0g_0_0 (pc := 84) C hL (by rw [e5]; exact c) dX0_back_84 ?_
      refine X0g_1_6 (pc := 87) C hL dX0_back_87 ?_
      exact (hE _ _ _ 90 _ (Nat.zero_le _) (Nat.zero_le _)).1 _ rfl dX0_back_90 ⟨rfl, rfl⟩
  refine go_if_eq (pc := 33) (tgt := 55) C dX0_back_33 (by decide) h (fun h => ?_) (fun h => ?_)
  · have h := Option.some.inj h
    simp only [Prod.mk.injEq] at h
    refine go_aconst_null (pc := 55) C dX0_back_55 ?_
    refine X0p_0_0N (pc := 56) C hL dX0_back_56 ?_
    exact htail _ (by rw [upX_self]; rfl) (r := 0) (by rw [upX_self, if_pos]; rfl) h.1 h.2
  · obtain ⟨σ, e4, h⟩ := bnd_some h
    have h := Option.some.inj h
    simp only [Prod.mk.injEq] at h
    refine go_aload_n (pc := 36) C dX0_back_36 rfl 0 rfl ?_
    refine X0g_0_1 (pc := 37) C hL dX0_back_37 ?_
    refine go_aload_n (pc := 40) C dX0_back_40 rfl 0 rfl ?_
    refine X0g_0_28 (pc := 41) C hL dX0_back_41 ?_
    refine go_iload_n (pc := 44) C dX0_back_44 rfl 1 rfl ?_
    refine go_aald (pc := 45) (t := 7) C (xa_0_28 hL) rfl hin dX0_back_45 (fun _ => ?_)
    show Go Γ 0 0 (XW Γ.d A L E s0) 46 [(0, .ref (A.1 0 0)), (1, .int (0 : Int32))] (va_rf (xrq Γ.d A 0 28 0 ((s0 0).2.1 28 0)) :: [.ref (A.1 1 0), .ref (A.1 0 0)])
    rw [hval s0 (Or.inl rfl)]
    refine go_getfieldN (pc := 46) C (ci := 13) (fs := [.ref (A.1 5 0), .int ((s0 9).1 1), .int ((s0 9).1 2)]) (xO hI hL.1) xc13i in_X15 0 (by decide) X0fl_X15_0 rfl dX0_back_46 ?_
    refine go_callVa (pc := 49) C [.ref (A.1 5 0)] (Mt.x2 (j := 1) (i := 5) (hL.2 1 (by decide)) hF (by decide) hL.1 (m1_copies e4)) q691 q552 q553 q139 q554 x1pd_copies (by decide) (by decide) (xO (hL.2 1 (by decide)) hL.1) xc1 rfl (Nat.le_of_ble_eq_true rfl) ⟨Nat.zero_le _, Nat.zero_le _⟩ dX0_back_49 rfl ?_
    refine go_goto (pc := 52) (tgt := 56) C dX0_back_52 (by decide) ?_
    refine X0p_0_0 (pc := 56) C hL dX0_back_56 ?_
    exact htail _ (by rw [upX_self, upX_ne (by decide)]; rfl) (r := r9) (by rw [← h.1, upX_self, if_neg]; exact fun z => by simp [bI] at z) rfl h.2
theorem XB_I1 {d : gD} {A : XA} {b : Nat} {a : Nat → Nat} {σ : Bl} : ∀ (j : Nat), j ≠ 10 → j ≠ 6 → (j = 0 → σ.2.1 28 1 = 0) → XB d A j σ = XB d (upI A 1 b a) j σ
  | 0, _, _, h => XB0_cg rfl (fun f => rfl) (fun f hf i => by
    rcases hf with rfl | rfl | rfl | rfl | rfl
    · rfl
    · rfl
    · rfl
    · rfl
    · show (if σ.2.1 28 i = 0 then none else if i < 4 then some (A.1 (9 + i) 0) else none) = (if σ.2.1 28 i = 0 then none else if i < 4 then some ((if 9 + i = 9 + 1 then (fun _ => b) else if 9 + i = 5 + 1 then a else A.1 (9 + i)) 0) else none)
      by_cases hi : i = 1
      · subst hi; rw [if_pos (h rfl), if_pos (h rfl)]
      · by_cases h4 : i < 4
        · rw [if_neg (show ¬ 9 + i = 9 + 1 by omega), if_neg (show ¬ 9 + i = 5 + 1 by omega)]
        · rw [if_neg h4, if_neg h4])
  | 1, _, _, _ => rfl
  | 2, _, _, _ => rfl
  | 3, _, _, _ => rfl
  | 4, _, _, _ => rfl
  | 5, _, _, _ => rfl
  | 6, h1, h2, _ => absurd rfl h2
  | 7, _, _, _ => rfl
  | 8, _, _, _ => rfl
  | 9, _, _, _ => rfl
  | 10, h1, h2, _ => absurd rfl h1
  | 11, _, _, _ => rfl
  | 12, _, _, _ => rfl
  | 13, _, _, _ => rfl
  | 14, _, _, _ => rfl
  | j + 15, h1, h2, _ => by
    have e : (upI A 1 b a).1 (j + 15) = A.1 (j + 15) := by
      show (if j + 15 = 9 + 1 then (fun _ => b) else if j + 15 = 5 + 1 then a else A.1 (j + 15)) = _
      rw [if_neg (by omega), if_neg (by omega)]
    show bWr d 1 FK1 (A.1 (j + 15)) (fun _ _ => .null) (fun _ _ _ => none) σ = bWr d 1 FK1 ((upI A 1 b a).1 (j + 15)) (fun _ _ => .null) (fun _ _ _ => none) σ
    rw [e]
theorem XW_I1 {d : gD} {A : XA} {L : List Nat} {E : va_W} {x : Nat → Bl} {b : Nat} {a : Nat → Nat} (h9 : 10 ∉ L) (h5 : 6 ∉ L) (hz : (x 0).2.1 28 1 = 0) : (XW d A L E x ++ ((b, .inr (13, [.ref (a 0), .int 0, .int 0])) :: bW d 1 FK1 a s1i)).Perm (XW d (upI A 1 b a) (10 :: 6 :: L) E (imN 1 x)) := by
  have e1 : XB d (upI A 1 b a) 10 s1i = [(b, .inr (13, [.ref (a 0), .int 0, .int 0]))] := rfl
  have e2 : XB d (upI A 1 b a) 6 s1i = bW d 1 FK1 a s1i := rfl
  have e3 : XW d (upI A 1 b a) (10 :: 6 :: L) E (imN 1 x) = ((b, .inr (13, [.ref (a 0), .int 0, .int 0])) :: bW d 1 FK1 a s1i) ++ XW d A L E x := by
    have g1 : imN 1 x 10 = s1i := by unfold imN; rw [upX_self]
    have g2 : imN 1 x 6 = s1i := by unfold imN; rw [upX_ne (by decide), upX_self]
    have g3 : L.flatMap (fun j => XB d (upI A 1 b a) j (imN 1 x j)) = L.flatMap (fun j => XB d A j (x j)) := by
      rw [flat_cg (A := A) (A' := upI A 1 b a) L (fun j hj => XB_I1 j (fun e => h9 (e ▸ hj)) (fun e => h5 (e ▸ hj)) (fun e => by subst e; exact hz))]
      exact flat_xg L (fun j hj => by unfold imN; rw [upX_ne (show j ≠ 9 + 1 from fun e => h9 (by rw [e] at hj; exact hj)), upX_ne (show j ≠ 5 + 1 from fun e => h5 (by rw [e] at hj; exact hj))])
    unfold XW
    rw [List.flatMap_cons, List.flatMap_cons, g1, g2, g3, e1, e2, List.append_assoc, List.append_assoc]; rfl
  rw [e3]
  exact List.perm_append_comm
theorem im_tail1 {Γ : Gam} {A : XA} {L : List Nat} {E : va_W} {s1 : Nat → Bl} {r9 : Int32} {s9 : Nat → Bl} {kc nc : Nat} {fr : Nat × Nat × Nat} (hL : xOK L) (hI : 10 ∈ L) (hF : 6 ∈ L) (hz : ¬ (s1 0).2.1 28 1 = 0) (hN : Γ.nL = 3) (hf : 3 ≤ fr.1) (C : Cx Γ cX0_image RX0 fr 130) (h : ltv (imX 1 (imSt 1 s1)) (fun s3 => if (s3 0).1 0 = 0 then some ((0 : Int32), s3) else bnd (f1_copies (s3 (6)) (s3 1)) (fun σ => some ((upX s3 (6) σ 1).1 6, upX s3 (6) σ))) = some (r9, s9)) (hk : kc ≤ fr.2.1 ∧ nc ≤ fr.2.2)
    (hE : ∀ (pc : Nat) (lv : List (Nat × Value)), decode cX0_image pc = .ok (.ireturn, 1) → Go Γ kc nc (XW Γ.d A L E s9) pc lv [.int r9]) : Go Γ kc nc (XW Γ.d A L E s1) 36 [(0, .ref (A.1 0 0)), (1, .int (1 : Int32))] [] := by
  have hin : chk (inB (1 : Int32) 4) (some ()) = some () := rfl
  have hval : va_rf (xrq Γ.d A 0 28 1 ((s1 0).2.1 28 1)) = .ref (A.1 10 0) := by show va_rf (if (s1 0).2.1 28 1 = 0 then none else if 1 < 4 then some (A.1 (9 + 1) 0) else none) = _; rw [if_neg hz, if_pos (by decide)]; rfl
  refine go_aload_n (pc := 36) C dX0_image_36 rfl 0 rfl ?_
  refine X0g_0_28 (pc := 37) C hL dX0_image_37 ?_
  refine go_iload_n (pc := 40) C dX0_image_40 rfl 1 rfl ?_
  refine go_aald (pc := 41) (t := 7) C (xa_0_28 hL) rfl hin dX0_image_41 (fun _ => ?_)
  show Go Γ kc nc (XW Γ.d A L E s1) 42 [(0, .ref (A.1 0 0)), (1, .int (1 : Int32))] (va_rf (xrq Γ.d A 0 28 1 ((s1 0).2.1 28 1)) :: [])
  rw [hval]
  refine go_astore_n (pc := 42) C hN dX0_image_42 rfl (by decide) rfl ?_
  refine go_aload_n (pc := 43) C dX0_image_43 rfl 0 rfl ?_
  refine go_aload_n (pc := 44) C dX0_image_44 rfl 1 rfl ?_
  have hput : ∀ (x : Nat → Bl) (b : Int32) (f : Nat) (hf : FK15[f]? = some (0, 0)), putO (XW Γ.d A L E x) (A.1 10 0) 13 [.ref (A.1 6 0), .int ((x 10).1 1), .int ((x 10).1 2)] ([Value.ref (A.1 6 0), .int ((x 10).1 1), .int ((x 10).1 2)].set f (.int b)) (XW Γ.d A L E (upX x 10 (bI (x 10) f b))) := fun x b f hf => xpO hI hL.1 (bW_putI (FK := FK15) hf)
  have hrest : ∀ b : Int32, (if (s1 0).1 0 = 0 then 0 else 1) = b → narrow .boolean (.int b) = .int b → fits .boolean (.int b) = true → Go Γ kc nc (XW Γ.d A L E s1) 56 [(2, .ref (A.1 10 0)), (0, .ref (A.1 0 0)), (1, .int (1 : Int32))] [.int b, .ref (A.1 10 0)] := by
    intro b hb hnb hfb
    refine go_putfieldN (pc := 56) (v := .int b) (ty := .boolean) C 1 (hput s1 b 1 rfl) xc13i in_X15 tyX15 tyX15_ok nmX15 (by decide) X0fl_X15_1 rfl rfl hnb hfb (Nat.le_of_ble_eq_true rfl) dX0_image_56 ?_
    have e2 : upX s1 10 (bI (s1 10) 1 b) = imSt 1 s1 := by unfold imSt; rw [hb]
    rw [e2]
    have h := h
    generalize imSt 1 s1 = s2 at h
    refine go_aload_n (pc := 59) C dX0_image_59 rfl 0 rfl ?_
    refine go_aload_n (pc := 60) C dX0_image_60 rfl 1 rfl ?_
    refine X0g_0_5 (pc := 61) C hL dX0_image_61 ?_
    refine go_putfieldN (pc := 64) (v := .int ((s2 0).1 5)) (ty := .int) C 2 (hput s2 _ 2 rfl) xc13i in_X15 tyX15 tyX15_ok nmX15 (by decide) X0fl_X15_2 rfl rfl rfl rfl (Nat.le_of_ble_eq_true rfl) dX0_image_64 ?_
    have e3 : upX s2 10 (bI (s2 10) 2 ((s2 0).1 5)) = imX 1 s2 := rfl
    rw [e3]
    generalize imX 1 s2 = s3 at h
    have h : (if (s3 0).1 0 = 0 then some ((0 : Int32), s3) else bnd (f1_copies (s3 (6)) (s3 1)) (fun σ => some ((upX s3 (6) σ 1).1 6, upX s3 (6) σ))) = some (r9, s9) := h
    refine go_aload_n (pc := 67) C dX0_image_67 rfl 1 rfl ?_
    by_cases c : (s3 0).1 0 = 0
    · rw [if_pos c] at h
      have h := Option.some.inj h
      simp only [Prod.mk.injEq] at h
      obtain ⟨rfl, rfl⟩ := h
      refine X0g_0_0N (pc := 68) C hL c dX0_image_68 ?_
      refine go_ifnonnullN (pc := 71) C dX0_image_71 ?_
      refine go_iconst (pc := 74) (v := (0 : Int32)) C dX0_image_74 (by decide) ?_
      exact hE 75 _ dX0_image_75
    · rw [if_neg c] at h
      obtain ⟨σ, e4, h⟩ := bnd_some h
      have h := Option.some.inj h
      simp only [Prod.mk.injEq] at h
      obtain ⟨rfl, rfl⟩ := h
      refine X0g_0_0 (pc := 68) C hL c dX0_image_68 ?_
      refine go_ifnonnull (pc := 71) (tgt := 76) C dX0_image_71 (by decide) ?_
      refine go_aload_n (pc := 76) C dX0_image_76 rfl 0 rfl ?_
      refine go_getfieldN (pc := 77) C (ci := 13) (fs := [.ref (A.1 6 0), .int ((s3 10).1 1), .int ((s3 10).1 2)]) (xO hI hL.1) xc13i in_X15 0 (by decide) X0fl_X15_0 rfl dX0_image_77 ?_
      refine go_aload_n (pc := 80) C dX0_image_80 rfl 1 rfl ?_
      refine X0g_0_0 (pc := 81) C hL c dX0_image_81 ?_
      refine go_callVa (pc := 84) C [.ref (A.1 1 0)] (Mt.x2 (j := 6) (i := 1) hF (hL.2 1 (by decide)) (by decide) hL.1 (m1_copies e4)) q691 q552 q553 q139 q554 x1pd_copies (by show 2 + 1 ≤ fr.1; exact hf) (by decide) (xO hF hL.1) xc1 rfl (Nat.le_of_ble_eq_true rfl) hk dX0_image_84 rfl ?_
      refine go_pop (pc := 87) C dX0_image_87 rfl ?_
      refine go_aload_n (pc := 88) C dX0_image_88 rfl 1 rfl ?_
      refine X0g_0_0 (pc := 89) C hL (by rw [upX_ne (by decide)]; exact c) dX0_image_89 ?_
      refine X0g_1_6 (pc := 92) C hL dX0_image_92 ?_
      exact hE 95 _ dX0_image_95
  by_cases c : (s1 0).1 0 = 0
  · refine X0g_0_0N (pc := 45) C hL c dX0_image_45 ?_
    refine go_ifnullN (pc := 48) (tgt := 55) C dX0_image_48 (by decide) ?_
    refine go_iconst (pc := 55) (v := (0 : Int32)) C dX0_image_55 (by decide) ?_
    exact hrest 0 (if_pos c) rfl rfl
  · refine X0g_0_0 (pc := 45) C hL c dX0_image_45 ?_
    refine go_ifnull (pc := 48) C dX0_image_48 ?_
    refine go_iconst (pc := 51) (v := (1 : Int32)) C dX0_image_51 (by decide) ?_
    refine go_goto (pc := 52) (tgt := 56) C dX0_image_52 (by decide) ?_
    exact hrest 1 (if_neg c) rfl rfl
theorem im_fr1 {s1 : Nat → Bl} {r9 : Int32} {s9 : Nat → Bl} (h : ltv (imX 1 (imSt 1 s1)) (fun s3 => if (s3 0).1 0 = 0 then some ((0 : Int32), s3) else bnd (f1_copies (s3 (6)) (s3 1)) (fun σ => some ((upX s3 (6) σ 1).1 6, upX s3 (6) σ))) = some (r9, s9)) : s9 0 = s1 0 := by
  have e0 : imX 1 (imSt 1 s1) 0 = s1 0 := by unfold imX imSt; rw [upX_ne (by omega), upX_ne (by omega)]
  generalize imX 1 (imSt 1 s1) = s3 at h e0
  have h : (if (s3 0).1 0 = 0 then some ((0 : Int32), s3) else bnd (f1_copies (s3 (6)) (s3 1)) (fun σ => some ((upX s3 (6) σ 1).1 6, upX s3 (6) σ))) = some (r9, s9) := h
  split at h
  · have h := Option.some.inj h; simp only [Prod.mk.injEq] at h; rw [← h.2, e0]
  · obtain ⟨σ, e4, h⟩ := bnd_some h
    have h := Option.some.inj h; simp only [Prod.mk.injEq] at h; rw [← h.2, upX_ne (by decide), e0]
theorem im_go1 {Γ : Gam} {A : XA} {L : List Nat} {E : va_W} {s0 : Nat → Bl} {r9 : Int32} {s9 : Nat → Bl} (hL : xOK L) (h14 : 14 ∉ L) (hIM : xIM L s0) (hN : Γ.nL = 3) (C : Cx Γ cX0_image RX0 (3, 19, 1712) 130) (hE : Rets Γ cX0_image (some .int) 19 1712 (fun v w => v = some (.int r9) ∧ ∃ (A' : XA) (L' : List Nat), w = XW Γ.d A' L' E s9 ∧ xOK L' ∧ xIM L' s9 ∧ 14 ∉ L' ∧ A'.2.2 = A.2.2 ∧ A'.1 0 = A.1 0)) (h : f0_im 1 s0 = some (r9, s9)) : Go Γ 0 0 (XW Γ.d A L E s0) 14 [(0, .ref (A.1 0 0)), (1, .int (1 : Int32))] [] := by
  have hin : chk (inB (1 : Int32) 4) (some ()) = some () := rfl
  unfold f0_im at h
  refine go_aload_n (pc := 14) C dX0_image_14 rfl 0 rfl ?_
  refine X0g_0_28 (pc := 15) C hL dX0_image_15 ?_
  refine go_iload_n (pc := 18) C dX0_image_18 rfl 1 rfl ?_
  refine go_aald (pc := 19) (t := 7) C (xa_0_28 hL) rfl hin dX0_image_19 (fun _ => ?_)
  show Go Γ 0 0 (XW Γ.d A L E s0) 20 [(0, .ref (A.1 0 0)), (1, .int (1 : Int32))] (va_rf (xrq Γ.d A 0 28 1 ((s0 0).2.1 28 1)) :: [])
  by_cases hz : (s0 0).2.1 28 1 = 0
  · have hval : va_rf (xrq Γ.d A 0 28 1 ((s0 0).2.1 28 1)) = .null := by show va_rf (if (s0 0).2.1 28 1 = 0 then none else _) = _; rw [if_pos hz]; rfl
    rw [hval]
    obtain ⟨n9, n5⟩ := (hIM 1 (by decide)).1 hz
    have n9 : 10 ∉ L := n9
    have n5 : 6 ∉ L := n5
    have eM : imMk 1 s0 = upX (imN 1 s0) 0 (bA (imN 1 s0 0) 28 1 1) := if_pos hz
    rw [eM] at h
    refine go_ifnonnullN (pc := 20) C dX0_image_20 ?_
    refine go_aload_n (pc := 23) C dX0_image_23 rfl 0 rfl ?_
    refine X0g_0_28 (pc := 24) C hL dX0_image_24 ?_
    refine go_iload_n (pc := 27) C dX0_image_27 rfl 1 rfl ?_
    refine go_new (pc := 28) (ci := 13) (T := TX15) (N := 3) (fs := [.null, .int 0, .int 0]) C in_X15 tyX15 tyX15_ok q403 q1240 q163 rfl (dflt_all (by decide +kernel)) ⟨by decide, by decide⟩ dX0_image_28 (fun b => ?_)
    refine go_dup (pc := 31) C dX0_image_31 rfl ?_
    refine go_callIN (pc := 32) (nA := 0) (st := [.ref b, .int (1 : Int32), .ref (A.1 0 (28 + 1))]) C [] (Mt.frame (XW Γ.d A L E s0) [] (m15_init (b := b))) q1241 q1242 q163 q1243 rfl (by decide +kernel) ⟨by decide, by decide⟩ rfl (Nat.le_of_ble_eq_true rfl) ⟨by decide, by decide⟩ dX0_image_32 rfl (fun v9 w9 h9 => ?_)
    obtain ⟨w0, ⟨rfl, a, rfl⟩, rfl⟩ := h9
    rw [List.append_nil]
    refine go_perm (XW_I1 n9 n5 hz) ?_
    have hL' : xOK (10 :: 6 :: L) := ⟨List.nodup_cons.mpr ⟨fun z => by rcases List.mem_cons.mp z with e | e; exact absurd e (by decide); exact n9 e, List.nodup_cons.mpr ⟨n5, hL.1⟩⟩, fun j hj => List.mem_cons_of_mem _ (List.mem_cons_of_mem _ (hL.2 j hj))⟩
    have hI : 10 ∈ 10 :: 6 :: L := List.mem_cons_self
    have hF : 6 ∈ 10 :: 6 :: L := List.mem_cons_of_mem _ List.mem_cons_self
    have hput : putA (XW Γ.d (upI A 1 b a) (10 :: 6 :: L) E (imN 1 s0)) (A.1 0 (28 + 1)) (Γ.d.2.1 7, 4, .inr (.inr (.inr (.inr (fun i => xrq Γ.d (upI A 1 b a) 0 28 i ((imN 1 s0 0).2.1 28 i)))))) (Γ.d.2.1 7, 4, .inr (.inr (.inr (.inr (va_up (fun i => xrq Γ.d (upI A 1 b a) 0 28 i ((imN 1 s0 0).2.1 28 i)) (1 : Int32).toNatClampNeg (some b)))))) (XW Γ.d (upI A 1 b a) (10 :: 6 :: L) E (upX (imN 1 s0) 0 (bA (imN 1 s0 0) 28 1 1))) := by
      have g := bW_putQ (d := Γ.d) (ci := 0) (FK := FK0) (a := A.1 0) (rf := xrf (upI A 1 b a) 0) (rq := xrq Γ.d (upI A 1 b a) 0) (σ := imN 1 s0 0) (f := 28) (k := 3) (z := 4) (i := 1) (v := 1) rfl
      have e : (fun j => xrq Γ.d (upI A 1 b a) 0 28 j (upd ((imN 1 s0 0).2.1 28) 1 1 j)) = va_up (fun i => xrq Γ.d (upI A 1 b a) 0 28 i ((imN 1 s0 0).2.1 28 i)) 1 (some b) := by
        funext j
        by_cases hj : j = 1
        · rw [hj, va_up_self]; rfl
        · rw [va_up_ne _ _ hj]
          have e1 : upd ((imN 1 s0 0).2.1 28) 1 1 j = (imN 1 s0 0).2.1 28 j := by simp [upd, hj]
          rw [e1]
      rw [e] at g
      exact xpA (A := upI A 1 b a) (hL'.2 0 (by decide)) hL'.1 g
    refine go_aastO (pc := 35) (t := 7) (ci := 13) (fs := [.ref ((upI A 1 b a).1 6 0), .int ((imN 1 s0 10).1 1), .int ((imN 1 s0 10).1 2)]) C hput (xO (A := upI A 1 b a) hI hL'.1) xc13i rfl rfl dX0_image_35 ?_
    refine im_tail1 (A := upI A 1 b a) hL' hI hF (by rw [upX_self]; simp [bA, bS, upd]) hN (by decide) C h ⟨by decide, by decide⟩ (fun pc lv hd => (hE _ _ _ pc lv (by decide) (by decide)).1 _ rfl hd ⟨rfl, upI A 1 b a, 10 :: 6 :: L, rfl, hL', ?_, ?_, rfl, rfl⟩)
    · have e0 : s9 0 = bA (imN 1 s0 0) 28 1 1 := by rw [im_fr1 h, upX_self]
      intro j hj
      rw [e0, imN0]
      by_cases e : j = 1
      · subst e; exact ⟨fun z => by simp [bA, bS, upd] at z, fun _ => ⟨hI, hF⟩⟩
      · have e1 : (bA (s0 0) 28 1 1).2.1 28 j = (s0 0).2.1 28 j := by simp [bA, bS, upd, e]
        rw [e1]
        have hh := hIM j hj
        refine ⟨fun z => ⟨fun y => ?_, fun y => ?_⟩, fun z => ⟨List.mem_cons_of_mem _ (List.mem_cons_of_mem _ (hh.2 z).1), List.mem_cons_of_mem _ (List.mem_cons_of_mem _ (hh.2 z).2)⟩⟩
        · simp only [List.mem_cons] at y; rcases y with y | y | y; omega; omega; exact (hh.1 z).1 y
        · simp only [List.mem_cons] at y; rcases y with y | y | y; omega; omega; exact (hh.1 z).2 y
    · intro y; simp only [List.mem_cons] at y; rcases y with y | y | y; exact absurd y (by decide); exact absurd y (by decide); exact h14 y
  · have hval : va_rf (xrq Γ.d A 0 28 1 ((s0 0).2.1 28 1)) = .ref (A.1 10 0) := by show va_rf (if (s0 0).2.1 28 1 = 0 then none else if 1 < 4 then some (A.1 (9 + 1) 0) else none) = _; rw [if_neg hz, if_pos (by decide)]; rfl
    rw [hval]
    obtain ⟨n9, n5⟩ := (hIM 1 (by decide)).2 hz
    have eM : imMk 1 s0 = s0 := if_neg hz
    rw [eM] at h
    refine go_ifnonnull (pc := 20) (tgt := 36) C dX0_image_20 (by decide) ?_
    refine im_tail1 hL n9 n5 hz hN (by decide) C h ⟨by decide, by decide⟩ (fun pc lv hd => (hE _ _ _ pc lv (by decide) (by decide)).1 _ rfl hd ⟨rfl, A, L, rfl, hL, ?_, h14, rfl, rfl⟩)
    intro j hj; rw [im_fr1 h]; exact hIM j hj
theorem bk_go1 {Γ : Gam} {A : XA} {L : List Nat} {E : va_W} {s0 : Nat → Bl} {r9 : Int32} {s9 : Nat → Bl} (hL : xOK L) (hIM : xIM L s0) (hN : Γ.nL = 2) (C : Cx Γ cX0_back RX0 (3, 0, 0) 100) (hE : Rets Γ cX0_back (some .int) 0 0 (fun v w => v = some (.int r9) ∧ w = XW Γ.d A L E s9)) (h : (if (s0 0).2.1 28 1 = 0 then some ((-1 : Int32), s0) else f0_bk 1 s0) = some (r9, s9)) : Go Γ 0 0 (XW Γ.d A L E s0) 12 [(0, .ref (A.1 0 0)), (1, .int (1 : Int32))] [] := by
  have hin : chk (inB (1 : Int32) 4) (some ()) = some () := rfl
  refine go_aload_n (pc := 12) C dX0_back_12 rfl 0 rfl ?_
  refine X0g_0_28 (pc := 13) C hL dX0_back_13 ?_
  refine go_iload_n (pc := 16) C dX0_back_16 rfl 1 rfl ?_
  refine go_aald (pc := 17) (t := 7) C (xa_0_28 hL) rfl hin dX0_back_17 (fun _ => ?_)
  show Go Γ 0 0 (XW Γ.d A L E s0) 18 [(0, .ref (A.1 0 0)), (1, .int (1 : Int32))] (va_rf (xrq Γ.d A 0 28 1 ((s0 0).2.1 28 1)) :: [])
  by_cases hz : (s0 0).2.1 28 1 = 0
  · have hval : va_rf (xrq Γ.d A 0 28 1 ((s0 0).2.1 28 1)) = .null := by show va_rf (if (s0 0).2.1 28 1 = 0 then none else _) = _; rw [if_pos hz]; rfl
    rw [hval]
    rw [if_pos hz] at h
    have h := Option.some.inj h
    simp only [Prod.mk.injEq] at h
    obtain ⟨rfl, rfl⟩ := h
    refine go_ifnonnullN (pc := 18) C dX0_back_18 ?_
    refine go_iconst (pc := 21) (v := (-1 : Int32)) C dX0_back_21 (by decide) ?_
    exact (hE _ _ _ 22 _ (Nat.zero_le _) (Nat.zero_le _)).1 _ rfl dX0_back_22 ⟨rfl, rfl⟩
  have hval : ∀ x : Nat → Bl, x 0 = s0 0 ∨ (x 0).2.1 = (s0 0).2.1 → va_rf (xrq Γ.d A 0 28 1 ((x 0).2.1 28 1)) = .ref (A.1 10 0) := by
    intro x hx
    have e : (x 0).2.1 28 1 = (s0 0).2.1 28 1 := by rcases hx with e | e <;> rw [e]
    show va_rf (if (x 0).2.1 28 1 = 0 then none else if 1 < 4 then some (A.1 (9 + 1) 0) else none) = _
    rw [if_neg (by rw [e]; exact hz), if_pos (by decide)]; rfl
  rw [hval s0 (Or.inl rfl)]
  rw [if_neg hz] at h
  obtain ⟨hI, hF⟩ := (hIM 1 (by decide)).2 hz
  have hI : 10 ∈ L := hI
  have hF : 6 ∈ L := hF
  unfold f0_bk at h
  refine go_ifnonnull (pc := 18) (tgt := 23) C dX0_back_18 (by decide) ?_
  refine go_aload_n (pc := 23) C dX0_back_23 rfl 0 rfl ?_
  refine go_aload_n (pc := 24) C dX0_back_24 rfl 0 rfl ?_
  refine X0g_0_28 (pc := 25) C hL dX0_back_25 ?_
  refine go_iload_n (pc := 28) C dX0_back_28 rfl 1 rfl ?_
  refine go_aald (pc := 29) (t := 7) C (xa_0_28 hL) rfl hin dX0_back_29 (fun _ => ?_)
  show Go Γ 0 0 (XW Γ.d A L E s0) 30 [(0, .ref (A.1 0 0)), (1, .int (1 : Int32))] (va_rf (xrq Γ.d A 0 28 1 ((s0 0).2.1 28 1)) :: [.ref (A.1 0 0)])
  rw [hval s0 (Or.inl rfl)]
  refine go_getfieldN (pc := 30) C (ci := 13) (fs := [.ref (A.1 6 0), .int ((s0 10).1 1), .int ((s0 10).1 2)]) (xO hI hL.1) xc13i in_X15 1 (by decide) X0fl_X15_1 rfl dX0_back_30 ?_
  have htail : ∀ (s1 : Nat → Bl), (s1 0).2.1 = (s0 0).2.1 → ∀ {r : Int32}, r = (if (s1 0).1 0 = 0 then (0 : Int32) else ((upX s1 0 (bI (s1 0) 5 ((s1 10).1 2))) 1).1 6) → r = r9 → upX s1 0 (bI (s1 0) 5 ((s1 10).1 2)) = s9 → Go Γ 0 0 (XW Γ.d A L E s1) 59 [(0, .ref (A.1 0 0)), (1, .int (1 : Int32))] [] := by
    intro s1 e1 r hr h1 h2
    subst h1; subst h2
    refine go_aload_n (pc := 59) C dX0_back_59 rfl 0 rfl ?_
    refine go_aload_n (pc := 60) C dX0_back_60 rfl 0 rfl ?_
    refine X0g_0_28 (pc := 61) C hL dX0_back_61 ?_
    refine go_iload_n (pc := 64) C dX0_back_64 rfl 1 rfl ?_
    refine go_aald (pc := 65) (t := 7) C (xa_0_28 hL) rfl hin dX0_back_65 (fun _ => ?_)
    show Go Γ 0 0 (XW Γ.d A L E s1) 66 [(0, .ref (A.1 0 0)), (1, .int (1 : Int32))] (va_rf (xrq Γ.d A 0 28 1 ((s1 0).2.1 28 1)) :: [.ref (A.1 0 0)])
    rw [hval s1 (Or.inr e1)]
    refine go_getfieldN (pc := 66) C (ci := 13) (fs := [.ref (A.1 6 0), .int ((s1 10).1 1), .int ((s1 10).1 2)]) (xO hI hL.1) xc13i in_X15 2 (by decide) X0fl_X15_2 rfl dX0_back_66 ?_
    refine X0p_0_5 (pc := 69) C hL dX0_back_69 ?_
    refine go_aload_n (pc := 72) C dX0_back_72 rfl 0 rfl ?_
    have e5 : ((upX s1 0 (bI (s1 0) 5 ((s1 10).1 2))) 0).1 0 = (s1 0).1 0 := by rw [upX_self]; rfl
    by_cases c : (s1 0).1 0 = 0
    · rw [if_pos c] at hr
      subst hr
      refine X0g_0_0N (pc := 73) C hL (by rw [e5]; exact c) dX0_back_73 ?_
      refine go_ifnonnullN (pc := 76) C dX0_back_76 ?_
      refine go_iconst (pc := 79) (v := (0 : Int32)) C dX0_back_79 (by decide) ?_
      refine go_goto (pc := 80) (tgt := 90) C dX0_back_80 (by decide) ?_
      exact (hE _ _ _ 90 _ (Nat.zero_le _) (Nat.zero_le _)).1 _ rfl dX0_back_90 ⟨rfl, rfl⟩
    · rw [if_neg c] at hr
      subst hr
      refine X0g_0_0 (pc := 73) C hL (by rw [e5]; exact c) dX0_back_73 ?_
      refine go_ifnonnull (pc := 76) (tgt := 83) C dX0_back_76 (by decide) ?_
      refine go_aload_n (pc := 83) C dX0_back_83 rfl 0 rfl ?_
      refine X0g_0_0 (pc := 84) C hL (by rw [e5]; exact c) dX0_back_84 ?_
      refine X0g_1_6 (pc := 87) C hL dX0_back_87 ?_
      exact (hE _ _ _ 90 _ (Nat.zero_le _) (Nat.zero_le _)).1 _ rfl dX0_back_90 ⟨rfl, rfl⟩
  refine go_if_eq (pc := 33) (tgt := 55) C dX0_back_33 (by decide) h (fun h => ?_) (fun h => ?_)
  · have h := Option.some.inj h
    simp only [Prod.mk.injEq] at h
    refine go_aconst_null (pc := 55) C dX0_back_55 ?_
    refine X0p_0_0N (pc := 56) C hL dX0_back_56 ?_
    exact htail _ (by rw [upX_self]; rfl) (r := 0) (by rw [upX_self, if_pos]; rfl) h.1 h.2
  · obtain ⟨σ, e4, h⟩ := bnd_some h
    have h := Option.some.inj h
    simp only [Prod.mk.injEq] at h
    refine go_aload_n (pc := 36) C dX0_back_36 rfl 0 rfl ?_
    refine X0g_0_1 (pc := 37) C hL dX0_back_37 ?_
    refine go_aload_n (pc := 40) C dX0_back_40 rfl 0 rfl ?_
    refine X0g_0_28 (pc := 41) C hL dX0_back_41 ?_
    refine go_iload_n (pc := 44) C dX0_back_44 rfl 1 rfl ?_
    refine go_aald (pc := 45) (t := 7) C (xa_0_28 hL) rfl hin dX0_back_45 (fun _ => ?_)
    show Go Γ 0 0 (XW Γ.d A L E s0) 46 [(0, .ref (A.1 0 0)), (1, .int (1 : Int32))] (va_rf (xrq Γ.d A 0 28 1 ((s0 0).2.1 28 1)) :: [.ref (A.1 1 0), .ref (A.1 0 0)])
    rw [hval s0 (Or.inl rfl)]
    refine go_getfieldN (pc := 46) C (ci := 13) (fs := [.ref (A.1 6 0), .int ((s0 10).1 1), .int ((s0 10).1 2)]) (xO hI hL.1) xc13i in_X15 0 (by decide) X0fl_X15_0 rfl dX0_back_46 ?_
    refine go_callVa (pc := 49) C [.ref (A.1 6 0)] (Mt.x2 (j := 1) (i := 6) (hL.2 1 (by decide)) hF (by decide) hL.1 (m1_copies e4)) q691 q552 q553 q139 q554 x1pd_copies (by decide) (by decide) (xO (hL.2 1 (by decide)) hL.1) xc1 rfl (Nat.le_of_ble_eq_true rfl) ⟨Nat.zero_le _, Nat.zero_le _⟩ dX0_back_49 rfl ?_
    refine go_goto (pc := 52) (tgt := 56) C dX0_back_52 (by decide) ?_
    refine X0p_0_0 (pc := 56) C hL dX0_back_56 ?_
    exact htail _ (by rw [upX_self, upX_ne (by decide)]; rfl) (r := r9) (by rw [← h.1, upX_self, if_neg]; exact fun z => by simp [bI] at z) rfl h.2
theorem XB_I2 {d : gD} {A : XA} {b : Nat} {a : Nat → Nat} {σ : Bl} : ∀ (j : Nat), j ≠ 11 → j ≠ 7 → (j = 0 → σ.2.1 28 2 = 0) → XB d A j σ = XB d (upI A 2 b a) j σ
  | 0, _, _, h => XB0_cg rfl (fun f => rfl) (fun f hf i => by
    rcases hf with rfl | rfl | rfl | rfl | rfl
    · rfl
    · rfl
    · rfl
    · rfl
    · show (if σ.2.1 28 i = 0 then none else if i < 4 then some (A.1 (9 + i) 0) else none) = (if σ.2.1 28 i = 0 then none else if i < 4 then some ((if 9 + i = 9 + 2 then (fun _ => b) else if 9 + i = 5 + 2 then a else A.1 (9 + i)) 0) else none)
      by_cases hi : i = 2
      · subst hi; rw [if_pos (h rfl), if_pos (h rfl)]
      · by_cases h4 : i < 4
        · rw [if_neg (show ¬ 9 + i = 9 + 2 by omega), if_neg (show ¬ 9 + i = 5 + 2 by omega)]
        · rw [if_neg h4, if_neg h4])
  | 1, _, _, _ => rfl
  | 2, _, _, _ => rfl
  | 3, _, _, _ => rfl
  | 4, _, _, _ => rfl
  | 5, _, _, _ => rfl
  | 6, _, _, _ => rfl
  | 7, h1, h2, _ => absurd rfl h2
  | 8, _, _, _ => rfl
  | 9, _, _, _ => rfl
  | 10, _, _, _ => rfl
  | 11, h1, h2, _ => absurd rfl h1
  | 12, _, _, _ => rfl
  | 13, _, _, _ => rfl
  | 14, _, _, _ => rfl
  | j + 15, h1, h2, _ => by
    have e : (upI A 2 b a).1 (j + 15) = A.1 (j + 15) := by
      show (if j + 15 = 9 + 2 then (fun _ => b) else if j + 15 = 5 + 2 then a else A.1 (j + 15)) = _
      rw [if_neg (by omega), if_neg (by omega)]
    show bWr d 1 FK1 (A.1 (j + 15)) (fun _ _ => .null) (fun _ _ _ => none) σ = bWr d 1 FK1 ((upI A 2 b a).1 (j + 15)) (fun _ _ => .null) (fun _ _ _ => none) σ
    rw [e]
theorem XW_I2 {d : gD} {A : XA} {L : List Nat} {E : va_W} {x : Nat → Bl} {b : Nat} {a : Nat → Nat} (h9 : 11 ∉ L) (h5 : 7 ∉ L) (hz : (x 0).2.1 28 2 = 0) : (XW d A L E x ++ ((b, .inr (13, [.ref (a 0), .int 0, .int 0])) :: bW d 1 FK1 a s1i)).Perm (XW d (upI A 2 b a) (11 :: 7 :: L) E (imN 2 x)) := by
  have e1 : XB d (upI A 2 b a) 11 s1i = [(b, .inr (13, [.ref (a 0), .int 0, .int 0]))] := rfl
  have e2 : XB d (upI A 2 b a) 7 s1i = bW d 1 FK1 a s1i := rfl
  have e3 : XW d (upI A 2 b a) (11 :: 7 :: L) E (imN 2 x) = ((b, .inr (13, [.ref (a 0), .int 0, .int 0])) :: bW d 1 FK1 a s1i) ++ XW d A L E x := by
    have g1 : imN 2 x 11 = s1i := by unfold imN; rw [upX_self]
    have g2 : imN 2 x 7 = s1i := by unfold imN; rw [upX_ne (by decide), upX_self]
    have g3 : L.flatMap (fun j => XB d (upI A 2 b a) j (imN 2 x j)) = L.flatMap (fun j => XB d A j (x j)) := by
      rw [flat_cg (A := A) (A' := upI A 2 b a) L (fun j hj => XB_I2 j (fun e => h9 (e ▸ hj)) (fun e => h5 (e ▸ hj)) (fun e => by subst e; exact hz))]
      exact flat_xg L (fun j hj => by unfold imN; rw [upX_ne (show j ≠ 9 + 2 from fun e => h9 (by rw [e] at hj; exact hj)), upX_ne (show j ≠ 5 + 2 from fun e => h5 (by rw [e] at hj; exact hj))])
    unfold XW
    rw [List.flatMap_cons, List.flatMap_cons, g1, g2, g3, e1, e2, List.append_assoc, List.append_assoc]; rfl
  rw [e3]
  exact List.perm_append_comm
theorem im_tail2 {Γ : Gam} {A : XA} {L : List Nat} {E : va_W} {s1 : Nat → Bl} {r9 : Int32} {s9 : Nat → Bl} {kc nc : Nat} {fr : Nat × Nat × Nat} (hL : xOK L) (hI : 11 ∈ L) (hF : 7 ∈ L) (hz : ¬ (s1 0).2.1 28 2 = 0) (hN : Γ.nL = 3) (hf : 3 ≤ fr.1) (C : Cx Γ cX0_image RX0 fr 130) (h : ltv (imX 2 (imSt 2 s1)) (fun s3 => if (s3 0).1 0 = 0 then some ((0 : Int32), s3) else bnd (f1_copies (s3 (7)) (s3 1)) (fun σ => some ((upX s3 (7) σ 1).1 6, upX s3 (7) σ))) = some (r9, s9)) (hk : kc ≤ fr.2.1 ∧ nc ≤ fr.2.2)
    (hE : ∀ (pc : Nat) (lv : List (Nat × Value)), decode cX0_image pc = .ok (.ireturn, 1) → Go Γ kc nc (XW Γ.d A L E s9) pc lv [.int r9]) : Go Γ kc nc (XW Γ.d A L E s1) 36 [(0, .ref (A.1 0 0)), (1, .int (2 : Int32))] [] := by
  have hin : chk (inB (2 : Int32) 4) (some ()) = some () := rfl
  have hval : va_rf (xrq Γ.d A 0 28 2 ((s1 0).2.1 28 2)) = .ref (A.1 11 0) := by show va_rf (if (s1 0).2.1 28 2 = 0 then none else if 2 < 4 then some (A.1 (9 + 2) 0) else none) = _; rw [if_neg hz, if_pos (by decide)]; rfl
  refine go_aload_n (pc := 36) C dX0_image_36 rfl 0 rfl ?_
  refine X0g_0_28 (pc := 37) C hL dX0_image_37 ?_
  refine go_iload_n (pc := 40) C dX0_image_40 rfl 1 rfl ?_
  refine go_aald (pc := 41) (t := 7) C (xa_0_28 hL) rfl hin dX0_image_41 (fun _ => ?_)
  show Go Γ kc nc (XW Γ.d A L E s1) 42 [(0, .ref (A.1 0 0)), (1, .int (2 : Int32))] (va_rf (xrq Γ.d A 0 28 2 ((s1 0).2.1 28 2)) :: [])
  rw [hval]
  refine go_astore_n (pc := 42) C hN dX0_image_42 rfl (by decide) rfl ?_
  refine go_aload_n (pc := 43) C dX0_image_43 rfl 0 rfl ?_
  refine go_aload_n (pc := 44) C dX0_image_44 rfl 1 rfl ?_
  have hput : ∀ (x : Nat → Bl) (b : Int32) (f : Nat) (hf : FK15[f]? = some (0, 0)), putO (XW Γ.d A L E x) (A.1 11 0) 13 [.ref (A.1 7 0), .int ((x 11).1 1), .int ((x 11).1 2)] ([Value.ref (A.1 7 0), .int ((x 11).1 1), .int ((x 11).1 2)].set f (.int b)) (XW Γ.d A L E (upX x 11 (bI (x 11) f b))) := fun x b f hf => xpO hI hL.1 (bW_putI (FK := FK15) hf)
  have hrest : ∀ b : Int32, (if (s1 0).1 0 = 0 then 0 else 1) = b → narrow .boolean (.int b) = .int b → fits .boolean (.int b) = true → Go Γ kc nc (XW Γ.d A L E s1) 56 [(2, .ref (A.1 11 0)), (0, .ref (A.1 0 0)), (1, .int (2 : Int32))] [.int b, .ref (A.1 11 0)] := by
    intro b hb hnb hfb
    refine go_putfieldN (pc := 56) (v := .int b) (ty := .boolean) C 1 (hput s1 b 1 rfl) xc13i in_X15 tyX15 tyX15_ok nmX15 (by decide) X0fl_X15_1 rfl rfl hnb hfb (Nat.le_of_ble_eq_true rfl) dX0_image_56 ?_
    have e2 : upX s1 11 (bI (s1 11) 1 b) = imSt 2 s1 := by unfold imSt; rw [hb]
    rw [e2]
    have h := h
    generalize imSt 2 s1 = s2 at h
    refine go_aload_n (pc := 59) C dX0_image_59 rfl 0 rfl ?_
    refine go_aload_n (pc := 60) C dX0_image_60 rfl 1 rfl ?_
    refine X0g_0_5 (pc := 61) C hL dX0_image_61 ?_
    refine go_putfieldN (pc := 64) (v := .int ((s2 0).1 5)) (ty := .int) C 2 (hput s2 _ 2 rfl) xc13i in_X15 tyX15 tyX15_ok nmX15 (by decide) X0fl_X15_2 rfl rfl rfl rfl (Nat.le_of_ble_eq_true rfl) dX0_image_64 ?_
    have e3 : upX s2 11 (bI (s2 11) 2 ((s2 0).1 5)) = imX 2 s2 := rfl
    rw [e3]
    generalize imX 2 s2 = s3 at h
    have h : (if (s3 0).1 0 = 0 then some ((0 : Int32), s3) else bnd (f1_copies (s3 (7)) (s3 1)) (fun σ => some ((upX s3 (7) σ 1).1 6, upX s3 (7) σ))) = some (r9, s9) := h
    refine go_aload_n (pc := 67) C dX0_image_67 rfl 1 rfl ?_
    by_cases c : (s3 0).1 0 = 0
    · rw [if_pos c] at h
      have h := Option.some.inj h
      simp only [Prod.mk.injEq] at h
      obtain ⟨rfl, rfl⟩ := h
      refine X0g_0_0N (pc := 68) C hL c dX0_image_68 ?_
      refine go_ifnonnullN (pc := 71) C dX0_image_71 ?_
      refine go_iconst (pc := 74) (v := (0 : Int32)) C dX0_image_74 (by decide) ?_
      exact hE 75 _ dX0_image_75
    · rw [if_neg c] at h
      obtain ⟨σ, e4, h⟩ := bnd_some h
      have h := Option.some.inj h
      simp only [Prod.mk.injEq] at h
      obtain ⟨rfl, rfl⟩ := h
      refine X0g_0_0 (pc := 68) C hL c dX0_image_68 ?_
      refine go_ifnonnull (pc := 71) (tgt := 76) C dX0_image_71 (by decide) ?_
      refine go_aload_n (pc := 76) C dX0_image_76 rfl 0 rfl ?_
      refine go_getfieldN (pc := 77) C (ci := 13) (fs := [.ref (A.1 7 0), .int ((s3 11).1 1), .int ((s3 11).1 2)]) (xO hI hL.1) xc13i in_X15 0 (by decide) X0fl_X15_0 rfl dX0_image_77 ?_
      refine go_aload_n (pc := 80) C dX0_image_80 rfl 1 rfl ?_
      refine X0g_0_0 (pc := 81) C hL c dX0_image_81 ?_
      refine go_callVa (pc := 84) C [.ref (A.1 1 0)] (Mt.x2 (j := 7) (i := 1) hF (hL.2 1 (by decide)) (by decide) hL.1 (m1_copies e4)) q691 q552 q553 q139 q554 x1pd_copies (by show 2 + 1 ≤ fr.1; exact hf) (by decide) (xO hF hL.1) xc1 rfl (Nat.le_of_ble_eq_true rfl) hk dX0_image_84 rfl ?_
      refine go_pop (pc := 87) C dX0_image_87 rfl ?_
      refine go_aload_n (pc := 88) C dX0_image_88 rfl 1 rfl ?_
      refine X0g_0_0 (pc := 89) C hL (by rw [upX_ne (by decide)]; exact c) dX0_image_89 ?_
      refine X0g_1_6 (pc := 92) C hL dX0_image_92 ?_
      exact hE 95 _ dX0_image_95
  by_cases c : (s1 0).1 0 = 0
  · refine X0g_0_0N (pc := 45) C hL c dX0_image_45 ?_
    refine go_ifnullN (pc := 48) (tgt := 55) C dX0_image_48 (by decide) ?_
    refine go_iconst (pc := 55) (v := (0 : Int32)) C dX0_image_55 (by decide) ?_
    exact hrest 0 (if_pos c) rfl rfl
  · refine X0g_0_0 (pc := 45) C hL c dX0_image_45 ?_
    refine go_ifnull (pc := 48) C dX0_image_48 ?_
    refine go_iconst (pc := 51) (v := (1 : Int32)) C dX0_image_51 (by decide) ?_
    refine go_goto (pc := 52) (tgt := 56) C dX0_image_52 (by decide) ?_
    exact hrest 1 (if_neg c) rfl rfl
theorem im_fr2 {s1 : Nat → Bl} {r9 : Int32} {s9 : Nat → Bl} (h : ltv (imX 2 (imSt 2 s1)) (fun s3 => if (s3 0).1 0 = 0 then some ((0 : Int32), s3) else bnd (f1_copies (s3 (7)) (s3 1)) (fun σ => some ((upX s3 (7) σ 1).1 6, upX s3 (7) σ))) = some (r9, s9)) : s9 0 = s1 0 := by
  have e0 : imX 2 (imSt 2 s1) 0 = s1 0 := by unfold imX imSt; rw [upX_ne (by omega), upX_ne (by omega)]
  generalize imX 2 (imSt 2 s1) = s3 at h e0
  have h : (if (s3 0).1 0 = 0 then some ((0 : Int32), s3) else bnd (f1_copies (s3 (7)) (s3 1)) (fun σ => some ((upX s3 (7) σ 1).1 6, upX s3 (7) σ))) = some (r9, s9) := h
  split at h
  · have h := Option.some.inj h; simp only [Prod.mk.injEq] at h; rw [← h.2, e0]
  · obtain ⟨σ, e4, h⟩ := bnd_some h
    have h := Option.some.inj h; simp only [Prod.mk.injEq] at h; rw [← h.2, upX_ne (by decide), e0]
theorem im_go2 {Γ : Gam} {A : XA} {L : List Nat} {E : va_W} {s0 : Nat → Bl} {r9 : Int32} {s9 : Nat → Bl} (hL : xOK L) (h14 : 14 ∉ L) (hIM : xIM L s0) (hN : Γ.nL = 3) (C : Cx Γ cX0_image RX0 (3, 19, 1712) 130) (hE : Rets Γ cX0_image (some .int) 19 1712 (fun v w => v = some (.int r9) ∧ ∃ (A' : XA) (L' : List Nat), w = XW Γ.d A' L' E s9 ∧ xOK L' ∧ xIM L' s9 ∧ 14 ∉ L' ∧ A'.2.2 = A.2.2 ∧ A'.1 0 = A.1 0)) (h : f0_im 2 s0 = some (r9, s9)) : Go Γ 0 0 (XW Γ.d A L E s0) 14 [(0, .ref (A.1 0 0)), (1, .int (2 : Int32))] [] := by
  have hin : chk (inB (2 : Int32) 4) (some ()) = some () := rfl
  unfold f0_im at h
  refine go_aload_n (pc := 14) C dX0_image_14 rfl 0 rfl ?_
  refine X0g_0_28 (pc := 15) C hL dX0_image_15 ?_
  refine go_iload_n (pc := 18) C dX0_image_18 rfl 1 rfl ?_
  refine go_aald (pc := 19) (t := 7) C (xa_0_28 hL) rfl hin dX0_image_19 (fun _ => ?_)
  show Go Γ 0 0 (XW Γ.d A L E s0) 20 [(0, .ref (A.1 0 0)), (1, .int (2 : Int32))] (va_rf (xrq Γ.d A 0 28 2 ((s0 0).2.1 28 2)) :: [])
  by_cases hz : (s0 0).2.1 28 2 = 0
  · have hval : va_rf (xrq Γ.d A 0 28 2 ((s0 0).2.1 28 2)) = .null := by show va_rf (if (s0 0).2.1 28 2 = 0 then none else _) = _; rw [if_pos hz]; rfl
    rw [hval]
    obtain ⟨n9, n5⟩ := (hIM 2 (by decide)).1 hz
    have n9 : 11 ∉ L := n9
    have n5 : 7 ∉ L := n5
    have eM : imMk 2 s0 = upX (imN 2 s0) 0 (bA (imN 2 s0 0) 28 2 1) := if_pos hz
    rw [eM] at h
    refine go_ifnonnullN (pc := 20) C dX0_image_20 ?_
    refine go_aload_n (pc := 23) C dX0_image_23 rfl 0 rfl ?_
    refine X0g_0_28 (pc := 24) C hL dX0_image_24 ?_
    refine go_iload_n (pc := 27) C dX0_image_27 rfl 1 rfl ?_
    refine go_new (pc := 28) (ci := 13) (T := TX15) (N := 3) (fs := [.null, .int 0, .int 0]) C in_X15 tyX15 tyX15_ok q403 q1240 q163 rfl (dflt_all (by decide +kernel)) ⟨by decide, by decide⟩ dX0_image_28 (fun b => ?_)
    refine go_dup (pc := 31) C dX0_image_31 rfl ?_
    refine go_callIN (pc := 32) (nA := 0) (st := [.ref b, .int (2 : Int32), .ref (A.1 0 (28 + 1))]) C [] (Mt.frame (XW Γ.d A L E s0) [] (m15_init (b := b))) q1241 q1242 q163 q1243 rfl (by decide +kernel) ⟨by decide, by decide⟩ rfl (Nat.le_of_ble_eq_true rfl) ⟨by decide, by decide⟩ dX0_image_32 rfl (fun v9 w9 h9 => ?_)
    obtain ⟨w0, ⟨rfl, a, rfl⟩, rfl⟩ := h9
    rw [List.append_nil]
    refine go_perm (XW_I2 n9 n5 hz) ?_
    have hL' : xOK (11 :: 7 :: L) := ⟨List.nodup_cons.mpr ⟨fun z => by rcases List.mem_cons.mp z with e | e; exact absurd e (by decide); exact n9 e, List.nodup_cons.mpr ⟨n5, hL.1⟩⟩, fun j hj => List.mem_cons_of_mem _ (List.mem_cons_of_mem _ (hL.2 j hj))⟩
    have hI : 11 ∈ 11 :: 7 :: L := List.mem_cons_self
    have hF : 7 ∈ 11 :: 7 :: L := List.mem_cons_of_mem _ List.mem_cons_self
    have hput : putA (XW Γ.d (upI A 2 b a) (11 :: 7 :: L) E (imN 2 s0)) (A.1 0 (28 + 1)) (Γ.d.2.1 7, 4, .inr (.inr (.inr (.inr (fun i => xrq Γ.d (upI A 2 b a) 0 28 i ((imN 2 s0 0).2.1 28 i)))))) (Γ.d.2.1 7, 4, .inr (.inr (.inr (.inr (va_up (fun i => xrq Γ.d (upI A 2 b a) 0 28 i ((imN 2 s0 0).2.1 28 i)) (2 : Int32).toNatClampNeg (some b)))))) (XW Γ.d (upI A 2 b a) (11 :: 7 :: L) E (upX (imN 2 s0) 0 (bA (imN 2 s0 0) 28 2 1))) := by
      have g := bW_putQ (d := Γ.d) (ci := 0) (FK := FK0) (a := A.1 0) (rf := xrf (upI A 2 b a) 0) (rq := xrq Γ.d (upI A 2 b a) 0) (σ := imN 2 s0 0) (f := 28) (k := 3) (z := 4) (i := 2) (v := 1) rfl
      have e : (fun j => xrq Γ.d (upI A 2 b a) 0 28 j (upd ((imN 2 s0 0).2.1 28) 2 1 j)) = va_up (fun i => xrq Γ.d (upI A 2 b a) 0 28 i ((imN 2 s0 0).2.1 28 i)) 2 (some b) := by
        funext j
        by_cases hj : j = 2
        · rw [hj, va_up_self]; rfl
        · rw [va_up_ne _ _ hj]
          have e1 : upd ((imN 2 s0 0).2.1 28) 2 1 j = (imN 2 s0 0).2.1 28 j := by simp [upd, hj]
          rw [e1]
      rw [e] at g
      exact xpA (A := upI A 2 b a) (hL'.2 0 (by decide)) hL'.1 g
    refine go_aastO (pc := 35) (t := 7) (ci := 13) (fs := [.ref ((upI A 2 b a).1 7 0), .int ((imN 2 s0 11).1 1), .int ((imN 2 s0 11).1 2)]) C hput (xO (A := upI A 2 b a) hI hL'.1) xc13i rfl rfl dX0_image_35 ?_
    refine im_tail2 (A := upI A 2 b a) hL' hI hF (by rw [upX_self]; simp [bA, bS, upd]) hN (by decide) C h ⟨by decide, by decide⟩ (fun pc lv hd => (hE _ _ _ pc lv (by decide) (by decide)).1 _ rfl hd ⟨rfl, upI A 2 b a, 11 :: 7 :: L, rfl, hL', ?_, ?_, rfl, rfl⟩)
    · have e0 : s9 0 = bA (imN 2 s0 0) 28 2 1 := by rw [im_fr2 h, upX_self]
      intro j hj
      rw [e0, imN0]
      by_cases e : j = 2
      · subst e; exact ⟨fun z => by simp [bA, bS, upd] at z, fun _ => ⟨hI, hF⟩⟩
      · have e1 : (bA (s0 0) 28 2 1).2.1 28 j = (s0 0).2.1 28 j := by simp [bA, bS, upd, e]
        rw [e1]
        have hh := hIM j hj
        refine ⟨fun z => ⟨fun y => ?_, fun y => ?_⟩, fun z => ⟨List.mem_cons_of_mem _ (List.mem_cons_of_mem _ (hh.2 z).1), List.mem_cons_of_mem _ (List.mem_cons_of_mem _ (hh.2 z).2)⟩⟩
        · simp only [List.mem_cons] at y; rcases y with y | y | y; omega; omega; exact (hh.1 z).1 y
        · simp only [List.mem_cons] at y; rcases y with y | y | y; omega; omega; exact (hh.1 z).2 y
    · intro y; simp only [List.mem_cons] at y; rcases y with y | y | y; exact absurd y (by decide); exact absurd y (by decide); exact h14 y
  · have hval : va_rf (xrq Γ.d A 0 28 2 ((s0 0).2.1 28 2)) = .ref (A.1 11 0) := by show va_rf (if (s0 0).2.1 28 2 = 0 then none else if 2 < 4 then some (A.1 (9 + 2) 0) else none) = _; rw [if_neg hz, if_pos (by decide)]; rfl
    rw [hval]
    obtain ⟨n9, n5⟩ := (hIM 2 (by decide)).2 hz
    have eM : imMk 2 s0 = s0 := if_neg hz
    rw [eM] at h
    refine go_ifnonnull (pc := 20) (tgt := 36) C dX0_image_20 (by decide) ?_
    refine im_tail2 hL n9 n5 hz hN (by decide) C h ⟨by decide, by decide⟩ (fun pc lv hd => (hE _ _ _ pc lv (by decide) (by decide)).1 _ rfl hd ⟨rfl, A, L, rfl, hL, ?_, h14, rfl, rfl⟩)
    intro j hj; rw [im_fr2 h]; exact hIM j hj
theorem bk_go2 {Γ : Gam} {A : XA} {L : List Nat} {E : va_W} {s0 : Nat → Bl} {r9 : Int32} {s9 : Nat → Bl} (hL : xOK L) (hIM : xIM L s0) (hN : Γ.nL = 2) (C : Cx Γ cX0_back RX0 (3, 0, 0) 100) (hE : Rets Γ cX0_back (some .int) 0 0 (fun v w => v = some (.int r9) ∧ w = XW Γ.d A L E s9)) (h : (if (s0 0).2.1 28 2 = 0 then some ((-1 : Int32), s0) else f0_bk 2 s0) = some (r9, s9)) : Go Γ 0 0 (XW Γ.d A L E s0) 12 [(0, .ref (A.1 0 0)), (1, .int (2 : Int32))] [] := by
  have hin : chk (inB (2 : Int32) 4) (some ()) = some () := rfl
  refine go_aload_n (pc := 12) C dX0_back_12 rfl 0 rfl ?_
  refine X0g_0_28 (pc := 13) C hL dX0_back_13 ?_
  refine go_iload_n (pc := 16) C dX0_back_16 rfl 1 rfl ?_
  refine go_aald (pc := 17) (t := 7) C (xa_0_28 hL) rfl hin dX0_back_17 (fun _ => ?_)
  show Go Γ 0 0 (XW Γ.d A L E s0) 18 [(0, .ref (A.1 0 0)), (1, .int (2 : Int32))] (va_rf (xrq Γ.d A 0 28 2 ((s0 0).2.1 28 2)) :: [])
  by_cases hz : (s0 0).2.1 28 2 = 0
  · have hval : va_rf (xrq Γ.d A 0 28 2 ((s0 0).2.1 28 2)) = .null := by show va_rf (if (s0 0).2.1 28 2 = 0 then none else _) = _; rw [if_pos hz]; rfl
    rw [hval]
    rw [if_pos hz] at h
    have h := Option.some.inj h
    simp only [Prod.mk.injEq] at h
    obtain ⟨rfl, rfl⟩ := h
    refine go_ifnonnullN (pc := 18) C dX0_back_18 ?_
    refine go_iconst (pc := 21) (v := (-1 : Int32)) C dX0_back_21 (by decide) ?_
    exact (hE _ _ _ 22 _ (Nat.zero_le _) (Nat.zero_le _)).1 _ rfl dX0_back_22 ⟨rfl, rfl⟩
  have hval : ∀ x : Nat → Bl, x 0 = s0 0 ∨ (x 0).2.1 = (s0 0).2.1 → va_rf (xrq Γ.d A 0 28 2 ((x 0).2.1 28 2)) = .ref (A.1 11 0) := by
    intro x hx
    have e : (x 0).2.1 28 2 = (s0 0).2.1 28 2 := by rcases hx with e | e <;> rw [e]
    show va_rf (if (x 0).2.1 28 2 = 0 then none else if 2 < 4 then some (A.1 (9 + 2) 0) else none) = _
    rw [if_neg (by rw [e]; exact hz), if_pos (by decide)]; rfl
  rw [hval s0 (Or.inl rfl)]
  rw [if_neg hz] at h
  obtain ⟨hI, hF⟩ := (hIM 2 (by decide)).2 hz
  have hI : 11 ∈ L := hI
  have hF : 7 ∈ L := hF
  unfold f0_bk at h
  refine go_ifnonnull (pc := 18) (tgt := 23) C dX0_back_18 (by decide) ?_
  refine go_aload_n (pc := 23) C dX0_back_23 rfl 0 rfl ?_
  refine go_aload_n (pc := 24) C dX0_back_24 rfl 0 rfl ?_
  refine X0g_0_28 (pc := 25) C hL dX0_back_25 ?_
  refine go_iload_n (pc := 28) C dX0_back_28 rfl 1 rfl ?_
  refine go_aald (pc := 29) (t := 7) C (xa_0_28 hL) rfl hin dX0_back_29 (fun _ => ?_)
  show Go Γ 0 0 (XW Γ.d A L E s0) 30 [(0, .ref (A.1 0 0)), (1, .int (2 : Int32))] (va_rf (xrq Γ.d A 0 28 2 ((s0 0).2.1 28 2)) :: [.ref (A.1 0 0)])
  rw [hval s0 (Or.inl rfl)]
  refine go_getfieldN (pc := 30) C (ci := 13) (fs := [.ref (A.1 7 0), .int ((s0 11).1 1), .int ((s0 11).1 2)]) (xO hI hL.1) xc13i in_X15 1 (by decide) X0fl_X15_1 rfl dX0_back_30 ?_
  have htail : ∀ (s1 : Nat → Bl), (s1 0).2.1 = (s0 0).2.1 → ∀ {r : Int32}, r = (if (s1 0).1 0 = 0 then (0 : Int32) else ((upX s1 0 (bI (s1 0) 5 ((s1 11).1 2))) 1).1 6) → r = r9 → upX s1 0 (bI (s1 0) 5 ((s1 11).1 2)) = s9 → Go Γ 0 0 (XW Γ.d A L E s1) 59 [(0, .ref (A.1 0 0)), (1, .int (2 : Int32))] [] := by
    intro s1 e1 r hr h1 h2
    subst h1; subst h2
    refine go_aload_n (pc := 59) C dX0_back_59 rfl 0 rfl ?_
    refine go_aload_n (pc := 60) C dX0_back_60 rfl 0 rfl ?_
    refine X0g_0_28 (pc := 61) C hL dX0_back_61 ?_
    refine go_iload_n (pc := 64) C dX0_back_64 rfl 1 rfl ?_
    refine go_aald (pc := 65) (t := 7) C (xa_0_28 hL) rfl hin dX0_back_65 (fun _ => ?_)
    show Go Γ 0 0 (XW Γ.d A L E s1) 66 [(0, .ref (A.1 0 0)), (1, .int (2 : Int32))] (va_rf (xrq Γ.d A 0 28 2 ((s1 0).2.1 28 2)) :: [.ref (A.1 0 0)])
    rw [hval s1 (Or.inr e1)]
    refine go_getfieldN (pc := 66) C (ci := 13) (fs := [.ref (A.1 7 0), .int ((s1 11).1 1), .int ((s1 11).1 2)]) (xO hI hL.1) xc13i in_X15 2 (by decide) X0fl_X15_2 rfl dX0_back_66 ?_
    refine X0p_0_5 (pc := 69) C hL dX0_back_69 ?_
    refine go_aload_n (pc := 72) C dX0_back_72 rfl 0 rfl ?_
    have e5 : ((upX s1 0 (bI (s1 0) 5 ((s1 11).1 2))) 0).1 0 = (s1 0).1 0 := by rw [upX_self]; rfl
    by_cases c : (s1 0).1 0 = 0
    · rw [if_pos c] at hr
      subst hr
      refine X0g_0_0N (pc := 73) C hL (by rw [e5]; exact c) dX0_back_73 ?_
      refine go_ifnonnullN (pc := 76) C dX0_back_76 ?_
      refine go_iconst (pc := 79) (v := (0 : Int32)) C dX0_back_79 (by decide) ?_
      refine go_goto (pc := 80) (tgt := 90) C dX0_back_80 (by decide) ?_
      exact (hE _ _ _ 90 _ (Nat.zero_le _) (Nat.zero_le _)).1 _ rfl dX0_back_90 ⟨rfl, rfl⟩
    · rw [if_neg c] at hr
      subst hr
      refine X0g_0_0 (pc := 73) C hL (by rw [e5]; exact c) dX0_back_73 ?_
      refine go_ifnonnull (pc := 76) (tgt := 83) C dX0_back_76 (by decide) ?_
      refine go_aload_n (pc := 83) C dX0_back_83 rfl 0 rfl ?_
      refine X0g_0_0 (pc := 84) C hL (by rw [e5]; exact c) dX0_back_84 ?_
      refine X0g_1_6 (pc := 87) C hL dX0_back_87 ?_
      exact (hE _ _ _ 90 _ (Nat.zero_le _) (Nat.zero_le _)).1 _ rfl dX0_back_90 ⟨rfl, rfl⟩
  refine go_if_eq (pc := 33) (tgt := 55) C dX0_back_33 (by decide) h (fun h => ?_) (fun h => ?_)
  · have h := Option.some.inj h
    simp only [Prod.mk.injEq] at h
    refine go_aconst_null (pc := 55) C dX0_back_55 ?_
    refine X0p_0_0N (pc := 56) C hL dX0_back_56 ?_
    exact htail _ (by rw [upX_self]; rfl) (r := 0) (by rw [upX_self, if_pos]; rfl) h.1 h.2
  · obtain ⟨σ, e4, h⟩ := bnd_some h
    have h := Option.some.inj h
    simp only [Prod.mk.injEq] at h
    refine go_aload_n (pc := 36) C dX0_back_36 rfl 0 rfl ?_
    refine X0g_0_1 (pc := 37) C hL dX0_back_37 ?_
    refine go_aload_n (pc := 40) C dX0_back_40 rfl 0 rfl ?_
    refine X0g_0_28 (pc := 41) C hL dX0_back_41 ?_
    refine go_iload_n (pc := 44) C dX0_back_44 rfl 1 rfl ?_
    refine go_aald (pc := 45) (t := 7) C (xa_0_28 hL) rfl hin dX0_back_45 (fun _ => ?_)
    show Go Γ 0 0 (XW Γ.d A L E s0) 46 [(0, .ref (A.1 0 0)), (1, .int (2 : Int32))] (va_rf (xrq Γ.d A 0 28 2 ((s0 0).2.1 28 2)) :: [.ref (A.1 1 0), .ref (A.1 0 0)])
    rw [hval s0 (Or.inl rfl)]
    refine go_getfieldN (pc := 46) C (ci := 13) (fs := [.ref (A.1 7 0), .int ((s0 11).1 1), .int ((s0 11).1 2)]) (xO hI hL.1) xc13i in_X15 0 (by decide) X0fl_X15_0 rfl dX0_back_46 ?_
    refine go_callVa (pc := 49) C [.ref (A.1 7 0)] (Mt.x2 (j := 1) (i := 7) (hL.2 1 (by decide)) hF (by decide) hL.1 (m1_copies e4)) q691 q552 q553 q139 q554 x1pd_copies (by decide) (by decide) (xO (hL.2 1 (by decide)) hL.1) xc1 rfl (Nat.le_of_ble_eq_true rfl) ⟨Nat.zero_le _, Nat.zero_le _⟩ dX0_back_49 rfl ?_
    refine go_goto (pc := 52) (tgt := 56) C dX0_back_52 (by decide) ?_
    refine X0p_0_0 (pc := 56) C hL dX0_back_56 ?_
    exact htail _ (by rw [upX_self, upX_ne (by decide)]; rfl) (r := r9) (by rw [← h.1, upX_self, if_neg]; exact fun z => by simp [bI] at z) rfl h.2
theorem XB_I3 {d : gD} {A : XA} {b : Nat} {a : Nat → Nat} {σ : Bl} : ∀ (j : Nat), j ≠ 12 → j ≠ 8 → (j = 0 → σ.2.1 28 3 = 0) → XB d A j σ = XB d (upI A 3 b a) j σ
  | 0, _, _, h => XB0_cg rfl (fun f => rfl) (fun f hf i => by
    rcases hf with rfl | rfl | rfl | rfl | rfl
    · rfl
    · rfl
    · rfl
    · rfl
    · show (if σ.2.1 28 i = 0 then none else if i < 4 then some (A.1 (9 + i) 0) else none) = (if σ.2.1 28 i = 0 then none else if i < 4 then some ((if 9 + i = 9 + 3 then (fun _ => b) else if 9 + i = 5 + 3 then a else A.1 (9 + i)) 0) else none)
      by_cases hi : i = 3
      · subst hi; rw [if_pos (h rfl), if_pos (h rfl)]
      · by_cases h4 : i < 4
        · rw [if_neg (show ¬ 9 + i = 9 + 3 by omega), if_neg (show ¬ 9 + i = 5 + 3 by omega)]
        · rw [if_neg h4, if_neg h4])
  | 1, _, _, _ => rfl
  | 2, _, _, _ => rfl
  | 3, _, _, _ => rfl
  | 4, _, _, _ => rfl
  | 5, _, _, _ => rfl
  | 6, _, _, _ => rfl
  | 7, _, _, _ => rfl
  | 8, h1, h2, _ => absurd rfl h2
  | 9, _, _, _ => rfl
  | 10, _, _, _ => rfl
  | 11, _, _, _ => rfl
  | 12, h1, h2, _ => absurd rfl h1
  | 13, _, _, _ => rfl
  | 14, _, _, _ => rfl
  | j + 15, h1, h2, _ => by
    have e : (upI A 3 b a).1 (j + 15) = A.1 (j + 15) := by
      show (if j + 15 = 9 + 3 then (fun _ => b) else if j + 15 = 5 + 3 then a else A.1 (j + 15)) = _
      rw [if_neg (by omega), if_neg (by omega)]
    show bWr d 1 FK1 (A.1 (j + 15)) (fun _ _ => .null) (fun _ _ _ => none) σ = bWr d 1 FK1 ((upI A 3 b a).1 (j + 15)) (fun _ _ => .null) (fun _ _ _ => none) σ
    rw [e]
theorem XW_I3 {d : gD} {A : XA} {L : List Nat} {E : va_W} {x : Nat → Bl} {b : Nat} {a : Nat → Nat} (h9 : 12 ∉ L) (h5 : 8 ∉ L) (hz : (x 0).2.1 28 3 = 0) : (XW d A L E x ++ ((b, .inr (13, [.ref (a 0), .int 0, .int 0])) :: bW d 1 FK1 a s1i)).Perm (XW d (upI A 3 b a) (12 :: 8 :: L) E (imN 3 x)) := by
  have e1 : XB d (upI A 3 b a) 12 s1i = [(b, .inr (13, [.ref (a 0), .int 0, .int 0]))] := rfl
  have e2 : XB d (upI A 3 b a) 8 s1i = bW d 1 FK1 a s1i := rfl
  have e3 : XW d (upI A 3 b a) (12 :: 8 :: L) E (imN 3 x) = ((b, .inr (13, [.ref (a 0), .int 0, .int 0])) :: bW d 1 FK1 a s1i) ++ XW d A L E x := by
    have g1 : imN 3 x 12 = s1i := by unfold imN; rw [upX_self]
    have g2 : imN 3 x 8 = s1i := by unfold imN; rw [upX_ne (by decide), upX_self]
    have g3 : L.flatMap (fun j => XB d (upI A 3 b a) j (imN 3 x j)) = L.flatMap (fun j => XB d A j (x j)) := by
      rw [flat_cg (A := A) (A' := upI A 3 b a) L (fun j hj => XB_I3 j (fun e => h9 (e ▸ hj)) (fun e => h5 (e ▸ hj)) (fun e => by subst e; exact hz))]
      exact flat_xg L (fun j hj => by unfold imN; rw [upX_ne (show j ≠ 9 + 3 from fun e => h9 (by rw [e] at hj; exact hj)), upX_ne (show j ≠ 5 + 3 from fun e => h5 (by rw [e] at hj; exact hj))])
    unfold XW
    rw [List.flatMap_cons, List.flatMap_cons, g1, g2, g3, e1, e2, List.append_assoc, List.append_assoc]; rfl
  rw [e3]
  exact List.perm_append_comm
theorem im_tail3 {Γ : Gam} {A : XA} {L : List Nat} {E : va_W} {s1 : Nat → Bl} {r9 : Int32} {s9 : Nat → Bl} {kc nc : Nat} {fr : Nat × Nat × Nat} (hL : xOK L) (hI : 12 ∈ L) (hF : 8 ∈ L) (hz : ¬ (s1 0).2.1 28 3 = 0) (hN : Γ.nL = 3) (hf : 3 ≤ fr.1) (C : Cx Γ cX0_image RX0 fr 130) (h : ltv (imX 3 (imSt 3 s1)) (fun s3 => if (s3 0).1 0 = 0 then some ((0 : Int32), s3) else bnd (f1_copies (s3 (8)) (s3 1)) (fun σ => some ((upX s3 (8) σ 1).1 6, upX s3 (8) σ))) = some (r9, s9)) (hk : kc ≤ fr.2.1 ∧ nc ≤ fr.2.2)
    (hE : ∀ (pc : Nat) (lv : List (Nat × Value)), decode cX0_image pc = .ok (.ireturn, 1) → Go Γ kc nc (XW Γ.d A L E s9) pc lv [.int r9]) : Go Γ kc nc (XW Γ.d A L E s1) 36 [(0, .ref (A.1 0 0)), (1, .int (3 : Int32))] [] := by
  have hin : chk (inB (3 : Int32) 4) (some ()) = some () := rfl
  have hval : va_rf (xrq Γ.d A 0 28 3 ((s1 0).2.1 28 3)) = .ref (A.1 12 0) := by show va_rf (if (s1 0).2.1 28 3 = 0 then none else if 3 < 4 then some (A.1 (9 + 3) 0) else none) = _; rw [if_neg hz, if_pos (by decide)]; rfl
  refine go_aload_n (pc := 36) C dX0_image_36 rfl 0 rfl ?_
  refine X0g_0_28 (pc := 37) C hL dX0_image_37 ?_
  refine go_iload_n (pc := 40) C dX0_image_40 rfl 1 rfl ?_
  refine go_aald (pc := 41) (t := 7) C (xa_0_28 hL) rfl hin dX0_image_41 (fun _ => ?_)
  show Go Γ kc nc (XW Γ.d A L E s1) 42 [(0, .ref (A.1 0 0)), (1, .int (3 : Int32))] (va_rf (xrq Γ.d A 0 28 3 ((s1 0).2.1 28 3)) :: [])
  rw [hval]
  refine go_astore_n (pc := 42) C hN dX0_image_42 rfl (by decide) rfl ?_
  refine go_aload_n (pc := 43) C dX0_image_43 rfl 0 rfl ?_
  refine go_aload_n (pc := 44) C dX0_image_44 rfl 1 rfl ?_
  have hput : ∀ (x : Nat → Bl) (b : Int32) (f : Nat) (hf : FK15[f]? = some (0, 0)), putO (XW Γ.d A L E x) (A.1 12 0) 13 [.ref (A.1 8 0), .int ((x 12).1 1), .int ((x 12).1 2)] ([Value.ref (A.1 8 0), .int ((x 12).1 1), .int ((x 12).1 2)].set f (.int b)) (XW Γ.d A L E (upX x 12 (bI (x 12) f b))) := fun x b f hf => xpO hI hL.1 (bW_putI (FK := FK15) hf)
  have hrest : ∀ b : Int32, (if (s1 0).1 0 = 0 then 0 else 1) = b → narrow .boolean (.int b) = .int b → fits .boolean (.int b) = true → Go Γ kc nc (XW Γ.d A L E s1) 56 [(2, .ref (A.1 12 0)), (0, .ref (A.1 0 0)), (1, .int (3 : Int32))] [.int b, .ref (A.1 12 0)] := by
    intro b hb hnb hfb
    refine go_putfieldN (pc := 56) (v := .int b) (ty := .boolean) C 1 (hput s1 b 1 rfl) xc13i in_X15 tyX15 tyX15_ok nmX15 (by decide) X0fl_X15_1 rfl rfl hnb hfb (Nat.le_of_ble_eq_true rfl) dX0_image_56 ?_
    have e2 : upX s1 12 (bI (s1 12) 1 b) = imSt 3 s1 := by unfold imSt; rw [hb]
    rw [e2]
    have h := h
    generalize imSt 3 s1 = s2 at h
    refine go_aload_n (pc := 59) C dX0_image_59 rfl 0 rfl ?_
    refine go_aload_n (pc := 60) C dX0_image_60 rfl 1 rfl ?_
    refine X0g_0_5 (pc := 61) C hL dX0_image_61 ?_
    refine go_putfieldN (pc := 64) (v := .int ((s2 0).1 5)) (ty := .int) C 2 (hput s2 _ 2 rfl) xc13i in_X15 tyX15 tyX15_ok nmX15 (by decide) X0fl_X15_2 rfl rfl rfl rfl (Nat.le_of_ble_eq_true rfl) dX0_image_64 ?_
    have e3 : upX s2 12 (bI (s2 12) 2 ((s2 0).1 5)) = imX 3 s2 := rfl
    rw [e3]
    generalize imX 3 s2 = s3 at h
    have h : (if (s3 0).1 0 = 0 then some ((0 : Int32), s3) else bnd (f1_copies (s3 (8)) (s3 1)) (fun σ => some ((upX s3 (8) σ 1).1 6, upX s3 (8) σ))) = some (r9, s9) := h
    refine go_aload_n (pc := 67) C dX0_image_67 rfl 1 rfl ?_
    by_cases c : (s3 0).1 0 = 0
    · rw [if_pos c] at h
      have h := Option.some.inj h
      simp only [Prod.mk.injEq] at h
      obtain ⟨rfl, rfl⟩ := h
      refine X0g_0_0N (pc := 68) C hL c dX0_image_68 ?_
      refine go_ifnonnullN (pc := 71) C dX0_image_71 ?_
      refine go_iconst (pc := 74) (v := (0 : Int32)) C dX0_image_74 (by decide) ?_
      exact hE 75 _ dX0_image_75
    · rw [if_neg c] at h
      obtain ⟨σ, e4, h⟩ := bnd_some h
      have h := Option.some.inj h
      simp only [Prod.mk.injEq] at h
      obtain ⟨rfl, rfl⟩ := h
      refine X0g_0_0 (pc := 68) C hL c dX0_image_68 ?_
      refine go_ifnonnull (pc := 71) (tgt := 76) C dX0_image_71 (by decide) ?_
      refine go_aload_n (pc := 76) C dX0_image_76 rfl 0 rfl ?_
      refine go_getfieldN (pc := 77) C (ci := 13) (fs := [.ref (A.1 8 0), .int ((s3 12).1 1), .int ((s3 12).1 2)]) (xO hI hL.1) xc13i in_X15 0 (by decide) X0fl_X15_0 rfl dX0_image_77 ?_
      refine go_aload_n (pc := 80) C dX0_image_80 rfl 1 rfl ?_
      refine X0g_0_0 (pc := 81) C hL c dX0_image_81 ?_
      refine go_callVa (pc := 84) C [.ref (A.1 1 0)] (Mt.x2 (j := 8) (i := 1) hF (hL.2 1 (by decide)) (by decide) hL.1 (m1_copies e4)) q691 q552 q553 q139 q554 x1pd_copies (by show 2 + 1 ≤ fr.1; exact hf) (by decide) (xO hF hL.1) xc1 rfl (Nat.le_of_ble_eq_true rfl) hk dX0_image_84 rfl ?_
      refine go_pop (pc := 87) C dX0_image_87 rfl ?_
      refine go_aload_n (pc := 88) C dX0_image_88 rfl 1 rfl ?_
      refine X0g_0_0 (pc := 89) C hL (by rw [upX_ne (by decide)]; exact c) dX0_image_89 ?_
      refine X0g_1_6 (pc := 92) C hL dX0_image_92 ?_
      exact hE 95 _ dX0_image_95
  by_cases c : (s1 0).1 0 = 0
  · refine X0g_0_0N (pc := 45) C hL c dX0_image_45 ?_
    refine go_ifnullN (pc := 48) (tgt := 55) C dX0_image_48 (by decide) ?_
    refine go_iconst (pc := 55) (v := (0 : Int32)) C dX0_image_55 (by decide) ?_
    exact hrest 0 (if_pos c) rfl rfl
  · refine X0g_0_0 (pc := 45) C hL c dX0_image_45 ?_
    refine go_ifnull (pc := 48) C dX0_image_48 ?_
    refine go_iconst (pc := 51) (v := (1 : Int32)) C dX0_image_51 (by decide) ?_
    refine go_goto (pc := 52) (tgt := 56) C dX0_image_52 (by decide) ?_
    exact hrest 1 (if_neg c) rfl rfl
theorem im_fr3 {s1 : Nat → Bl} {r9 : Int32} {s9 : Nat → Bl} (h : ltv (imX 3 (imSt 3 s1)) (fun s3 => if (s3 0).1 0 = 0 then some ((0 : Int32), s3) else bnd (f1_copies (s3 (8)) (s3 1)) (fun σ => some ((upX s3 (8) σ 1).1 6, upX s3 (8) σ))) = some (r9, s9)) : s9 0 = s1 0 := by
  have e0 : imX 3 (imSt 3 s1) 0 = s1 0 := by unfold imX imSt; rw [upX_ne (by omega), upX_ne (by omega)]
  generalize imX 3 (imSt 3 s1) = s3 at h e0
  have h : (if (s3 0).1 0 = 0 then some ((0 : Int32), s3) else bnd (f1_copies (s3 (8)) (s3 1)) (fun σ => some ((upX s3 (8) σ 1).1 6, upX s3 (8) σ))) = some (r9, s9) := h
  split at h
  · have h := Option.some.inj h; simp only [Prod.mk.injEq] at h; rw [← h.2, e0]
  · obtain ⟨σ, e4, h⟩ := bnd_some h
    have h := Option.some.inj h; simp only [Prod.mk.injEq] at h; rw [← h.2, upX_ne (by decide), e0]
theorem im_go3 {Γ : Gam} {A : XA} {L : List Nat} {E : va_W} {s0 : Nat → Bl} {r9 : Int32} {s9 : Nat → Bl} (hL : xOK L) (h14 : 14 ∉ L) (hIM : xIM L s0) (hN : Γ.nL = 3) (C : Cx Γ cX0_image RX0 (3, 19, 1712) 130) (hE : Rets Γ cX0_image (some .int) 19 1712 (fun v w => v = some (.int r9) ∧ ∃ (A' : XA) (L' : List Nat), w = XW Γ.d A' L' E s9 ∧ xOK L' ∧ xIM L' s9 ∧ 14 ∉ L' ∧ A'.2.2 = A.2.2 ∧ A'.1 0 = A.1 0)) (h : f0_im 3 s0 = some (r9, s9)) : Go Γ 0 0 (XW Γ.d A L E s0) 14 [(0, .ref (A.1 0 0)), (1, .int (3 : Int32))] [] := by
  have hin : chk (inB (3 : Int32) 4) (some ()) = some () := rfl
  unfold f0_im at h
  refine go_aload_n (pc := 14) C dX0_image_14 rfl 0 rfl ?_
  refine X0g_0_28 (pc := 15) C hL dX0_image_15 ?_
  refine go_iload_n (pc := 18) C dX0_image_18 rfl 1 rfl ?_
  refine go_aald (pc := 19) (t := 7) C (xa_0_28 hL) rfl hin dX0_image_19 (fun _ => ?_)
  show Go Γ 0 0 (XW Γ.d A L E s0) 20 [(0, .ref (A.1 0 0)), (1, .int (3 : Int32))] (va_rf (xrq Γ.d A 0 28 3 ((s0 0).2.1 28 3)) :: [])
  by_cases hz : (s0 0).2.1 28 3 = 0
  · have hval : va_rf (xrq Γ.d A 0 28 3 ((s0 0).2.1 28 3)) = .null := by show va_rf (if (s0 0).2.1 28 3 = 0 then none else _) = _; rw [if_pos hz]; rfl
    rw [hval]
    obtain ⟨n9, n5⟩ := (hIM 3 (by decide)).1 hz
    have n9 : 12 ∉ L := n9
    have n5 : 8 ∉ L := n5
    have eM : imMk 3 s0 = upX (imN 3 s0) 0 (bA (imN 3 s0 0) 28 3 1) := if_pos hz
    rw [eM] at h
    refine go_ifnonnullN (pc := 20) C dX0_image_20 ?_
    refine go_aload_n (pc := 23) C dX0_image_23 rfl 0 rfl ?_
    refine X0g_0_28 (pc := 24) C hL dX0_image_24 ?_
    refine go_iload_n (pc := 27) C dX0_image_27 rfl 1 rfl ?_
    refine go_new (pc := 28) (ci := 13) (T := TX15) (N := 3) (fs := [.null, .int 0, .int 0]) C in_X15 tyX15 tyX15_ok q403 q1240 q163 rfl (dflt_all (by decide +kernel)) ⟨by decide, by decide⟩ dX0_image_28 (fun b => ?_)
    refine go_dup (pc := 31) C dX0_image_31 rfl ?_
    refine go_callIN (pc := 32) (nA := 0) (st := [.ref b, .int (3 : Int32), .ref (A.1 0 (28 + 1))]) C [] (Mt.frame (XW Γ.d A L E s0) [] (m15_init (b := b))) q1241 q1242 q163 q1243 rfl (by decide +kernel) ⟨by decide, by decide⟩ rfl (Nat.le_of_ble_eq_true rfl) ⟨by decide, by decide⟩ dX0_image_32 rfl (fun v9 w9 h9 => ?_)
    obtain ⟨w0, ⟨rfl, a, rfl⟩, rfl⟩ := h9
    rw [List.append_nil]
    refine go_perm (XW_I3 n9 n5 hz) ?_
    have hL' : xOK (12 :: 8 :: L) := ⟨List.nodup_cons.mpr ⟨fun z => by rcases List.mem_cons.mp z with e | e; exact absurd e (by decide); exact n9 e, List.nodup_cons.mpr ⟨n5, hL.1⟩⟩, fun j hj => List.mem_cons_of_mem _ (List.mem_cons_of_mem _ (hL.2 j hj))⟩
    have hI : 12 ∈ 12 :: 8 :: L := List.mem_cons_self
    have hF : 8 ∈ 12 :: 8 :: L := List.mem_cons_of_mem _ List.mem_cons_self
    have hput : putA (XW Γ.d (upI A 3 b a) (12 :: 8 :: L) E (imN 3 s0)) (A.1 0 (28 + 1)) (Γ.d.2.1 7, 4, .inr (.inr (.inr (.inr (fun i => xrq Γ.d (upI A 3 b a) 0 28 i ((imN 3 s0 0).2.1 28 i)))))) (Γ.d.2.1 7, 4, .inr (.inr (.inr (.inr (va_up (fun i => xrq Γ.d (upI A 3 b a) 0 28 i ((imN 3 s0 0).2.1 28 i)) (3 : Int32).toNatClampNeg (some b)))))) (XW Γ.d (upI A 3 b a) (12 :: 8 :: L) E (upX (imN 3 s0) 0 (bA (imN 3 s0 0) 28 3 1))) := by
      have g := bW_putQ (d := Γ.d) (ci := 0) (FK := FK0) (a := A.1 0) (rf := xrf (upI A 3 b a) 0) (rq := xrq Γ.d (upI A 3 b a) 0) (σ := imN 3 s0 0) (f := 28) (k := 3) (z := 4) (i := 3) (v := 1) rfl
      have e : (fun j => xrq Γ.d (upI A 3 b a) 0 28 j (upd ((imN 3 s0 0).2.1 28) 3 1 j)) = va_up (fun i => xrq Γ.d (upI A 3 b a) 0 28 i ((imN 3 s0 0).2.1 28 i)) 3 (some b) := by
        funext j
        by_cases hj : j = 3
        · rw [hj, va_up_self]; rfl
        · rw [va_up_ne _ _ hj]
          have e1 : upd ((imN 3 s0 0).2.1 28) 3 1 j = (imN 3 s0 0).2.1 28 j := by simp [upd, hj]
          rw [e1]
      rw [e] at g
      exact xpA (A := upI A 3 b a) (hL'.2 0 (by decide)) hL'.1 g
    refine go_aastO (pc := 35) (t := 7) (ci := 13) (fs := [.ref ((upI A 3 b a).1 8 0), .int ((imN 3 s0 12).1 1), .int ((imN 3 s0 12).1 2)]) C hput (xO (A := upI A 3 b a) hI hL'.1) xc13i rfl rfl dX0_image_35 ?_
    refine im_tail3 (A := upI A 3 b a) hL' hI hF (by rw [upX_self]; simp [bA, bS, upd]) hN (by decide) C h ⟨by decide, by decide⟩ (fun pc lv hd => (hE _ _ _ pc lv (by decide) (by decide)).1 _ rfl hd ⟨rfl, upI A 3 b a, 12 :: 8 :: L, rfl, hL', ?_, ?_, rfl, rfl⟩)
    · have e0 : s9 0 = bA (imN 3 s0 0) 28 3 1 := by rw [im_fr3 h, upX_self]
      intro j hj
      rw [e0, imN0]
      by_cases e : j = 3
      · subst e; exact ⟨fun z => by simp [bA, bS, upd] at z, fun _ => ⟨hI, hF⟩⟩
      · have e1 : (bA (s0 0) 28 3 1).2.1 28 j = (s0 0).2.1 28 j := by simp [bA, bS, upd, e]
        rw [e1]
        have hh := hIM j hj
        refine ⟨fun z => ⟨fun y => ?_, fun y => ?_⟩, fun z => ⟨List.mem_cons_of_mem _ (List.mem_cons_of_mem _ (hh.2 z).1), List.mem_cons_of_mem _ (List.mem_cons_of_mem _ (hh.2 z).2)⟩⟩
        · simp only [List.mem_cons] at y; rcases y with y | y | y; omega; omega; exact (hh.1 z).1 y
        · simp only [List.mem_cons] at y; rcases y with y | y | y; omega; omega; exact (hh.1 z).2 y
    · intro y; simp only [List.mem_cons] at y; rcases y with y | y | y; exact absurd y (by decide); exact absurd y (by decide); exact h14 y
  · have hval : va_rf (xrq Γ.d A 0 28 3 ((s0 0).2.1 28 3)) = .ref (A.1 12 0) := by show va_rf (if (s0 0).2.1 28 3 = 0 then none else if 3 < 4 then some (A.1 (9 + 3) 0) else none) = _; rw [if_neg hz, if_pos (by decide)]; rfl
    rw [hval]
    obtain ⟨n9, n5⟩ := (hIM 3 (by decide)).2 hz
    have eM : imMk 3 s0 = s0 := if_neg hz
    rw [eM] at h
    refine go_ifnonnull (pc := 20) (tgt := 36) C dX0_image_20 (by decide) ?_
    refine im_tail3 hL n9 n5 hz hN (by decide) C h ⟨by decide, by decide⟩ (fun pc lv hd => (hE _ _ _ pc lv (by decide) (by decide)).1 _ rfl hd ⟨rfl, A, L, rfl, hL, ?_, h14, rfl, rfl⟩)
    intro j hj; rw [im_fr3 h]; exact hIM j hj
theorem bk_go3 {Γ : Gam} {A : XA} {L : List Nat} {E : va_W} {s0 : Nat → Bl} {r9 : Int32} {s9 : Nat → Bl} (hL : xOK L) (hIM : xIM L s0) (hN : Γ.nL = 2) (C : Cx Γ cX0_back RX0 (3, 0, 0) 100) (hE : Rets Γ cX0_back (some .int) 0 0 (fun v w => v = some (.int r9) ∧ w = XW Γ.d A L E s9)) (h : (if (s0 0).2.1 28 3 = 0 then some ((-1 : Int32), s0) else f0_bk 3 s0) = some (r9, s9)) : Go Γ 0 0 (XW Γ.d A L E s0) 12 [(0, .ref (A.1 0 0)), (1, .int (3 : Int32))] [] := by
  have hin : chk (inB (3 : Int32) 4) (some ()) = some () := rfl
  refine go_aload_n (pc := 12) C dX0_back_12 rfl 0 rfl ?_
  refine X0g_0_28 (pc := 13) C hL dX0_back_13 ?_
  refine go_iload_n (pc := 16) C dX0_back_16 rfl 1 rfl ?_
  refine go_aald (pc := 17) (t := 7) C (xa_0_28 hL) rfl hin dX0_back_17 (fun _ => ?_)
  show Go Γ 0 0 (XW Γ.d A L E s0) 18 [(0, .ref (A.1 0 0)), (1, .int (3 : Int32))] (va_rf (xrq Γ.d A 0 28 3 ((s0 0).2.1 28 3)) :: [])
  by_cases hz : (s0 0).2.1 28 3 = 0
  · have hval : va_rf (xrq Γ.d A 0 28 3 ((s0 0).2.1 28 3)) = .null := by show va_rf (if (s0 0).2.1 28 3 = 0 then none else _) = _; rw [if_pos hz]; rfl
    rw [hval]
    rw [if_pos hz] at h
    have h := Option.some.inj h
    simp only [Prod.mk.injEq] at h
    obtain ⟨rfl, rfl⟩ := h
    refine go_ifnonnullN (pc := 18) C dX0_back_18 ?_
    refine go_iconst (pc := 21) (v := (-1 : Int32)) C dX0_back_21 (by decide) ?_
    exact (hE _ _ _ 22 _ (Nat.zero_le _) (Nat.zero_le _)).1 _ rfl dX0_back_22 ⟨rfl, rfl⟩
  have hval : ∀ x : Nat → Bl, x 0 = s0 0 ∨ (x 0).2.1 = (s0 0).2.1 → va_rf (xrq Γ.d A 0 28 3 ((x 0).2.1 28 3)) = .ref (A.1 12 0) := by
    intro x hx
    have e : (x 0).2.1 28 3 = (s0 0).2.1 28 3 := by rcases hx with e | e <;> rw [e]
    show va_rf (if (x 0).2.1 28 3 = 0 then none else if 3 < 4 then some (A.1 (9 + 3) 0) else none) = _
    rw [if_neg (by rw [e]; exact hz), if_pos (by decide)]; rfl
  rw [hval s0 (Or.inl rfl)]
  rw [if_neg hz] at h
  obtain ⟨hI, hF⟩ := (hIM 3 (by decide)).2 hz
  have hI : 12 ∈ L := hI
  have hF : 8 ∈ L := hF
  unfold f0_bk at h
  refine go_ifnonnull (pc := 18) (tgt := 23) C dX0_back_18 (by decide) ?_
  refine go_aload_n (pc := 23) C dX0_back_23 rfl 0 rfl ?_
  refine go_aload_n (pc := 24) C dX0_back_24 rfl 0 rfl ?_
  refine X0g_0_28 (pc := 25) C hL dX0_back_25 ?_
  refine go_iload_n (pc := 28) C dX0_back_28 rfl 1 rfl ?_
  refine go_aald (pc := 29) (t := 7) C (xa_0_28 hL) rfl hin dX0_back_29 (fun _ => ?_)
  show Go Γ 0 0 (XW Γ.d A L E s0) 30 [(0, .ref (A.1 0 0)), (1, .int (3 : Int32))] (va_rf (xrq Γ.d A 0 28 3 ((s0 0).2.1 28 3)) :: [.ref (A.1 0 0)])
  rw [hval s0 (Or.inl rfl)]
  refine go_getfieldN (pc := 30) C (ci := 13) (fs := [.ref (A.1 8 0), .int ((s0 12).1 1), .int ((s0 12).1 2)]) (xO hI hL.1) xc13i in_X15 1 (by decide) X0fl_X15_1 rfl dX0_back_30 ?_
  have htail : ∀ (s1 : Nat → Bl), (s1 0).2.1 = (s0 0).2.1 → ∀ {r : Int32}, r = (if (s1 0).1 0 = 0 then (0 : Int32) else ((upX s1 0 (bI (s1 0) 5 ((s1 12).1 2))) 1).1 6) → r = r9 → upX s1 0 (bI (s1 0) 5 ((s1 12).1 2)) = s9 → Go Γ 0 0 (XW Γ.d A L E s1) 59 [(0, .ref (A.1 0 0)), (1, .int (3 : Int32))] [] := by
    intro s1 e1 r hr h1 h2
    subst h1; subst h2
    refine go_aload_n (pc := 59) C dX0_back_59 rfl 0 rfl ?_
    refine go_aload_n (pc := 60) C dX0_back_60 rfl 0 rfl ?_
    refine X0g_0_28 (pc := 61) C hL dX0_back_61 ?_
    refine go_iload_n (pc := 64) C dX0_back_64 rfl 1 rfl ?_
    refine go_aald (pc := 65) (t := 7) C (xa_0_28 hL) rfl hin dX0_back_65 (fun _ => ?_)
    show Go Γ 0 0 (XW Γ.d A L E s1) 66 [(0, .ref (A.1 0 0)), (1, .int (3 : Int32))] (va_rf (xrq Γ.d A 0 28 3 ((s1 0).2.1 28 3)) :: [.ref (A.1 0 0)])
    rw [hval s1 (Or.inr e1)]
    refine go_getfieldN (pc := 66) C (ci := 13) (fs := [.ref (A.1 8 0), .int ((s1 12).1 1), .int ((s1 12).1 2)]) (xO hI hL.1) xc13i in_X15 2 (by decide) X0fl_X15_2 rfl dX0_back_66 ?_
    refine X0p_0_5 (pc := 69) C hL dX0_back_69 ?_
    refine go_aload_n (pc := 72) C dX0_back_72 rfl 0 rfl ?_
    have e5 : ((upX s1 0 (bI (s1 0) 5 ((s1 12).1 2))) 0).1 0 = (s1 0).1 0 := by rw [upX_self]; rfl
    by_cases c : (s1 0).1 0 = 0
    · rw [if_pos c] at hr
      subst hr
      refine X0g_0_0N (pc := 73) C hL (by rw [e5]; exact c) dX0_back_73 ?_
      refine go_ifnonnullN (pc := 76) C dX0_back_76 ?_
      refine go_iconst (pc := 79) (v := (0 : Int32)) C dX0_back_79 (by decide) ?_
      refine go_goto (pc := 80) (tgt := 90) C dX0_back_80 (by decide) ?_
      exact (hE _ _ _ 90 _ (Nat.zero_le _) (Nat.zero_le _)).1 _ rfl dX0_back_90 ⟨rfl, rfl⟩
    · rw [if_neg c] at hr
      subst hr
      refine X0g_0_0 (pc := 73) C hL (by rw [e5]; exact c) dX0_back_73 ?_
      refine go_ifnonnull (pc := 76) (tgt := 83) C dX0_back_76 (by decide) ?_
      refine go_aload_n (pc := 83) C dX0_back_83 rfl 0 rfl ?_
      refine X0g_0_0 (pc := 84) C hL (by rw [e5]; exact c) dX0_back_84 ?_
      refine X0g_1_6 (pc := 87) C hL dX0_back_87 ?_
      exact (hE _ _ _ 90 _ (Nat.zero_le _) (Nat.zero_le _)).1 _ rfl dX0_back_90 ⟨rfl, rfl⟩
  refine go_if_eq (pc := 33) (tgt := 55) C dX0_back_33 (by decide) h (fun h => ?_) (fun h => ?_)
  · have h := Option.some.inj h
    simp only [Prod.mk.injEq] at h
    refine go_aconst_null (pc := 55) C dX0_back_55 ?_
    refine X0p_0_0N (pc := 56) C hL dX0_back_56 ?_
    exact htail _ (by rw [upX_self]; rfl) (r := 0) (by rw [upX_self, if_pos]; rfl) h.1 h.2
  · obtain ⟨σ, e4, h⟩ := bnd_some h
    have h := Option.some.inj h
    simp only [Prod.mk.injEq] at h
    refine go_aload_n (pc := 36) C dX0_back_36 rfl 0 rfl ?_
    refine X0g_0_1 (pc := 37) C hL dX0_back_37 ?_
    refine go_aload_n (pc := 40) C dX0_back_40 rfl 0 rfl ?_
    refine X0g_0_28 (pc := 41) C hL dX0_back_41 ?_
    refine go_iload_n (pc := 44) C dX0_back_44 rfl 1 rfl ?_
    refine go_aald (pc := 45) (t := 7) C (xa_0_28 hL) rfl hin dX0_back_45 (fun _ => ?_)
    show Go Γ 0 0 (XW Γ.d A L E s0) 46 [(0, .ref (A.1 0 0)), (1, .int (3 : Int32))] (va_rf (xrq Γ.d A 0 28 3 ((s0 0).2.1 28 3)) :: [.ref (A.1 1 0), .ref (A.1 0 0)])
    rw [hval s0 (Or.inl rfl)]
    refine go_getfieldN (pc := 46) C (ci := 13) (fs := [.ref (A.1 8 0), .int ((s0 12).1 1), .int ((s0 12).1 2)]) (xO hI hL.1) xc13i in_X15 0 (by decide) X0fl_X15_0 rfl dX0_back_46 ?_
    refine go_callVa (pc := 49) C [.ref (A.1 8 0)] (Mt.x2 (j := 1) (i := 8) (hL.2 1 (by decide)) hF (by decide) hL.1 (m1_copies e4)) q691 q552 q553 q139 q554 x1pd_copies (by decide) (by decide) (xO (hL.2 1 (by decide)) hL.1) xc1 rfl (Nat.le_of_ble_eq_true rfl) ⟨Nat.zero_le _, Nat.zero_le _⟩ dX0_back_49 rfl ?_
    refine go_goto (pc := 52) (tgt := 56) C dX0_back_52 (by decide) ?_
    refine X0p_0_0 (pc := 56) C hL dX0_back_56 ?_
    exact htail _ (by rw [upX_self, upX_ne (by decide)]; rfl) (r := r9) (by rw [← h.1, upX_self, if_neg]; exact fun z => by simp [bI] at z) rfl h.2
theorem v03 {v1 r1 : Int32} (h : f0_in v1.toInt64 (0 : Int64) (3 : Int64) = some r1) (h0 : ¬ r1 = 0) : v1 = 0 ∨ v1 = 1 ∨ v1 = 2 ∨ v1 = 3 := by
  unfold f0_in at h
  by_cases c1 : lg_cmp v1.toInt64 (0 : Int64) < 0
  · rw [if_pos c1] at h; exact absurd (Option.some.inj h).symm h0
  · rw [if_neg c1] at h
    by_cases c2 : 0 < lg_cmp v1.toInt64 (3 : Int64)
    · rw [if_pos c2] at h; exact absurd (Option.some.inj h).symm h0
    · have g1 := (lg_cmp_ge _ _).mp (Int32.not_lt.mp c1)
      have g2 := (lg_cmp_le _ _).mp (Int32.not_lt.mp c2)
      rw [Int64.le_iff_toInt_le, Int32.toInt_toInt64] at g1 g2
      have g1 : 0 ≤ v1.toInt := g1
      have g2 : v1.toInt ≤ 3 := g2
      have hx : v1.toInt = 0 ∨ v1.toInt = 1 ∨ v1.toInt = 2 ∨ v1.toInt = 3 := by omega
      rcases hx with e | e | e | e
      · exact Or.inl (Int32.toInt_inj.mp e)
      · exact Or.inr (Or.inl (Int32.toInt_inj.mp e))
      · exact Or.inr (Or.inr (Or.inl (Int32.toInt_inj.mp e)))
      · exact Or.inr (Or.inr (Or.inr (Int32.toInt_inj.mp e)))
theorem m0_image {l : Launch} {d : gD} {A : XA} {L : List Nat} {E : va_W} {s0 : Nat → Bl} {v1 r9 : Int32} {s9 : Nat → Bl} (hL : xOK L) (h14 : 14 ∉ L) (hIM : xIM L s0) (h : f0_image s0 v1 = some (r9, s9)) : Mt l d yX0_image cX0_image 3 (some .int) (3, 19, 1712) 130 (XW d A L E s0) [.ref (A.1 0 0), .int v1] (fun v w => v = some (.int r9) ∧ ∃ (A' : XA) (L' : List Nat), w = XW d A' L' E s9 ∧ xOK L' ∧ xIM L' s9 ∧ 14 ∉ L' ∧ A'.2.2 = A.2.2 ∧ A'.1 0 = A.1 0) := by
  refine Mt.of x0pn (Nat.le_of_ble_eq_true rfl) ?_
  intro Γ hl hd hN C hE
  subst hl; subst hd
  show Go Γ 0 0 (XW Γ.d A L E s0) 0 [(0, .ref (A.1 0 0)), (1, .int v1)] []
  unfold f0_image at h
  obtain ⟨r1, e1, h⟩ := bnd_some h
  refine go_iload_n (pc := 0) C dX0_image_0 rfl 1 rfl ?_
  refine go_i2l (pc := 1) C dX0_image_1 ?_
  refine go_lconst (pc := 2) (v := (0 : Int64)) C dX0_image_2 (by decide) ?_
  refine go_ldc2 (pc := 3) (v := (3 : Int64)) C dX0_image_3 q1101 ?_
  refine go_callSi (pc := 6) C [.long v1.toInt64, .long (0 : Int64), .long (3 : Int64)] (m0_in e1) q939 q647 q138 q648 x0pd_in (by decide) (by decide) rfl (Nat.le_of_ble_eq_true rfl) ⟨Nat.zero_le _, Nat.zero_le _⟩ dX0_image_6 rfl ?_
  by_cases hr : r1 = 0
  · rw [if_pos hr] at h
    have h := Option.some.inj h
    simp only [Prod.mk.injEq] at h
    obtain ⟨rfl, rfl⟩ := h
    refine go_if_ne (A := none) (B := some ()) (r := ()) (pc := 9) (tgt := 14) C dX0_image_9 (by decide) (by rw [if_pos hr]) (fun h => by cases h) (fun _ => ?_)
    refine go_iconst (pc := 12) (v := (-1 : Int32)) C dX0_image_12 (by decide) ?_
    exact (hE _ _ _ 13 _ (Nat.zero_le _) (Nat.zero_le _)).1 _ rfl dX0_image_13 ⟨rfl, A, L, rfl, hL, hIM, h14, rfl, rfl⟩
  · rw [if_neg hr] at h
    refine go_if_ne (A := some ()) (B := none) (r := ()) (pc := 9) (tgt := 14) C dX0_image_9 (by decide) (by rw [if_neg hr]) (fun _ => ?_) (fun h => by cases h)
    rcases v03 e1 hr with rfl | rfl | rfl | rfl
    · exact im_go0 hL h14 hIM hN C hE h
    · exact im_go1 hL h14 hIM hN C hE h
    · exact im_go2 hL h14 hIM hN C hE h
    · exact im_go3 hL h14 hIM hN C hE h
theorem m0_back {l : Launch} {d : gD} {A : XA} {L : List Nat} {E : va_W} {s0 : Nat → Bl} {v1 r9 : Int32} {s9 : Nat → Bl} (hL : xOK L) (hIM : xIM L s0) (h : f0_back s0 v1 = some (r9, s9)) : Mt l d yX0_back cX0_back 2 (some .int) (3, 0, 0) 100 (XW d A L E s0) [.ref (A.1 0 0), .int v1] (fun v w => v = some (.int r9) ∧ w = XW d A L E s9) := by
  refine Mt.of x0pn (Nat.le_of_ble_eq_true rfl) ?_
  intro Γ hl hd hN C hE
  subst hl; subst hd
  show Go Γ 0 0 (XW Γ.d A L E s0) 0 [(0, .ref (A.1 0 0)), (1, .int v1)] []
  unfold f0_back at h
  obtain ⟨r1, e1, h⟩ := bnd_some h
  refine go_iload_n (pc := 0) C dX0_back_0 rfl 1 rfl ?_
  refine go_i2l (pc := 1) C dX0_back_1 ?_
  refine go_lconst (pc := 2) (v := (0 : Int64)) C dX0_back_2 (by decide) ?_
  refine go_ldc2 (pc := 3) (v := (3 : Int64)) C dX0_back_3 q1101 ?_
  refine go_callSi (pc := 6) C [.long v1.toInt64, .long (0 : Int64), .long (3 : Int64)] (m0_in e1) q939 q647 q138 q648 x0pd_in (by decide) (by decide) rfl (Nat.le_of_ble_eq_true rfl) ⟨Nat.zero_le _, Nat.zero_le _⟩ dX0_back_6 rfl ?_
  by_cases hr : r1 = 0
  · rw [if_pos hr] at h
    have h := Option.some.inj h
    simp only [Prod.mk.injEq] at h
    obtain ⟨rfl, rfl⟩ := h
    refine go_if_eq (A := some ()) (B := none) (r := ()) (pc := 9) (tgt := 21) C dX0_back_9 (by decide) (by rw [if_pos hr]) (fun _ => ?_) (fun h => by cases h)
    refine go_iconst (pc := 21) (v := (-1 : Int32)) C dX0_back_21 (by decide) ?_
    exact (hE _ _ _ 22 _ (Nat.zero_le _) (Nat.zero_le _)).1 _ rfl dX0_back_22 ⟨rfl, rfl⟩
  · rw [if_neg hr] at h
    refine go_if_eq (A := none) (B := some ()) (r := ()) (pc := 9) (tgt := 21) C dX0_back_9 (by decide) (by rw [if_neg hr]) (fun h => by cases h) (fun _ => ?_)
    rcases v03 e1 hr with rfl | rfl | rfl | rfl
    · exact bk_go0 hL hIM hN C hE h
    · exact bk_go1 hL hIM hN C hE h
    · exact bk_go2 hL hIM hN C hE h
    · exact bk_go3 hL hIM hN C hE h

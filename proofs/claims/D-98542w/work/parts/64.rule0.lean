/-! PartyRaft.rule -/
set_option maxRecDepth 100000
/-- the k-th rule lies at q -/
def upQ (A : XA) (k q : Nat) : XA := (A.1, A.2.1, fun i => if i = k then q else A.2.2 i)
theorem bFs_cg {a : Nat → Nat} {rf rf' : rF} {σ : Bl} : ∀ (FK : FKs) (o : Nat), (∀ f, rf f (σ.1 f) = rf' f (σ.1 f)) → bFs a rf σ o FK = bFs a rf' σ o FK
  | [], _, _ => rfl
  | x :: t, o, h => by
    rw [bFs, bFs, bFs_cg t (o + 1) h]
    congr 1
    match x.1 with
    | 0 => rfl
    | 5 => exact h o
    | 1 => rfl
    | 2 => rfl
    | 3 => rfl
    | 4 => rfl
    | k + 6 => rfl
theorem bAs_cg {cA : Nat → ClassId} {a : Nat → Nat} {rq rq' : rQ} {σ : Bl} : ∀ (FK : FKs) (o : Nat), (∀ (f : Nat) (x : Nat × Nat), FK[f]? = some x → 6 ≤ x.1 → ∀ i, rq (o + f) i (σ.2.1 (o + f) i) = rq' (o + f) i (σ.2.1 (o + f) i)) → bAs cA a rq σ o FK = bAs cA a rq' σ o FK
  | [], _, _ => rfl
  | x :: t, o, h => by
    rw [bAs, bAs, bAs_cg (rq := rq) (rq' := rq') t (o + 1) (fun f y hy h6 i => by have := h (f + 1) y (by simpa using hy) h6 i; rw [show o + 1 + f = o + (f + 1) by omega]; exact this)]
    have h0 := h 0 x rfl
    congr 1
    match hx : x.1 with
    | 0 => rfl
    | 5 => rfl
    | 1 => rfl
    | 2 => rfl
    | 3 => rfl
    | 4 => rfl
    | k + 6 =>
      have h1 : ∀ i, rq o i (σ.2.1 o i) = rq' o i (σ.2.1 o i) := fun i => h0 (by omega) i
      simp only [bC, h1]
theorem FK0_refs : ∀ f, f < 29 → 6 ≤ (FK0.getD f (0, 0)).1 → f = 9 ∨ f = 10 ∨ f = 11 ∨ f = 12 ∨ f = 28 := by decide
theorem XB0_cg {d : gD} {A A' : XA} {σ : Bl} (h1 : A'.1 0 = A.1 0) (h2 : ∀ f, xrf A 0 f (σ.1 f) = xrf A' 0 f (σ.1 f)) (h3 : ∀ f, (f = 9 ∨ f = 10 ∨ f = 11 ∨ f = 12 ∨ f = 28) → ∀ i, xrq d A 0 f i (σ.2.1 f i) = xrq d A' 0 f i (σ.2.1 f i)) : XB d A 0 σ = XB d A' 0 σ := by
  show bWr d 0 FK0 (A.1 0) (xrf A 0) (xrq d A 0) σ = bWr d 0 FK0 (A'.1 0) (xrf A' 0) (xrq d A' 0) σ
  unfold bWr
  rw [h1, bFs_cg FK0 0 h2, bAs_cg (rq := xrq d A 0) (rq' := xrq d A' 0) FK0 0 (fun f x hx h6 i => by
    rw [Nat.zero_add]
    have hl : f < 29 := (List.getElem?_eq_some_iff.mp hx).1
    refine h3 f (FK0_refs f hl ?_) i
    rw [List.getD_eq_getElem?_getD, hx]; exact h6)]
theorem xrq_Q {d : gD} {A : XA} {σ : Bl} {k q : Nat} (h : σ.2.1 12 k = 0) : ∀ f, (f = 9 ∨ f = 10 ∨ f = 11 ∨ f = 12 ∨ f = 28) → ∀ i, xrq d A 0 f i (σ.2.1 f i) = xrq d (upQ A k q) 0 f i (σ.2.1 f i) := by
  intro f hf i
  rcases hf with rfl | rfl | rfl | rfl | rfl
  · rfl
  · rfl
  · rfl
  · show (if σ.2.1 12 i = 0 then none else some (A.2.2 i)) = (if σ.2.1 12 i = 0 then none else some (if i = k then q else A.2.2 i))
    by_cases hi : i = k
    · subst hi; rw [if_pos h, if_pos h]
    · rw [if_neg hi]
  · rfl
theorem XB_Q {d : gD} {A : XA} {k q j : Nat} {σ : Bl} (h : j = 0 → σ.2.1 12 k = 0) : XB d A j σ = XB d (upQ A k q) j σ := by
  match j, h with
  | 0, h => exact XB0_cg rfl (fun f => rfl) (xrq_Q (h rfl))
  | 1, _ => rfl
  | 2, _ => rfl
  | 3, _ => rfl
  | 4, _ => rfl
  | 5, _ => rfl
  | 6, _ => rfl
  | 7, _ => rfl
  | 8, _ => rfl
  | 9, _ => rfl
  | 10, _ => rfl
  | 11, _ => rfl
  | 12, _ => rfl
  | 13, _ => rfl
  | 14, _ => rfl
  | j + 15, _ => rfl
theorem flat_cg {d : gD} {A A' : XA} {x : Nat → Bl} : ∀ (L : List Nat), (∀ j ∈ L, XB d A j (x j) = XB d A' j (x j)) → L.flatMap (fun j => XB d A j (x j)) = L.flatMap (fun j => XB d A' j (x j))
  | [], _ => rfl
  | i :: t, h => by
    simp only [List.flatMap_cons]
    rw [h i List.mem_cons_self, flat_cg t (fun j hj => h j (List.mem_cons_of_mem _ hj))]
theorem XW_Q {d : gD} {A : XA} {L : List Nat} {E : va_W} {x : Nat → Bl} {k q : Nat} (h : (x 0).2.1 12 k = 0) : XW d A L E x = XW d (upQ A k q) L E x := by
  unfold XW
  rw [flat_cg L (fun j _ => XB_Q (fun e => by subst e; exact h))]
/-- what rule makes: nothing, or a rule -/
def f0_rule (n : Nat) (s0 : Nat → Bl) : Option ((Int32 × (Nat → Bl) × Option Rf) × (Nat × Nat)) :=
  if (s0 0).1 13 = (6 : Int32) then some (((-1 : Int32), s0, none), (0, 0)) else
  match f4_ruleTold n (upX s0 14 s1i) with
  | none => none
  | some (.inl s1, c) => bnd (f0_faulted s1) (fun r => some ((r, upX s1 0 (bI (s1 0) 8 0), none), (1 + c.1, 7 + c.2)))
  | some (.inr (f, s1), c) => chk (inB ((s0 0).1 13) 6) (chk (decide ((s1 0).2.1 12 ((s0 0).1 13).toNatClampNeg = 0))
      (ltv (upX (upX s1 0 (bA (s1 0) 12 ((s0 0).1 13).toNatClampNeg 1)) 0 (bI ((upX s1 0 (bA (s1 0) 12 ((s0 0).1 13).toNatClampNeg 1)) 0) 13 (((upX s1 0 (bA (s1 0) 12 ((s0 0).1 13).toNatClampNeg 1)) 0).1 13 + (1 : Int32)))) (fun s3 =>
        some (((s0 0).1 13, upX s3 0 (bI (s3 0) 8 0), some f), (1 + c.1, 7 + c.2)))))
theorem m0_rule {l : Launch} {d : gD} {A : XA} {L : List Nat} {E : va_W} {s0 : Nat → Bl} {nn : Nat} {r9 : Int32} {s9 : Nat → Bl} {mk : Option Rf} {c9 d9 : Nat} (hL : xOK L) (h14 : 14 ∉ L) (h : f0_rule nn s0 = some ((r9, s9, mk), (c9, d9))) : MtW l d yX0_rule cX0_rule 3 (some .int) [(16, 46, 49, 25)] (14 + 3 * nn, c9, d9) (800 + 400 * nn) (XW d A L E s0) [.ref (A.1 0 0)] (fun v w => v = some (.int r9) ∧ ∃ (A' : XA) (E9 : va_W), w = XW d A' L (E ++ E9) s9 ∧ (mk = none → A' = A) ∧ ∀ f, mk = some f → ∃ q : Nat, A' = upQ A ((s0 0).1 13).toNatClampNeg q ∧ rAt (E ++ E9) d f.2 q f.1) := by
  refine MtW.of (by decide +kernel) (Nat.le_of_ble_eq_true rfl) ?_
  intro Γ hl hd hN hT C hE
  subst hl; subst hd
  show Go Γ 0 0 (XW Γ.d A L E s0) 0 [(0, .ref (A.1 0 0))] []
  unfold f0_rule at h
  refine go_aload_n (pc := 0) C dX0_rule_0 rfl 0 rfl ?_
  refine X0g_0_13 (pc := 1) C hL dX0_rule_1 ?_
  refine go_bipush (pc := 4) (v := (6 : Int32)) C dX0_rule_4 (by decide) ?_
  refine go_icmp_ne (pc := 6) (tgt := 11) C dX0_rule_6 (by decide) h (fun h => ?_) (fun h => ?_)
  case refine_2 =>
    have h := Option.some.inj h
    simp only [Prod.mk.injEq] at h
    obtain ⟨⟨rfl, rfl, rfl⟩, rfl, rfl⟩ := h
    refine go_iconst (pc := 9) (v := (-1 : Int32)) C dX0_rule_9 (by decide) ?_
    exact hE _ _ _ 10 _ _ (Nat.le_refl _) (Nat.le_refl _) dX0_rule_10 ⟨rfl, A, [], by rw [List.append_nil], fun _ => rfl, fun f hf => by cases hf⟩
  -- the end
  have hend : ∀ (s : Nat → Bl) (r : Int32) (k n : Nat) (A' : XA) (E9 : va_W), A'.1 = A.1 → r = r9 → upX s 0 (bI (s 0) 8 0) = s9 → k ≤ c9 → n ≤ d9 → ((mk = none → A' = A) ∧ ∀ f, mk = some f → ∃ q : Nat, A' = upQ A ((s0 0).1 13).toNatClampNeg q ∧ rAt (E ++ E9) Γ.d f.2 q f.1) → Go Γ k n (XW Γ.d A' L (E ++ E9) s) 55 [(1, .int r), (0, .ref (A'.1 0 0))] [] := by
    intro s r k n A' E9 hA hr hs hk hn hp
    subst hr; subst hs
    refine go_aload_n (pc := 55) C dX0_rule_55 rfl 1 rfl ?_
    refine go_iconst (pc := 56) (v := (0 : Int32)) C dX0_rule_56 (by decide) ?_
    refine X0p_0_8 (pc := 57) C hL dX0_rule_57 ?_
    refine go_iload_n (pc := 60) C dX0_rule_60 rfl 0 rfl ?_
    exact hE _ _ _ 61 _ _ hk hn dX0_rule_61 ⟨rfl, A', E9, rfl, hp⟩
  refine go_aload_n (pc := 11) C dX0_rule_11 rfl 0 rfl ?_
  refine X0g_0_13 (pc := 12) C hL dX0_rule_12 ?_
  refine go_istore_n (pc := 15) C hN dX0_rule_15 rfl (by decide) rfl ?_
  refine go_aload_n (pc := 16) C dX0_rule_16 rfl 1 rfl ?_
  refine X0g_0_12 (pc := 17) C hL dX0_rule_17 ?_
  refine go_aload_n (pc := 20) C dX0_rule_20 rfl 1 rfl ?_
  refine X0g_0_13 (pc := 21) C hL dX0_rule_21 ?_
  match e1 : f4_ruleTold nn (upX s0 14 s1i), h with
  | some (r1, (cc9, dd9)), h =>
    have hcd : c9 = 1 + cc9 ∧ d9 = 7 + dd9 := by
      match r1, h with
      | .inl s1, h =>
        obtain ⟨r2, e2, h⟩ := bnd_some h
        have h := Option.some.inj h
        simp only [Prod.mk.injEq] at h
        exact ⟨h.2.1.symm, h.2.2.symm⟩
      | .inr (f, s1), h =>
        have h := Option.some.inj (chk_some (chk_some h).2).2
        simp only [Prod.mk.injEq] at h
        exact ⟨h.2.1.symm, h.2.2.symm⟩
    obtain ⟨rfl, rfl⟩ := hcd
    refine go_new (pc := 24) (ci := 4) (T := TX4) (N := 7) (fs := [.null, .null, .int 0, .int 0, .int 0, .int 0, .null]) C in_X4 tyX4 tyX4_ok q519 q520 q145 rfl (dflt_all (by decide +kernel)) ⟨by show 0 + 1 ≤ 1 + cc9; omega, by show 0 + 7 ≤ 7 + dd9; omega⟩ dX0_rule_24 (fun q => ?_)
    refine go_dup (pc := 27) C dX0_rule_27 rfl ?_
    refine go_aload_n (pc := 28) C dX0_rule_28 rfl 1 rfl ?_
    refine go_callIN (pc := 29) (nA := 1) C [.ref (A.1 0 0)] (m4_init hL) q521 q522 q145 q523 rfl (by decide +kernel) ⟨by show 1 + 1 ≤ 14 + 3 * nn; omega, by omega⟩ rfl (Nat.le_of_ble_eq_true rfl) ⟨by show 0 + 1 + 0 ≤ 1 + cc9; omega, by show 0 + 7 + 0 ≤ 7 + dd9; omega⟩ dX0_rule_29 rfl (fun v9 w9 h9 => ?_)
    obtain ⟨rfl, rfl⟩ := h9
    refine go_perm (XW_text h14) ?_
    have hL' := xOK14 h14 hL
    refine go_callVX (pc := 32) (b := (up14 A q).1 14 0) C [] (m4_ruleTold hL' List.mem_cons_self nn _ _ _ e1) q700 q701 q702 q145 q703 x4pd_ruleTold (by show 13 + 3 * nn + 1 ≤ 14 + 3 * nn; omega) (by omega) (xO List.mem_cons_self hL'.1) (N := 7) (T := TX4) rfl rfl (Nat.le_of_ble_eq_true rfl) ⟨by show 0 + 1 + 0 + cc9 ≤ 1 + cc9; omega, by show 0 + 7 + 0 + dd9 ≤ 7 + dd9; omega⟩ dX0_rule_32 rfl (fun v9 w9 hp => ?_) (fun w9 hp => ?_)
    · obtain ⟨s1, f, a9, E9, rfl, rfl, rfl, hv⟩ := hp
      refine go_drop (XW_untext h14) ?_
      obtain ⟨hi, h⟩ := chk_some h
      obtain ⟨hz, h⟩ := chk_some h
      have hz : (s1 0).2.1 12 ((s0 0).1 13).toNatClampNeg = 0 := of_decide_eq_true hz
      have h := h
      rw [XW_Q (q := a9) hz]
      have hcell : ∃ fs, hasO (E ++ E9) a9 5 fs := by obtain ⟨ca, qf, h1, -⟩ := hv; exact ⟨_, h1⟩
      obtain ⟨fs5, hcell⟩ := hcell
      have hput : putA (XW Γ.d (upQ A ((s0 0).1 13).toNatClampNeg a9) L (E ++ E9) s1) (A.1 0 (12 + 1)) (Γ.d.2.1 6, 6, .inr (.inr (.inr (.inr (fun i => xrq Γ.d (upQ A ((s0 0).1 13).toNatClampNeg a9) 0 12 i ((s1 0).2.1 12 i)))))) (Γ.d.2.1 6, 6, .inr (.inr (.inr (.inr (va_up (fun i => xrq Γ.d (upQ A ((s0 0).1 13).toNatClampNeg a9) 0 12 i ((s1 0).2.1 12 i)) ((s0 0).1 13).toNatClampNeg (some a9)))))) (XW Γ.d (upQ A ((s0 0).1 13).toNatClampNeg a9) L (E ++ E9) (upX s1 0 (bA (s1 0) 12 ((s0 0).1 13).toNatClampNeg 1))) := by
        have g := bW_putQ (d := Γ.d) (ci := 0) (FK := FK0) (a := A.1 0) (rf := xrf A 0) (rq := xrq Γ.d (upQ A ((s0 0).1 13).toNatClampNeg a9) 0) (σ := s1 0) (f := 12) (k := 2) (z := 6) (i := ((s0 0).1 13).toNatClampNeg) (v := 1) rfl
        have e : (fun j => xrq Γ.d (upQ A ((s0 0).1 13).toNatClampNeg a9) 0 12 j (upd ((s1 0).2.1 12) ((s0 0).1 13).toNatClampNeg 1 j)) = va_up (fun i => xrq Γ.d (upQ A ((s0 0).1 13).toNatClampNeg a9) 0 12 i ((s1 0).2.1 12 i)) ((s0 0).1 13).toNatClampNeg (some a9) := by
          funext j
          by_cases hj : j = ((s0 0).1 13).toNatClampNeg
          · rw [hj, va_up_self]
            show (if upd ((s1 0).2.1 12) ((s0 0).1 13).toNatClampNeg 1 ((s0 0).1 13).toNatClampNeg = 0 then none else some (if ((s0 0).1 13).toNatClampNeg = ((s0 0).1 13).toNatClampNeg then a9 else A.2.2 ((s0 0).1 13).toNatClampNeg)) = some a9
            have e1 : upd ((s1 0).2.1 12) ((s0 0).1 13).toNatClampNeg 1 ((s0 0).1 13).toNatClampNeg = 1 := by simp [upd]
            rw [e1, if_neg (by decide), if_pos rfl]
          · rw [va_up_ne _ _ hj]
            have e1 : upd ((s1 0).2.1 12) ((s0 0).1 13).toNatClampNeg 1 j = (s1 0).2.1 12 j := by simp [upd, hj]
            rw [e1]
        rw [e] at g
        exact xpA (A := upQ A ((s0 0).1 13).toNatClampNeg a9) (hL.2 0 (by decide)) hL.1 g
      refine go_aastO (pc := 35) (t := 6) C hput (xhasO hcell) xc5 rfl hi dX0_rule_35 ?_
      refine go_aload_n (pc := 36) C dX0_rule_36 rfl 1 rfl ?_
      refine go_dup (pc := 37) C dX0_rule_37 rfl ?_
      refine X0g_0_13 (pc := 38) (A := upQ A ((s0 0).1 13).toNatClampNeg a9) C hL dX0_rule_38 ?_
      refine go_iconst (pc := 41) (v := (1 : Int32)) C dX0_rule_41 (by decide) ?_
      refine go_iadd (pc := 42) C dX0_rule_42 ?_
      refine X0p_0_13 (pc := 43) (A := upQ A ((s0 0).1 13).toNatClampNeg a9) C hL dX0_rule_43 ?_
      refine go_goto (pc := 46) (tgt := 55) C dX0_rule_46 (by decide) ?_
      have h := Option.some.inj h
      simp only [Prod.mk.injEq] at h
      obtain ⟨⟨h1, h2, h3⟩, -, -⟩ := h
      exact hend _ _ _ _ (upQ A ((s0 0).1 13).toNatClampNeg a9) E9 rfl h1 h2 (by show 0 + 1 + 0 + cc9 ≤ 1 + cc9; omega) (by show 0 + 7 + 0 + dd9 ≤ 7 + dd9; omega) ⟨fun e => (by rw [← h3] at e; cases e), fun f' hf => (by rw [← h3] at hf; cases hf; exact ⟨a9, rfl, hv⟩)⟩
    · obtain ⟨s1, E9, rfl, rfl⟩ := hp
      obtain ⟨r2, e2, h⟩ := bnd_some h
      refine go_catch C hT (by decide) (by decide) q307 (fun z => ?_)
      refine go_drop (XW_untext h14) ?_
      refine go_astore_n (pc := 49) C hN dX0_rule_49 rfl (by decide) rfl ?_
      refine go_aload_n (pc := 50) C dX0_rule_50 rfl 2 rfl ?_
      refine go_callVi (pc := 51) C [] (m0_faulted hL e2) q692 q694 qs17 q138 q695 x0pd_faulted (by show 0 + 1 ≤ 14 + 3 * nn; omega) (by omega) (xO (hL.2 0 (by decide)) hL.1) xc0 rfl (Nat.le_of_ble_eq_true rfl) ⟨by show 0 + 1 + 0 + cc9 ≤ 1 + cc9; omega, by show 0 + 7 + 0 + dd9 ≤ 7 + dd9; omega⟩ dX0_rule_51 rfl ?_
      refine go_istore_n (pc := 54) C hN dX0_rule_54 rfl (by decide) rfl ?_
      refine go_sub [0, 2] rfl ?_
      have h := Option.some.inj h
      simp only [Prod.mk.injEq] at h
      obtain ⟨⟨h1, h2, h3⟩, -, -⟩ := h
      exact hend s1 _ _ _ A E9 rfl h1 h2 (by show 0 + 1 + 0 + cc9 ≤ 1 + cc9; omega) (by show 0 + 7 + 0 + dd9 ≤ 7 + dd9; omega) ⟨fun _ => rfl, fun f' hf => (by rw [← h3] at hf; cases hf)⟩

/-! river() -/
set_option maxRecDepth 100000
def f0_river (s0 : Nat → Bl) : Option (Int32 × (Nat → Bl)) := match f4_riverTold (upX s0 14 s1i) with
  | none => none
  | some (.inl s1) => bnd (f0_faulted s1) (fun r => some (r, upX s1 0 (bI (s1 0) 8 0)))
  | some (.inr s1) => bnd (f1_copies (s1 1) (s1 3)) (fun σ =>
      ltv (upX (upX s1 1 σ) 0 (bI ((upX s1 1 σ) 0) 0 1)) (fun s3 => some ((s3 1).1 2, upX s3 0 (bI (s3 0) 8 0))))
theorem xOK14 {L : List Nat} (h : 14 ∉ L) (hL : xOK L) : xOK (14 :: L) := ⟨List.nodup_cons.mpr ⟨h, hL.1⟩, fun j hj => List.mem_cons_of_mem _ (hL.2 j hj)⟩
theorem m0_river {l : Launch} {d : gD} {A : XA} {L : List Nat} {E : va_W} {s0 : Nat → Bl} {r9 : Int32} {s9 : Nat → Bl} (hL : xOK L) (h14 : 14 ∉ L) (h : f0_river s0 = some (r9, s9)) : MtW l d yX0_river cX0_river 3 (some .int) [(0, 30, 33, 25)] (7, 1, 7) 160 (XW d A L E s0) [.ref (A.1 0 0)] (fun v w => v = some (.int r9) ∧ w = XW d A L E s9) := by
  refine MtW.of (by decide +kernel) (Nat.le_of_ble_eq_true rfl) ?_
  intro Γ hl hd hN hT C hE
  subst hl; subst hd
  show Go Γ 0 0 (XW Γ.d A L E s0) 0 [(0, .ref (A.1 0 0))] []
  unfold f0_river at h
  -- the end
  have hend : ∀ (s : Nat → Bl) (r : Int32) (lv : List (Nat × Value)), r = r9 → upX s 0 (bI (s 0) 8 0) = s9 → Go Γ 1 7 (XW Γ.d A L E s) 39 [(1, .int r), (0, .ref (A.1 0 0))] [] := by
    intro s r lv hr hs
    subst hr; subst hs
    refine go_aload_n (pc := 39) C dX0_river_39 rfl 1 rfl ?_
    refine go_iconst (pc := 40) (v := (0 : Int32)) C dX0_river_40 (by decide) ?_
    refine X0p_0_8 (pc := 41) C hL dX0_river_41 ?_
    refine go_iload_n (pc := 44) C dX0_river_44 rfl 0 rfl ?_
    exact hE 1 7 _ 45 _ _ (Nat.le_refl _) (Nat.le_refl _) dX0_river_45 ⟨rfl, rfl⟩
  refine go_aload_n (pc := 0) C dX0_river_0 rfl 0 rfl ?_
  refine go_aload_n (pc := 1) C dX0_river_1 rfl 0 rfl ?_
  refine X0g_0_1 (pc := 2) C hL dX0_river_2 ?_
  refine go_new (pc := 5) (ci := 4) (T := TX4) (N := 7) (fs := [.null, .null, .int 0, .int 0, .int 0, .int 0, .null]) C in_X4 tyX4 tyX4_ok q519 q520 q145 rfl (dflt_all (by decide +kernel)) ⟨by decide, by decide⟩ dX0_river_5 (fun q => ?_)
  refine go_dup (pc := 8) C dX0_river_8 rfl ?_
  refine go_aload_n (pc := 9) C dX0_river_9 rfl 0 rfl ?_
  refine go_callIN (pc := 10) (nA := 1) C [.ref (A.1 0 0)] (m4_init hL) q521 q522 q145 q523 rfl (by decide +kernel) ⟨by decide, by decide⟩ rfl (Nat.le_of_ble_eq_true rfl) ⟨by decide, by decide⟩ dX0_river_10 rfl (fun v9 w9 h9 => ?_)
  obtain ⟨rfl, rfl⟩ := h9
  refine go_perm (XW_text h14) ?_
  have hL' := xOK14 h14 hL
  match e1 : f4_riverTold (upX s0 14 s1i), h with
  | some r1, h =>
    refine go_callVXa (pc := 13) (b := (up14 A q).1 14 0) C [] (m4_riverTold hL' List.mem_cons_self e1) q547 q548 q549 q145 q550 x4pd_riverTold (by decide) (by decide) (xO List.mem_cons_self hL'.1) (N := 7) (T := TX4) rfl rfl (Nat.le_of_ble_eq_true rfl) ⟨by decide, by decide⟩ dX0_river_13 rfl (fun s1 hs => ?_) (fun s1 hs => ?_)
    · subst hs
      obtain ⟨σ, e2, h⟩ := bnd_some h
      refine go_drop (XW_untext h14) ?_
      refine go_callVa (pc := 16) C [.ref (A.1 3 0)] (Mt.x2 (hL.2 1 (by decide)) (hL.2 3 (by decide)) (by decide) hL.1 (m1_copies e2)) q691 q552 q553 q139 q554 x1pd_copies (by decide) (by decide) (xO (hL.2 1 (by decide)) hL.1) xc1 rfl (Nat.le_of_ble_eq_true rfl) ⟨by decide, by decide⟩ dX0_river_16 rfl ?_
      refine X0p_0_0 (pc := 19) C hL dX0_river_19 ?_
      refine go_aload_n (pc := 22) C dX0_river_22 rfl 0 rfl ?_
      refine go_nm (pc := 23) (fun z9 => XW Γ.d A L E z9) (fun s3 e3 => ?_)
      have h := ltv_eq e3 h
      have hz : ¬ (s3 0).1 0 = 0 := by rw [e3, upX_self]; simp [bI]
      refine X0g_0_0 (pc := 23) C hL hz dX0_river_23 ?_
      refine X0g_1_2 (pc := 26) C hL dX0_river_26 ?_
      refine go_istore_n (pc := 29) C hN dX0_river_29 rfl (by decide) rfl ?_
      refine go_goto (pc := 30) (tgt := 39) C dX0_river_30 (by decide) ?_
      exact hend s3 _ [] (some2 h).1 (some2 h).2
    · subst hs
      obtain ⟨r2, e2, h⟩ := bnd_some h
      refine go_catch C hT (by decide) (by decide) q307 (fun z => ?_)
      refine go_drop (XW_untext h14) ?_
      refine go_astore_n (pc := 33) C hN dX0_river_33 rfl (by decide) rfl ?_
      refine go_aload_n (pc := 34) C dX0_river_34 rfl 1 rfl ?_
      refine go_callVi (pc := 35) C [] (m0_faulted hL e2) q692 q694 qs17 q138 q695 x0pd_faulted (by decide) (by decide) (xO (hL.2 0 (by decide)) hL.1) xc0 rfl (Nat.le_of_ble_eq_true rfl) ⟨by decide, by decide⟩ dX0_river_35 rfl ?_
      refine go_istore_n (pc := 38) C hN dX0_river_38 rfl (by decide) rfl ?_
      refine go_sub [0, 2] rfl ?_
      exact hend s1 _ [] (some2 h).1 (some2 h).2

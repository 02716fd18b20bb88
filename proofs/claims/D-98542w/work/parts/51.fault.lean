/-! THE FAULT IS MADE: RuntimeException's chain of constructors; printed by gen/fault.py -/
set_option maxRecDepth 100000
section GO
variable {Γ : Gam} {cc : ByteArray} {own : String} {fr : Nat × Nat × Nat} {lo k n pc : Nat} {ws ws' : va_W} {lv : List (Nat × Value)} {st : List Value}
theorem go_unst (C : Cx Γ cc own fr lo) {ix : Nat} (hw : Cond.fieldLink own ix "java/lang/Throwable" "UNASSIGNED_STACK" "[Ljava/lang/StackTraceElement;" ∈ lw_all) (hd : decode cc pc = .ok (.getstatic ix, 3)) (kk : ∀ v : Value, (v = .null ∨ ∃ a, v = .ref a) → Go Γ k n ws (pc + 3) lv (v :: st)) : Go Γ k n ws pc lv st := by
  obtain ⟨p, l, e, R, s, m, args, below, meth, c, nL, d, A, Q⟩ := Γ
  obtain ⟨hx, hb, hml, hown, hts, hlk, hK, hA, hZ, ⟨hfr, hce, hsl⟩, hlo⟩ := C
  intro H locs ls hP hD hS hl
  rcases hZ.1.2.2.2.1 with h | ⟨t, h⟩
  · exact va_gets hx hb h hS hown (hts _ hw) (fun _ h => h) hd (kk _ (Or.inl rfl) H locs ls hP hD hS hl)
  · exact va_gets hx hb h hS hown (hts _ hw) (fun _ h => h) hd (kk _ (Or.inr ⟨_, rfl⟩) H locs ls hP hD hS hl)
theorem go_supp (C : Cx Γ cc own fr lo) {ix : Nat} (hw : Cond.fieldLink own ix "java/lang/Throwable" "SUPPRESSED_SENTINEL" "Ljava/util/List;" ∈ lw_all) (hd : decode cc pc = .ok (.getstatic ix, 3)) (kk : ∀ v : Value, (v = .null ∨ ∃ a, v = .ref a) → Go Γ k n ws (pc + 3) lv (v :: st)) : Go Γ k n ws pc lv st := by
  obtain ⟨p, l, e, R, s, m, args, below, meth, c, nL, d, A, Q⟩ := Γ
  obtain ⟨hx, hb, hml, hown, hts, hlk, hK, hA, hZ, ⟨hfr, hce, hsl⟩, hlo⟩ := C
  intro H locs ls hP hD hS hl
  rcases hZ.1.2.2.2.2 with h | ⟨t, h⟩
  · exact va_gets hx hb h hS hown (hts _ hw) (fun _ h => h) hd (kk _ (Or.inl rfl) H locs ls hP hD hS hl)
  · exact va_gets hx hb h hS hown (hts _ hw) (fun _ h => h) hd (kk _ (Or.inr ⟨_, rfl⟩) H locs ls hP hD hS hl)
end GO
theorem mJ0_init_2 {l : Launch} {d : gD} {b z : Nat} : Mt l d yJ0_init_2 cJ0_init_2 5 none (1, 0, 0) 20 [(b, .inr (2, [.null, .null, .null, .null, .null, .int 0, .int 0, .int 0]))] [.ref b, .ref z, .null, .int 0, .int 0] (fun v w => v = none ∧ w = [(b, .inr (2, [.null, .null, .null, .ref z, .null, .int 0, .int 0, .int 0]))]) := by
  refine Mt.ofI (by decide +kernel) (Nat.le_of_ble_eq_true rfl) rfl ?_
  intro Γ hl hd hN hI C hE
  subst hl; subst hd
  show Go Γ 0 0 [(b, .inr (2, [.null, .null, .null, .null, .null, .int 0, .int 0, .int 0]))] 0 [(0, .ref b), (1, .ref z), (2, .null), (3, .int 0), (4, .int 0)] []
  refine go_aload_n (pc := 0) C dJ0_init_2_0 rfl 0 rfl ?_
  refine go_objInit (pc := 1) C q332 q170 q171 (by decide) (by decide) dJ0_init_2_1 ?_
  refine go_aload_n (pc := 4) C dJ0_init_2_4 rfl 0 rfl ?_
  refine go_aload_n (pc := 5) C dJ0_init_2_5 rfl 0 rfl ?_
  refine go_putfield (pc := 6) (v := .ref b) (ty := .object "java/lang/Throwable") (fs := [.null, .null, .null, .null, .null, .int 0, .int 0, .int 0]) (ws' := [(b, .inr (2, [.ref b, .null, .null, .null, .null, .int 0, .int 0, .int 0]))]) C 0 ⟨0, rfl, rfl⟩ (ci := 2) rfl in_X2 tyX2 tyX2_ok nmX2 (by decide) q365 rfl rfl rfl rfl (Nat.le_of_ble_eq_true rfl) dJ0_init_2_6 ?_
  refine go_aload_n (pc := 9) C dJ0_init_2_9 rfl 0 rfl ?_
  refine go_unst (pc := 10) C q333 dJ0_init_2_10 (fun v1 e1 => ?_)
  refine go_putfield (pc := 13) (v := v1) (ty := .array (.object "java/lang/StackTraceElement")) (fs := [.ref b, .null, .null, .null, .null, .int 0, .int 0, .int 0]) (ws' := [(b, .inr (2, [.ref b, v1, .null, .null, .null, .int 0, .int 0, .int 0]))]) C 1 ⟨0, rfl, rfl⟩ (ci := 2) rfl in_X2 tyX2 tyX2_ok nmX2 (by decide) q366 rfl rfl (by rcases e1 with rfl | ⟨_, rfl⟩ <;> rfl) (by rcases e1 with rfl | ⟨_, rfl⟩ <;> rfl) (Nat.le_of_ble_eq_true rfl) dJ0_init_2_13 ?_
  refine go_aload_n (pc := 16) C dJ0_init_2_16 rfl 0 rfl ?_
  refine go_supp (pc := 17) C q335 dJ0_init_2_17 (fun v2 e2 => ?_)
  refine go_putfield (pc := 20) (v := v2) (ty := .object "java/util/List") (fs := [.ref b, v1, .null, .null, .null, .int 0, .int 0, .int 0]) (ws' := [(b, .inr (2, [.ref b, v1, v2, .null, .null, .int 0, .int 0, .int 0]))]) C 2 ⟨0, rfl, rfl⟩ (ci := 2) rfl in_X2 tyX2 tyX2_ok nmX2 (by decide) q367 rfl rfl (by rcases e2 with rfl | ⟨_, rfl⟩ <;> rfl) (by rcases e2 with rfl | ⟨_, rfl⟩ <;> rfl) (Nat.le_of_ble_eq_true rfl) dJ0_init_2_20 ?_
  refine go_iload (pc := 23) C dJ0_init_2_23 4 rfl ?_
  refine go_if_eqT (pc := 25) (tgt := 36) C dJ0_init_2_25 (by decide) rfl ?_
  refine go_aload_n (pc := 36) C dJ0_init_2_36 rfl 0 rfl ?_
  refine go_aconst_null (pc := 37) C dJ0_init_2_37 ?_
  refine go_putfield (pc := 38) (v := .null) (ty := .array (.object "java/lang/StackTraceElement")) (fs := [.ref b, v1, v2, .null, .null, .int 0, .int 0, .int 0]) (ws' := [(b, .inr (2, [.ref b, .null, v2, .null, .null, .int 0, .int 0, .int 0]))]) C 1 ⟨0, rfl, rfl⟩ (ci := 2) rfl in_X2 tyX2 tyX2_ok nmX2 (by decide) q366 rfl rfl rfl rfl (Nat.le_of_ble_eq_true rfl) dJ0_init_2_38 ?_
  refine go_aload_n (pc := 41) C dJ0_init_2_41 rfl 0 rfl ?_
  refine go_aload_n (pc := 42) C dJ0_init_2_42 rfl 1 rfl ?_
  refine go_putfield (pc := 43) (v := .ref z) (ty := .object "java/lang/String") (fs := [.ref b, .null, v2, .null, .null, .int 0, .int 0, .int 0]) (ws' := [(b, .inr (2, [.ref b, .null, v2, .ref z, .null, .int 0, .int 0, .int 0]))]) C 3 ⟨0, rfl, rfl⟩ (ci := 2) rfl in_X2 tyX2 tyX2_ok nmX2 (by decide) q364 rfl rfl rfl rfl (Nat.le_of_ble_eq_true rfl) dJ0_init_2_43 ?_
  refine go_aload_n (pc := 46) C dJ0_init_2_46 rfl 0 rfl ?_
  refine go_aload_nN (pc := 47) C dJ0_init_2_47 rfl 2 rfl ?_
  refine go_putfield (pc := 48) (v := .null) (ty := .object "java/lang/Throwable") (fs := [.ref b, .null, v2, .ref z, .null, .int 0, .int 0, .int 0]) (ws' := [(b, .inr (2, [.null, .null, v2, .ref z, .null, .int 0, .int 0, .int 0]))]) C 0 ⟨0, rfl, rfl⟩ (ci := 2) rfl in_X2 tyX2 tyX2_ok nmX2 (by decide) q365 rfl rfl rfl rfl (Nat.le_of_ble_eq_true rfl) dJ0_init_2_48 ?_
  refine go_iload_n (pc := 51) C dJ0_init_2_51 rfl 3 rfl ?_
  refine go_if_neF (pc := 52) (tgt := 60) C dJ0_init_2_52 (by decide) (by decide) ?_
  refine go_aload_n (pc := 55) C dJ0_init_2_55 rfl 0 rfl ?_
  refine go_aconst_null (pc := 56) C dJ0_init_2_56 ?_
  refine go_putfield (pc := 57) (v := .null) (ty := .object "java/util/List") (fs := [.null, .null, v2, .ref z, .null, .int 0, .int 0, .int 0]) (ws' := [(b, .inr (2, [.null, .null, .null, .ref z, .null, .int 0, .int 0, .int 0]))]) C 2 ⟨0, rfl, rfl⟩ (ci := 2) rfl in_X2 tyX2 tyX2_ok nmX2 (by decide) q367 rfl rfl rfl rfl (Nat.le_of_ble_eq_true rfl) dJ0_init_2_57 ?_
  exact (hE 0 0 _ 60 [(0, .ref b), (1, .ref z), (2, .null), (3, .int 0), (4, .int 0)] (Nat.le_refl _) (Nat.le_refl _)).2.2.2.1 rfl dJ0_init_2_60 ⟨rfl, rfl⟩
theorem mJ1_init {l : Launch} {d : gD} {b z : Nat} : Mt l d yJ1_init cJ1_init 5 none (2, 0, 0) 50 [(b, .inr (2, [.null, .null, .null, .null, .null, .int 0, .int 0, .int 0]))] [.ref b, .ref z, .null, .int 0, .int 0] (fun v w => v = none ∧ w = [(b, .inr (2, [.null, .null, .null, .ref z, .null, .int 0, .int 0, .int 0]))]) := by
  refine Mt.ofI (by decide +kernel) (Nat.le_of_ble_eq_true rfl) rfl ?_
  intro Γ hl hd hN hI C hE
  subst hl; subst hd
  show Go Γ 0 0 [(b, .inr (2, [.null, .null, .null, .null, .null, .int 0, .int 0, .int 0]))] 0 [(0, .ref b), (1, .ref z), (2, .null), (3, .int 0), (4, .int 0)] []
  refine go_aload_n (pc := 0) C dJ1_init_0 rfl 0 rfl ?_
  refine go_aload_n (pc := 1) C dJ1_init_1 rfl 1 rfl ?_
  refine go_aload_nN (pc := 2) C dJ1_init_2 rfl 2 rfl ?_
  refine go_iload_n (pc := 3) C dJ1_init_3 rfl 3 rfl ?_
  refine go_iload (pc := 4) C dJ1_init_4 4 rfl ?_
  refine go_callI (pc := 6) (nA := 4) C [.ref z, .null, .int 0, .int 0] (mJ0_init_2 (b := b) (z := z)) q356 q357 q140 q358 rfl (by decide +kernel) ⟨by decide, by decide⟩ rfl (by decide) ⟨by decide, by decide⟩ dJ1_init_6 rfl (fun v9 w9 h9 => ?_)
  obtain ⟨rfl, rfl⟩ := h9
  exact (hE 0 0 _ 9 [(0, .ref b), (1, .ref z), (2, .null), (3, .int 0), (4, .int 0)] (Nat.le_refl _) (Nat.le_refl _)).2.2.2.1 rfl dJ1_init_9 ⟨rfl, rfl⟩
theorem mJ2_init {l : Launch} {d : gD} {b z : Nat} : Mt l d yJ2_init cJ2_init 5 none (3, 0, 0) 80 [(b, .inr (2, [.null, .null, .null, .null, .null, .int 0, .int 0, .int 0]))] [.ref b, .ref z, .null, .int 0, .int 0] (fun v w => v = none ∧ w = [(b, .inr (2, [.null, .null, .null, .ref z, .null, .int 0, .int 0, .int 0]))]) := by
  refine Mt.ofI (by decide +kernel) (Nat.le_of_ble_eq_true rfl) rfl ?_
  intro Γ hl hd hN hI C hE
  subst hl; subst hd
  show Go Γ 0 0 [(b, .inr (2, [.null, .null, .null, .null, .null, .int 0, .int 0, .int 0]))] 0 [(0, .ref b), (1, .ref z), (2, .null), (3, .int 0), (4, .int 0)] []
  refine go_aload_n (pc := 0) C dJ2_init_0 rfl 0 rfl ?_
  refine go_aload_n (pc := 1) C dJ2_init_1 rfl 1 rfl ?_
  refine go_aload_nN (pc := 2) C dJ2_init_2 rfl 2 rfl ?_
  refine go_iload_n (pc := 3) C dJ2_init_3 rfl 3 rfl ?_
  refine go_iload (pc := 4) C dJ2_init_4 4 rfl ?_
  refine go_callI (pc := 6) (nA := 4) C [.ref z, .null, .int 0, .int 0] (mJ1_init (b := b) (z := z)) q353 q354 q141 q355 rfl (by decide +kernel) ⟨by decide, by decide⟩ rfl (by decide) ⟨by decide, by decide⟩ dJ2_init_6 rfl (fun v9 w9 h9 => ?_)
  obtain ⟨rfl, rfl⟩ := h9
  exact (hE 0 0 _ 9 [(0, .ref b), (1, .ref z), (2, .null), (3, .int 0), (4, .int 0)] (Nat.le_refl _) (Nat.le_refl _)).2.2.2.1 rfl dJ2_init_9 ⟨rfl, rfl⟩
theorem m2_init {l : Launch} {d : gD} {b : Nat} : Mt l d yX2_init cX2_init 1 none (4, 0, 0) 110 [(b, .inr (2, [.null, .null, .null, .null, .null, .int 0, .int 0, .int 0]))] [.ref b] (fun v w => v = none ∧ w = [(b, .inr (2, [.null, .null, .null, .ref (d.2.2.1 0), .null, .int 0, .int 0, .int 0]))]) := by
  refine Mt.ofI (by decide +kernel) (Nat.le_of_ble_eq_true rfl) rfl ?_
  intro Γ hl hd hN hI C hE
  subst hl; subst hd
  show Go Γ 0 0 [(b, .inr (2, [.null, .null, .null, .null, .null, .int 0, .int 0, .int 0]))] 0 [(0, .ref b)] []
  refine go_aload_n (pc := 0) C dX2_init_0 rfl 0 rfl ?_
  refine go_ldcS 0 (pc := 1) C dX2_init_1 (by decide +kernel) ?_
  refine go_aconst_null (pc := 3) C dX2_init_3 ?_
  refine go_iconst (pc := 4) (v := (0 : Int32)) C dX2_init_4 (by decide) ?_
  refine go_iconst (pc := 5) (v := (0 : Int32)) C dX2_init_5 (by decide) ?_
  refine go_callI (pc := 6) (nA := 4) C [.ref (Γ.d.2.2.1 0), .null, .int 0, .int 0] (mJ2_init (b := b) (z := Γ.d.2.2.1 0)) q350 q351 q142 q352 rfl (by decide +kernel) ⟨by decide, by decide⟩ rfl (by decide) ⟨by decide, by decide⟩ dX2_init_6 rfl (fun v9 w9 h9 => ?_)
  obtain ⟨rfl, rfl⟩ := h9
  exact (hE 0 0 _ 9 [(0, .ref b)] (Nat.le_refl _) (Nat.le_refl _)).2.2.2.1 rfl dX2_init_9 ⟨rfl, rfl⟩

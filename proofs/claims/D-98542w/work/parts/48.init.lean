/-! CONSTRUCTORS that only make arrays; printed by gen/init.py -/
set_option maxRecDepth 100000
theorem gapC {σ : Bl} {FK : FKs} {j f : Nat} (h : (List.range f).all (fun g => decide (g < j) || (match FK[g]? with | some x => decide (x.1 = 0) && decide (σ.1 g = 0) | none => true)) = true) : gapOK (fun _ _ => .null) σ FK j f := by
  intro g x hx h1 h2
  have := List.all_eq_true.mp h g (List.mem_range.mpr h2)
  rw [hx] at this
  simp only [Bool.or_eq_true, decide_eq_true_eq, Bool.and_eq_true] at this
  rcases this with h9 | h9
  · omega
  · exact Or.inl h9
def s1i : Bl := (fun _ => 0, fun _ _ => 0, fun _ _ => 0)
def s3i : Bl := (fun g => if g = 40 then 12 else 0, fun _ _ => 0, fun _ _ => 0)
theorem m1_init {l : Launch} {d : gD} {b : Nat} : Mt l d yX1_init cX1_init 1 none (1, 17, 1680) 20 (pW d 1 FK1 (fun _ => b) (fun _ _ => .null) (fun _ _ _ => none) s1i 0) [.ref b] (fun v w => v = none ∧ ∃ a : Nat → Nat, a 0 = b ∧ w = bW d 1 FK1 a s1i) := by
  refine Mt.ofI x1pn (Nat.le_of_ble_eq_true rfl) rfl ?_
  intro Γ hl hd hN hI C hE
  subst hl; subst hd
  show Go Γ 0 0 (pW Γ.d 1 FK1 (fun _ => b) (fun _ _ => .null) (fun _ _ _ => none) s1i 0) 0 [(0, .ref b)] []
  refine go_aload_n (pc := 0) C dX1_init_0 rfl 0 rfl ?_
  refine go_objInit (pc := 1) C q177 q170 q171 (by decide) (by decide) dX1_init_1 ?_
  refine go_aload_n (pc := 4) C dX1_init_4 rfl 0 rfl ?_
  refine go_bipush (pc := 5) (v := (6 : Int32)) C dX1_init_5 (by decide) ?_
  refine go_newarr (pc := 7) (t := 0) (ty := .int) (N := 6) (a0 := (6, .inl (fun _ => 0))) C rfl q306 rfl (fun _ => rfl) (by decide) (by decide) (by decide) ⟨by decide, by decide⟩ dX1_init_7 (fun q1 => ?_)
  refine go_putF (pc := 9) (v := .ref q1) (ty := .array .int) C hI 9 (pW_A (f := 9) (q := q1) (σ := s1i) (rf := fun _ _ => .null) (rq := fun _ _ _ => none) (j := 0) (FK := FK1) (by rfl) (by decide) (gapC (by decide +kernel)) rfl rfl) x1c in_X1 tyX1 tyX1_ok nmX1 (by decide) q202 rfl rfl rfl rfl rfl (by rw [pFs_len]; decide) dX1_init_9 ?_
  refine go_aload_n (pc := 12) C dX1_init_12 rfl 0 rfl ?_
  refine go_bipush (pc := 13) (v := (6 : Int32)) C dX1_init_13 (by decide) ?_
  refine go_newarr (pc := 15) (t := 0) (ty := .int) (N := 6) (a0 := (6, .inl (fun _ => 0))) C rfl q306 rfl (fun _ => rfl) (by decide) (by decide) (by decide) ⟨by decide, by decide⟩ dX1_init_15 (fun q2 => ?_)
  refine go_putF (pc := 17) (v := .ref q2) (ty := .array .int) C hI 10 (pW_A (f := 10) (q := q2) (σ := s1i) (rf := fun _ _ => .null) (rq := fun _ _ _ => none) (j := 10) (FK := FK1) (by rfl) (by decide) gap0 rfl rfl) x1c in_X1 tyX1 tyX1_ok nmX1 (by decide) q205 rfl rfl rfl rfl rfl (by rw [pFs_len]; decide) dX1_init_17 ?_
  refine go_aload_n (pc := 20) C dX1_init_20 rfl 0 rfl ?_
  refine go_bipush (pc := 21) (v := (6 : Int32)) C dX1_init_21 (by decide) ?_
  refine go_newarr (pc := 23) (t := 0) (ty := .int) (N := 6) (a0 := (6, .inl (fun _ => 0))) C rfl q306 rfl (fun _ => rfl) (by decide) (by decide) (by decide) ⟨by decide, by decide⟩ dX1_init_23 (fun q3 => ?_)
  refine go_putF (pc := 25) (v := .ref q3) (ty := .array .int) C hI 11 (pW_A (f := 11) (q := q3) (σ := s1i) (rf := fun _ _ => .null) (rq := fun _ _ _ => none) (j := 11) (FK := FK1) (by rfl) (by decide) gap0 rfl rfl) x1c in_X1 tyX1 tyX1_ok nmX1 (by decide) q208 rfl rfl rfl rfl rfl (by rw [pFs_len]; decide) dX1_init_25 ?_
  refine go_aload_n (pc := 28) C dX1_init_28 rfl 0 rfl ?_
  refine go_bipush (pc := 29) (v := (8 : Int32)) C dX1_init_29 (by decide) ?_
  refine go_newarr (pc := 31) (t := 0) (ty := .int) (N := 8) (a0 := (8, .inl (fun _ => 0))) C rfl q306 rfl (fun _ => rfl) (by decide) (by decide) (by decide) ⟨by decide, by decide⟩ dX1_init_31 (fun q4 => ?_)
  refine go_putF (pc := 33) (v := .ref q4) (ty := .array .int) C hI 12 (pW_A (f := 12) (q := q4) (σ := s1i) (rf := fun _ _ => .null) (rq := fun _ _ _ => none) (j := 12) (FK := FK1) (by rfl) (by decide) gap0 rfl rfl) x1c in_X1 tyX1 tyX1_ok nmX1 (by decide) q210 rfl rfl rfl rfl rfl (by rw [pFs_len]; decide) dX1_init_33 ?_
  refine go_aload_n (pc := 36) C dX1_init_36 rfl 0 rfl ?_
  refine go_bipush (pc := 37) (v := (8 : Int32)) C dX1_init_37 (by decide) ?_
  refine go_newarr (pc := 39) (t := 0) (ty := .int) (N := 8) (a0 := (8, .inl (fun _ => 0))) C rfl q306 rfl (fun _ => rfl) (by decide) (by decide) (by decide) ⟨by decide, by decide⟩ dX1_init_39 (fun q5 => ?_)
  refine go_putF (pc := 41) (v := .ref q5) (ty := .array .int) C hI 13 (pW_A (f := 13) (q := q5) (σ := s1i) (rf := fun _ _ => .null) (rq := fun _ _ _ => none) (j := 13) (FK := FK1) (by rfl) (by decide) gap0 rfl rfl) x1c in_X1 tyX1 tyX1_ok nmX1 (by decide) q213 rfl rfl rfl rfl rfl (by rw [pFs_len]; decide) dX1_init_41 ?_
  refine go_aload_n (pc := 44) C dX1_init_44 rfl 0 rfl ?_
  refine go_bipush (pc := 45) (v := (8 : Int32)) C dX1_init_45 (by decide) ?_
  refine go_newarr (pc := 47) (t := 0) (ty := .int) (N := 8) (a0 := (8, .inl (fun _ => 0))) C rfl q306 rfl (fun _ => rfl) (by decide) (by decide) (by decide) ⟨by decide, by decide⟩ dX1_init_47 (fun q6 => ?_)
  refine go_putF (pc := 49) (v := .ref q6) (ty := .array .int) C hI 14 (pW_A (f := 14) (q := q6) (σ := s1i) (rf := fun _ _ => .null) (rq := fun _ _ _ => none) (j := 14) (FK := FK1) (by rfl) (by decide) gap0 rfl rfl) x1c in_X1 tyX1 tyX1_ok nmX1 (by decide) q216 rfl rfl rfl rfl rfl (by rw [pFs_len]; decide) dX1_init_49 ?_
  refine go_aload_n (pc := 52) C dX1_init_52 rfl 0 rfl ?_
  refine go_bipush (pc := 53) (v := (8 : Int32)) C dX1_init_53 (by decide) ?_
  refine go_newarr (pc := 55) (t := 0) (ty := .int) (N := 8) (a0 := (8, .inl (fun _ => 0))) C rfl q306 rfl (fun _ => rfl) (by decide) (by decide) (by decide) ⟨by decide, by decide⟩ dX1_init_55 (fun q7 => ?_)
  refine go_putF (pc := 57) (v := .ref q7) (ty := .array .int) C hI 15 (pW_A (f := 15) (q := q7) (σ := s1i) (rf := fun _ _ => .null) (rq := fun _ _ _ => none) (j := 15) (FK := FK1) (by rfl) (by decide) gap0 rfl rfl) x1c in_X1 tyX1 tyX1_ok nmX1 (by decide) q219 rfl rfl rfl rfl rfl (by rw [pFs_len]; decide) dX1_init_57 ?_
  refine go_aload_n (pc := 60) C dX1_init_60 rfl 0 rfl ?_
  refine go_bipush (pc := 61) (v := (8 : Int32)) C dX1_init_61 (by decide) ?_
  refine go_newarr (pc := 63) (t := 0) (ty := .int) (N := 8) (a0 := (8, .inl (fun _ => 0))) C rfl q306 rfl (fun _ => rfl) (by decide) (by decide) (by decide) ⟨by decide, by decide⟩ dX1_init_63 (fun q8 => ?_)
  refine go_putF (pc := 65) (v := .ref q8) (ty := .array .int) C hI 16 (pW_A (f := 16) (q := q8) (σ := s1i) (rf := fun _ _ => .null) (rq := fun _ _ _ => none) (j := 16) (FK := FK1) (by rfl) (by decide) gap0 rfl rfl) x1c in_X1 tyX1 tyX1_ok nmX1 (by decide) q222 rfl rfl rfl rfl rfl (by rw [pFs_len]; decide) dX1_init_65 ?_
  refine go_aload_n (pc := 68) C dX1_init_68 rfl 0 rfl ?_
  refine go_bipush (pc := 69) (v := (8 : Int32)) C dX1_init_69 (by decide) ?_
  refine go_newarr (pc := 71) (t := 0) (ty := .int) (N := 8) (a0 := (8, .inl (fun _ => 0))) C rfl q306 rfl (fun _ => rfl) (by decide) (by decide) (by decide) ⟨by decide, by decide⟩ dX1_init_71 (fun q9 => ?_)
  refine go_putF (pc := 73) (v := .ref q9) (ty := .array .int) C hI 17 (pW_A (f := 17) (q := q9) (σ := s1i) (rf := fun _ _ => .null) (rq := fun _ _ _ => none) (j := 17) (FK := FK1) (by rfl) (by decide) gap0 rfl rfl) x1c in_X1 tyX1 tyX1_ok nmX1 (by decide) q224 rfl rfl rfl rfl rfl (by rw [pFs_len]; decide) dX1_init_73 ?_
  refine go_aload_n (pc := 76) C dX1_init_76 rfl 0 rfl ?_
  refine go_bipush (pc := 77) (v := (12 : Int32)) C dX1_init_77 (by decide) ?_
  refine go_newarr (pc := 79) (t := 0) (ty := .int) (N := 12) (a0 := (12, .inl (fun _ => 0))) C rfl q306 rfl (fun _ => rfl) (by decide) (by decide) (by decide) ⟨by decide, by decide⟩ dX1_init_79 (fun q10 => ?_)
  refine go_putF (pc := 81) (v := .ref q10) (ty := .array .int) C hI 18 (pW_A (f := 18) (q := q10) (σ := s1i) (rf := fun _ _ => .null) (rq := fun _ _ _ => none) (j := 18) (FK := FK1) (by rfl) (by decide) gap0 rfl rfl) x1c in_X1 tyX1 tyX1_ok nmX1 (by decide) q226 rfl rfl rfl rfl rfl (by rw [pFs_len]; decide) dX1_init_81 ?_
  refine go_aload_n (pc := 84) C dX1_init_84 rfl 0 rfl ?_
  refine go_bipush (pc := 85) (v := (12 : Int32)) C dX1_init_85 (by decide) ?_
  refine go_newarr (pc := 87) (t := 0) (ty := .int) (N := 12) (a0 := (12, .inl (fun _ => 0))) C rfl q306 rfl (fun _ => rfl) (by decide) (by decide) (by decide) ⟨by decide, by decide⟩ dX1_init_87 (fun q11 => ?_)
  refine go_putF (pc := 89) (v := .ref q11) (ty := .array .int) C hI 19 (pW_A (f := 19) (q := q11) (σ := s1i) (rf := fun _ _ => .null) (rq := fun _ _ _ => none) (j := 19) (FK := FK1) (by rfl) (by decide) gap0 rfl rfl) x1c in_X1 tyX1 tyX1_ok nmX1 (by decide) q228 rfl rfl rfl rfl rfl (by rw [pFs_len]; decide) dX1_init_89 ?_
  refine go_aload_n (pc := 92) C dX1_init_92 rfl 0 rfl ?_
  refine go_bipush (pc := 93) (v := (12 : Int32)) C dX1_init_93 (by decide) ?_
  refine go_newarr (pc := 95) (t := 0) (ty := .int) (N := 12) (a0 := (12, .inl (fun _ => 0))) C rfl q306 rfl (fun _ => rfl) (by decide) (by decide) (by decide) ⟨by decide, by decide⟩ dX1_init_95 (fun q12 => ?_)
  refine go_putF (pc := 97) (v := .ref q12) (ty := .array .int) C hI 20 (pW_A (f := 20) (q := q12) (σ := s1i) (rf := fun _ _ => .null) (rq := fun _ _ _ => none) (j := 20) (FK := FK1) (by rfl) (by decide) gap0 rfl rfl) x1c in_X1 tyX1 tyX1_ok nmX1 (by decide) q230 rfl rfl rfl rfl rfl (by rw [pFs_len]; decide) dX1_init_97 ?_
  refine go_aload_n (pc := 100) C dX1_init_100 rfl 0 rfl ?_
  refine go_bipush (pc := 101) (v := (6 : Int32)) C dX1_init_101 (by decide) ?_
  refine go_newarr (pc := 103) (t := 0) (ty := .int) (N := 6) (a0 := (6, .inl (fun _ => 0))) C rfl q306 rfl (fun _ => rfl) (by decide) (by decide) (by decide) ⟨by decide, by decide⟩ dX1_init_103 (fun q13 => ?_)
  refine go_putF (pc := 105) (v := .ref q13) (ty := .array .int) C hI 21 (pW_A (f := 21) (q := q13) (σ := s1i) (rf := fun _ _ => .null) (rq := fun _ _ _ => none) (j := 21) (FK := FK1) (by rfl) (by decide) gap0 rfl rfl) x1c in_X1 tyX1 tyX1_ok nmX1 (by decide) q232 rfl rfl rfl rfl rfl (by rw [pFs_len]; decide) dX1_init_105 ?_
  refine go_aload_n (pc := 108) C dX1_init_108 rfl 0 rfl ?_
  refine go_bipush (pc := 109) (v := (6 : Int32)) C dX1_init_109 (by decide) ?_
  refine go_newarr (pc := 111) (t := 0) (ty := .int) (N := 6) (a0 := (6, .inl (fun _ => 0))) C rfl q306 rfl (fun _ => rfl) (by decide) (by decide) (by decide) ⟨by decide, by decide⟩ dX1_init_111 (fun q14 => ?_)
  refine go_putF (pc := 113) (v := .ref q14) (ty := .array .int) C hI 22 (pW_A (f := 22) (q := q14) (σ := s1i) (rf := fun _ _ => .null) (rq := fun _ _ _ => none) (j := 22) (FK := FK1) (by rfl) (by decide) gap0 rfl rfl) x1c in_X1 tyX1 tyX1_ok nmX1 (by decide) q234 rfl rfl rfl rfl rfl (by rw [pFs_len]; decide) dX1_init_113 ?_
  refine go_aload_n (pc := 116) C dX1_init_116 rfl 0 rfl ?_
  refine go_bipush (pc := 117) (v := (18 : Int32)) C dX1_init_117 (by decide) ?_
  refine go_newarr (pc := 119) (t := 0) (ty := .int) (N := 18) (a0 := (18, .inl (fun _ => 0))) C rfl q306 rfl (fun _ => rfl) (by decide) (by decide) (by decide) ⟨by decide, by decide⟩ dX1_init_119 (fun q15 => ?_)
  refine go_putF (pc := 121) (v := .ref q15) (ty := .array .int) C hI 23 (pW_A (f := 23) (q := q15) (σ := s1i) (rf := fun _ _ => .null) (rq := fun _ _ _ => none) (j := 23) (FK := FK1) (by rfl) (by decide) gap0 rfl rfl) x1c in_X1 tyX1 tyX1_ok nmX1 (by decide) q236 rfl rfl rfl rfl rfl (by rw [pFs_len]; decide) dX1_init_121 ?_
  refine go_aload_n (pc := 124) C dX1_init_124 rfl 0 rfl ?_
  refine go_sipush (pc := 125) (v := (1540 : Int32)) C dX1_init_125 (by decide) ?_
  refine go_newarr (pc := 128) (t := 0) (ty := .int) (N := 1540) (a0 := (1540, .inl (fun _ => 0))) C rfl q306 rfl (fun _ => rfl) (by decide) (by decide) (by decide) ⟨by decide, by decide⟩ dX1_init_128 (fun q16 => ?_)
  refine go_putF (pc := 130) (v := .ref q16) (ty := .array .int) C hI 24 (pW_A (f := 24) (q := q16) (σ := s1i) (rf := fun _ _ => .null) (rq := fun _ _ _ => none) (j := 24) (FK := FK1) (by rfl) (by decide) gap0 rfl rfl) x1c in_X1 tyX1 tyX1_ok nmX1 (by decide) q238 rfl rfl rfl rfl rfl (by rw [pFs_len]; decide) dX1_init_130 ?_
  refine go_aload_n (pc := 133) C dX1_init_133 rfl 0 rfl ?_
  refine go_bipush (pc := 134) (v := (8 : Int32)) C dX1_init_134 (by decide) ?_
  refine go_newarr (pc := 136) (t := 0) (ty := .int) (N := 8) (a0 := (8, .inl (fun _ => 0))) C rfl q306 rfl (fun _ => rfl) (by decide) (by decide) (by decide) ⟨by decide, by decide⟩ dX1_init_136 (fun q17 => ?_)
  refine go_putF (pc := 138) (v := .ref q17) (ty := .array .int) C hI 28 (pW_A (f := 28) (q := q17) (σ := s1i) (rf := fun _ _ => .null) (rq := fun _ _ _ => none) (j := 25) (FK := FK1) (by rfl) (by decide) (gapC (by decide +kernel)) rfl rfl) x1c in_X1 tyX1 tyX1_ok nmX1 (by decide) q245 rfl rfl rfl rfl rfl (by rw [pFs_len]; decide) dX1_init_138 ?_
  exact (hE 17 1680 _ 141 [(0, .ref b)] (Nat.le_refl _) (Nat.le_refl _)).2.2.2.1 rfl dX1_init_141 ⟨rfl, _, rfl, (pW_gap (by decide) gap0).trans (pW_all (j := 29) rfl)⟩
theorem m3_init {l : Launch} {d : gD} {b : Nat} : Mt l d yX3_init cX3_init 1 none (1, 52, 16533) 20 (pW d 3 FK3 (fun _ => b) (fun _ _ => .null) (fun _ _ _ => none) s3i 0) [.ref b] (fun v w => v = none ∧ ∃ a : Nat → Nat, a 0 = b ∧ w = bW d 3 FK3 a s3i) := by
  refine Mt.ofI x3pn (Nat.le_of_ble_eq_true rfl) rfl ?_
  intro Γ hl hd hN hI C hE
  subst hl; subst hd
  show Go Γ 0 0 (pW Γ.d 3 FK3 (fun _ => b) (fun _ _ => .null) (fun _ _ _ => none) s3i 0) 0 [(0, .ref b)] []
  refine go_aload_n (pc := 0) C dX3_init_0 rfl 0 rfl ?_
  refine go_objInit (pc := 1) C q1267 q170 q171 (by decide) (by decide) dX3_init_1 ?_
  refine go_aload_n (pc := 4) C dX3_init_4 rfl 0 rfl ?_
  refine go_bipush (pc := 5) (v := (9 : Int32)) C dX3_init_5 (by decide) ?_
  refine go_newarr (pc := 7) (t := 0) (ty := .int) (N := 9) (a0 := (9, .inl (fun _ => 0))) C rfl q306 rfl (fun _ => rfl) (by decide) (by decide) (by decide) ⟨by decide, by decide⟩ dX3_init_7 (fun q1 => ?_)
  refine go_putF (pc := 9) (v := .ref q1) (ty := .array .int) C hI 1 (pW_A (f := 1) (q := q1) (σ := s3i) (rf := fun _ _ => .null) (rq := fun _ _ _ => none) (j := 0) (FK := FK3) (by rfl) (by decide) (gapC (by decide +kernel)) rfl rfl) x3c in_X3 tyX3 tyX3_ok nmX3 (by decide) q1268 rfl rfl rfl rfl rfl (by rw [pFs_len]; decide) dX3_init_9 ?_
  refine go_aload_n (pc := 12) C dX3_init_12 rfl 0 rfl ?_
  refine go_bipush (pc := 13) (v := (6 : Int32)) C dX3_init_13 (by decide) ?_
  refine go_newarr (pc := 15) (t := 0) (ty := .int) (N := 6) (a0 := (6, .inl (fun _ => 0))) C rfl q306 rfl (fun _ => rfl) (by decide) (by decide) (by decide) ⟨by decide, by decide⟩ dX3_init_15 (fun q2 => ?_)
  refine go_putF (pc := 17) (v := .ref q2) (ty := .array .int) C hI 2 (pW_A (f := 2) (q := q2) (σ := s3i) (rf := fun _ _ => .null) (rq := fun _ _ _ => none) (j := 2) (FK := FK3) (by rfl) (by decide) gap0 rfl rfl) x3c in_X3 tyX3 tyX3_ok nmX3 (by decide) q1269 rfl rfl rfl rfl rfl (by rw [pFs_len]; decide) dX3_init_17 ?_
  refine go_aload_n (pc := 20) C dX3_init_20 rfl 0 rfl ?_
  refine go_bipush (pc := 21) (v := (6 : Int32)) C dX3_init_21 (by decide) ?_
  refine go_newarr (pc := 23) (t := 0) (ty := .int) (N := 6) (a0 := (6, .inl (fun _ => 0))) C rfl q306 rfl (fun _ => rfl) (by decide) (by decide) (by decide) ⟨by decide, by decide⟩ dX3_init_23 (fun q3 => ?_)
  refine go_putF (pc := 25) (v := .ref q3) (ty := .array .int) C hI 3 (pW_A (f := 3) (q := q3) (σ := s3i) (rf := fun _ _ => .null) (rq := fun _ _ _ => none) (j := 3) (FK := FK3) (by rfl) (by decide) gap0 rfl rfl) x3c in_X3 tyX3 tyX3_ok nmX3 (by decide) q1270 rfl rfl rfl rfl rfl (by rw [pFs_len]; decide) dX3_init_25 ?_
  refine go_aload_n (pc := 28) C dX3_init_28 rfl 0 rfl ?_
  refine go_bipush (pc := 29) (v := (6 : Int32)) C dX3_init_29 (by decide) ?_
  refine go_newarr (pc := 31) (t := 0) (ty := .int) (N := 6) (a0 := (6, .inl (fun _ => 0))) C rfl q306 rfl (fun _ => rfl) (by decide) (by decide) (by decide) ⟨by decide, by decide⟩ dX3_init_31 (fun q4 => ?_)
  refine go_putF (pc := 33) (v := .ref q4) (ty := .array .int) C hI 4 (pW_A (f := 4) (q := q4) (σ := s3i) (rf := fun _ _ => .null) (rq := fun _ _ _ => none) (j := 4) (FK := FK3) (by rfl) (by decide) gap0 rfl rfl) x3c in_X3 tyX3 tyX3_ok nmX3 (by decide) q1271 rfl rfl rfl rfl rfl (by rw [pFs_len]; decide) dX3_init_33 ?_
  refine go_aload_n (pc := 36) C dX3_init_36 rfl 0 rfl ?_
  refine go_bipush (pc := 37) (v := (8 : Int32)) C dX3_init_37 (by decide) ?_
  refine go_newarr (pc := 39) (t := 0) (ty := .int) (N := 8) (a0 := (8, .inl (fun _ => 0))) C rfl q306 rfl (fun _ => rfl) (by decide) (by decide) (by decide) ⟨by decide, by decide⟩ dX3_init_39 (fun q5 => ?_)
  refine go_putF (pc := 41) (v := .ref q5) (ty := .array .int) C hI 5 (pW_A (f := 5) (q := q5) (σ := s3i) (rf := fun _ _ => .null) (rq := fun _ _ _ => none) (j := 5) (FK := FK3) (by rfl) (by decide) gap0 rfl rfl) x3c in_X3 tyX3 tyX3_ok nmX3 (by decide) q1272 rfl rfl rfl rfl rfl (by rw [pFs_len]; decide) dX3_init_41 ?_
  refine go_aload_n (pc := 44) C dX3_init_44 rfl 0 rfl ?_
  refine go_bipush (pc := 45) (v := (8 : Int32)) C dX3_init_45 (by decide) ?_
  refine go_newarr (pc := 47) (t := 0) (ty := .int) (N := 8) (a0 := (8, .inl (fun _ => 0))) C rfl q306 rfl (fun _ => rfl) (by decide) (by decide) (by decide) ⟨by decide, by decide⟩ dX3_init_47 (fun q6 => ?_)
  refine go_putF (pc := 49) (v := .ref q6) (ty := .array .int) C hI 6 (pW_A (f := 6) (q := q6) (σ := s3i) (rf := fun _ _ => .null) (rq := fun _ _ _ => none) (j := 6) (FK := FK3) (by rfl) (by decide) gap0 rfl rfl) x3c in_X3 tyX3 tyX3_ok nmX3 (by decide) q1273 rfl rfl rfl rfl rfl (by rw [pFs_len]; decide) dX3_init_49 ?_
  refine go_aload_n (pc := 52) C dX3_init_52 rfl 0 rfl ?_
  refine go_bipush (pc := 53) (v := (8 : Int32)) C dX3_init_53 (by decide) ?_
  refine go_newarr (pc := 55) (t := 0) (ty := .int) (N := 8) (a0 := (8, .inl (fun _ => 0))) C rfl q306 rfl (fun _ => rfl) (by decide) (by decide) (by decide) ⟨by decide, by decide⟩ dX3_init_55 (fun q7 => ?_)
  refine go_putF (pc := 57) (v := .ref q7) (ty := .array .int) C hI 7 (pW_A (f := 7) (q := q7) (σ := s3i) (rf := fun _ _ => .null) (rq := fun _ _ _ => none) (j := 7) (FK := FK3) (by rfl) (by decide) gap0 rfl rfl) x3c in_X3 tyX3 tyX3_ok nmX3 (by decide) q1274 rfl rfl rfl rfl rfl (by rw [pFs_len]; decide) dX3_init_57 ?_
  refine go_aload_n (pc := 60) C dX3_init_60 rfl 0 rfl ?_
  refine go_bipush (pc := 61) (v := (8 : Int32)) C dX3_init_61 (by decide) ?_
  refine go_newarr (pc := 63) (t := 0) (ty := .int) (N := 8) (a0 := (8, .inl (fun _ => 0))) C rfl q306 rfl (fun _ => rfl) (by decide) (by decide) (by decide) ⟨by decide, by decide⟩ dX3_init_63 (fun q8 => ?_)
  refine go_putF (pc := 65) (v := .ref q8) (ty := .array .int) C hI 8 (pW_A (f := 8) (q := q8) (σ := s3i) (rf := fun _ _ => .null) (rq := fun _ _ _ => none) (j := 8) (FK := FK3) (by rfl) (by decide) gap0 rfl rfl) x3c in_X3 tyX3 tyX3_ok nmX3 (by decide) q1275 rfl rfl rfl rfl rfl (by rw [pFs_len]; decide) dX3_init_65 ?_
  refine go_aload_n (pc := 68) C dX3_init_68 rfl 0 rfl ?_
  refine go_bipush (pc := 69) (v := (8 : Int32)) C dX3_init_69 (by decide) ?_
  refine go_newarr (pc := 71) (t := 0) (ty := .int) (N := 8) (a0 := (8, .inl (fun _ => 0))) C rfl q306 rfl (fun _ => rfl) (by decide) (by decide) (by decide) ⟨by decide, by decide⟩ dX3_init_71 (fun q9 => ?_)
  refine go_putF (pc := 73) (v := .ref q9) (ty := .array .int) C hI 9 (pW_A (f := 9) (q := q9) (σ := s3i) (rf := fun _ _ => .null) (rq := fun _ _ _ => none) (j := 9) (FK := FK3) (by rfl) (by decide) gap0 rfl rfl) x3c in_X3 tyX3 tyX3_ok nmX3 (by decide) q1276 rfl rfl rfl rfl rfl (by rw [pFs_len]; decide) dX3_init_73 ?_
  refine go_aload_n (pc := 76) C dX3_init_76 rfl 0 rfl ?_
  refine go_bipush (pc := 77) (v := (8 : Int32)) C dX3_init_77 (by decide) ?_
  refine go_newarr (pc := 79) (t := 0) (ty := .int) (N := 8) (a0 := (8, .inl (fun _ => 0))) C rfl q306 rfl (fun _ => rfl) (by decide) (by decide) (by decide) ⟨by decide, by decide⟩ dX3_init_79 (fun q10 => ?_)
  refine go_putF (pc := 81) (v := .ref q10) (ty := .array .int) C hI 10 (pW_A (f := 10) (q := q10) (σ := s3i) (rf := fun _ _ => .null) (rq := fun _ _ _ => none) (j := 10) (FK := FK3) (by rfl) (by decide) gap0 rfl rfl) x3c in_X3 tyX3 tyX3_ok nmX3 (by decide) q1277 rfl rfl rfl rfl rfl (by rw [pFs_len]; decide) dX3_init_81 ?_
  refine go_aload_n (pc := 84) C dX3_init_84 rfl 0 rfl ?_
  refine go_bipush (pc := 85) (v := (12 : Int32)) C dX3_init_85 (by decide) ?_
  refine go_newarr (pc := 87) (t := 0) (ty := .int) (N := 12) (a0 := (12, .inl (fun _ => 0))) C rfl q306 rfl (fun _ => rfl) (by decide) (by decide) (by decide) ⟨by decide, by decide⟩ dX3_init_87 (fun q11 => ?_)
  refine go_putF (pc := 89) (v := .ref q11) (ty := .array .int) C hI 11 (pW_A (f := 11) (q := q11) (σ := s3i) (rf := fun _ _ => .null) (rq := fun _ _ _ => none) (j := 11) (FK := FK3) (by rfl) (by decide) gap0 rfl rfl) x3c in_X3 tyX3 tyX3_ok nmX3 (by decide) q1278 rfl rfl rfl rfl rfl (by rw [pFs_len]; decide) dX3_init_89 ?_
  refine go_aload_n (pc := 92) C dX3_init_92 rfl 0 rfl ?_
  refine go_bipush (pc := 93) (v := (12 : Int32)) C dX3_init_93 (by decide) ?_
  refine go_newarr (pc := 95) (t := 0) (ty := .int) (N := 12) (a0 := (12, .inl (fun _ => 0))) C rfl q306 rfl (fun _ => rfl) (by decide) (by decide) (by decide) ⟨by decide, by decide⟩ dX3_init_95 (fun q12 => ?_)
  refine go_putF (pc := 97) (v := .ref q12) (ty := .array .int) C hI 12 (pW_A (f := 12) (q := q12) (σ := s3i) (rf := fun _ _ => .null) (rq := fun _ _ _ => none) (j := 12) (FK := FK3) (by rfl) (by decide) gap0 rfl rfl) x3c in_X3 tyX3 tyX3_ok nmX3 (by decide) q1279 rfl rfl rfl rfl rfl (by rw [pFs_len]; decide) dX3_init_97 ?_
  refine go_aload_n (pc := 100) C dX3_init_100 rfl 0 rfl ?_
  refine go_bipush (pc := 101) (v := (12 : Int32)) C dX3_init_101 (by decide) ?_
  refine go_newarr (pc := 103) (t := 0) (ty := .int) (N := 12) (a0 := (12, .inl (fun _ => 0))) C rfl q306 rfl (fun _ => rfl) (by decide) (by decide) (by decide) ⟨by decide, by decide⟩ dX3_init_103 (fun q13 => ?_)
  refine go_putF (pc := 105) (v := .ref q13) (ty := .array .int) C hI 13 (pW_A (f := 13) (q := q13) (σ := s3i) (rf := fun _ _ => .null) (rq := fun _ _ _ => none) (j := 13) (FK := FK3) (by rfl) (by decide) gap0 rfl rfl) x3c in_X3 tyX3 tyX3_ok nmX3 (by decide) q1280 rfl rfl rfl rfl rfl (by rw [pFs_len]; decide) dX3_init_105 ?_
  refine go_aload_n (pc := 108) C dX3_init_108 rfl 0 rfl ?_
  refine go_bipush (pc := 109) (v := (6 : Int32)) C dX3_init_109 (by decide) ?_
  refine go_newarr (pc := 111) (t := 0) (ty := .int) (N := 6) (a0 := (6, .inl (fun _ => 0))) C rfl q306 rfl (fun _ => rfl) (by decide) (by decide) (by decide) ⟨by decide, by decide⟩ dX3_init_111 (fun q14 => ?_)
  refine go_putF (pc := 113) (v := .ref q14) (ty := .array .int) C hI 14 (pW_A (f := 14) (q := q14) (σ := s3i) (rf := fun _ _ => .null) (rq := fun _ _ _ => none) (j := 14) (FK := FK3) (by rfl) (by decide) gap0 rfl rfl) x3c in_X3 tyX3 tyX3_ok nmX3 (by decide) q1281 rfl rfl rfl rfl rfl (by rw [pFs_len]; decide) dX3_init_113 ?_
  refine go_aload_n (pc := 116) C dX3_init_116 rfl 0 rfl ?_
  refine go_bipush (pc := 117) (v := (6 : Int32)) C dX3_init_117 (by decide) ?_
  refine go_newarr (pc := 119) (t := 0) (ty := .int) (N := 6) (a0 := (6, .inl (fun _ => 0))) C rfl q306 rfl (fun _ => rfl) (by decide) (by decide) (by decide) ⟨by decide, by decide⟩ dX3_init_119 (fun q15 => ?_)
  refine go_putF (pc := 121) (v := .ref q15) (ty := .array .int) C hI 15 (pW_A (f := 15) (q := q15) (σ := s3i) (rf := fun _ _ => .null) (rq := fun _ _ _ => none) (j := 15) (FK := FK3) (by rfl) (by decide) gap0 rfl rfl) x3c in_X3 tyX3 tyX3_ok nmX3 (by decide) q1282 rfl rfl rfl rfl rfl (by rw [pFs_len]; decide) dX3_init_121 ?_
  refine go_aload_n (pc := 124) C dX3_init_124 rfl 0 rfl ?_
  refine go_bipush (pc := 125) (v := (6 : Int32)) C dX3_init_125 (by decide) ?_
  refine go_newarr (pc := 127) (t := 0) (ty := .int) (N := 6) (a0 := (6, .inl (fun _ => 0))) C rfl q306 rfl (fun _ => rfl) (by decide) (by decide) (by decide) ⟨by decide, by decide⟩ dX3_init_127 (fun q16 => ?_)
  refine go_putF (pc := 129) (v := .ref q16) (ty := .array .int) C hI 16 (pW_A (f := 16) (q := q16) (σ := s3i) (rf := fun _ _ => .null) (rq := fun _ _ _ => none) (j := 16) (FK := FK3) (by rfl) (by decide) gap0 rfl rfl) x3c in_X3 tyX3 tyX3_ok nmX3 (by decide) q1283 rfl rfl rfl rfl rfl (by rw [pFs_len]; decide) dX3_init_129 ?_
  refine go_aload_n (pc := 132) C dX3_init_132 rfl 0 rfl ?_
  refine go_bipush (pc := 133) (v := (6 : Int32)) C dX3_init_133 (by decide) ?_
  refine go_newarr (pc := 135) (t := 0) (ty := .int) (N := 6) (a0 := (6, .inl (fun _ => 0))) C rfl q306 rfl (fun _ => rfl) (by decide) (by decide) (by decide) ⟨by decide, by decide⟩ dX3_init_135 (fun q17 => ?_)
  refine go_putF (pc := 137) (v := .ref q17) (ty := .array .int) C hI 17 (pW_A (f := 17) (q := q17) (σ := s3i) (rf := fun _ _ => .null) (rq := fun _ _ _ => none) (j := 17) (FK := FK3) (by rfl) (by decide) gap0 rfl rfl) x3c in_X3 tyX3 tyX3_ok nmX3 (by decide) q1284 rfl rfl rfl rfl rfl (by rw [pFs_len]; decide) dX3_init_137 ?_
  refine go_aload_n (pc := 140) C dX3_init_140 rfl 0 rfl ?_
  refine go_bipush (pc := 141) (v := (6 : Int32)) C dX3_init_141 (by decide) ?_
  refine go_newarr (pc := 143) (t := 0) (ty := .int) (N := 6) (a0 := (6, .inl (fun _ => 0))) C rfl q306 rfl (fun _ => rfl) (by decide) (by decide) (by decide) ⟨by decide, by decide⟩ dX3_init_143 (fun q18 => ?_)
  refine go_putF (pc := 145) (v := .ref q18) (ty := .array .int) C hI 18 (pW_A (f := 18) (q := q18) (σ := s3i) (rf := fun _ _ => .null) (rq := fun _ _ _ => none) (j := 18) (FK := FK3) (by rfl) (by decide) gap0 rfl rfl) x3c in_X3 tyX3 tyX3_ok nmX3 (by decide) q1285 rfl rfl rfl rfl rfl (by rw [pFs_len]; decide) dX3_init_145 ?_
  refine go_aload_n (pc := 148) C dX3_init_148 rfl 0 rfl ?_
  refine go_bipush (pc := 149) (v := (6 : Int32)) C dX3_init_149 (by decide) ?_
  refine go_newarr (pc := 151) (t := 0) (ty := .int) (N := 6) (a0 := (6, .inl (fun _ => 0))) C rfl q306 rfl (fun _ => rfl) (by decide) (by decide) (by decide) ⟨by decide, by decide⟩ dX3_init_151 (fun q19 => ?_)
  refine go_putF (pc := 153) (v := .ref q19) (ty := .array .int) C hI 19 (pW_A (f := 19) (q := q19) (σ := s3i) (rf := fun _ _ => .null) (rq := fun _ _ _ => none) (j := 19) (FK := FK3) (by rfl) (by decide) gap0 rfl rfl) x3c in_X3 tyX3 tyX3_ok nmX3 (by decide) q1286 rfl rfl rfl rfl rfl (by rw [pFs_len]; decide) dX3_init_153 ?_
  refine go_aload_n (pc := 156) C dX3_init_156 rfl 0 rfl ?_
  refine go_bipush (pc := 157) (v := (6 : Int32)) C dX3_init_157 (by decide) ?_
  refine go_newarr (pc := 159) (t := 0) (ty := .int) (N := 6) (a0 := (6, .inl (fun _ => 0))) C rfl q306 rfl (fun _ => rfl) (by decide) (by decide) (by decide) ⟨by decide, by decide⟩ dX3_init_159 (fun q20 => ?_)
  refine go_putF (pc := 161) (v := .ref q20) (ty := .array .int) C hI 20 (pW_A (f := 20) (q := q20) (σ := s3i) (rf := fun _ _ => .null) (rq := fun _ _ _ => none) (j := 20) (FK := FK3) (by rfl) (by decide) gap0 rfl rfl) x3c in_X3 tyX3 tyX3_ok nmX3 (by decide) q1287 rfl rfl rfl rfl rfl (by rw [pFs_len]; decide) dX3_init_161 ?_
  refine go_aload_n (pc := 164) C dX3_init_164 rfl 0 rfl ?_
  refine go_bipush (pc := 165) (v := (6 : Int32)) C dX3_init_165 (by decide) ?_
  refine go_newarr (pc := 167) (t := 0) (ty := .int) (N := 6) (a0 := (6, .inl (fun _ => 0))) C rfl q306 rfl (fun _ => rfl) (by decide) (by decide) (by decide) ⟨by decide, by decide⟩ dX3_init_167 (fun q21 => ?_)
  refine go_putF (pc := 169) (v := .ref q21) (ty := .array .int) C hI 21 (pW_A (f := 21) (q := q21) (σ := s3i) (rf := fun _ _ => .null) (rq := fun _ _ _ => none) (j := 21) (FK := FK3) (by rfl) (by decide) gap0 rfl rfl) x3c in_X3 tyX3 tyX3_ok nmX3 (by decide) q1288 rfl rfl rfl rfl rfl (by rw [pFs_len]; decide) dX3_init_169 ?_
  refine go_aload_n (pc := 172) C dX3_init_172 rfl 0 rfl ?_
  refine go_bipush (pc := 173) (v := (8 : Int32)) C dX3_init_173 (by decide) ?_
  refine go_newarr (pc := 175) (t := 0) (ty := .int) (N := 8) (a0 := (8, .inl (fun _ => 0))) C rfl q306 rfl (fun _ => rfl) (by decide) (by decide) (by decide) ⟨by decide, by decide⟩ dX3_init_175 (fun q22 => ?_)
  refine go_putF (pc := 177) (v := .ref q22) (ty := .array .int) C hI 22 (pW_A (f := 22) (q := q22) (σ := s3i) (rf := fun _ _ => .null) (rq := fun _ _ _ => none) (j := 22) (FK := FK3) (by rfl) (by decide) gap0 rfl rfl) x3c in_X3 tyX3 tyX3_ok nmX3 (by decide) q1289 rfl rfl rfl rfl rfl (by rw [pFs_len]; decide) dX3_init_177 ?_
  refine go_aload_n (pc := 180) C dX3_init_180 rfl 0 rfl ?_
  refine go_bipush (pc := 181) (v := (8 : Int32)) C dX3_init_181 (by decide) ?_
  refine go_newarr (pc := 183) (t := 0) (ty := .int) (N := 8) (a0 := (8, .inl (fun _ => 0))) C rfl q306 rfl (fun _ => rfl) (by decide) (by decide) (by decide) ⟨by decide, by decide⟩ dX3_init_183 (fun q23 => ?_)
  refine go_putF (pc := 185) (v := .ref q23) (ty := .array .int) C hI 23 (pW_A (f := 23) (q := q23) (σ := s3i) (rf := fun _ _ => .null) (rq := fun _ _ _ => none) (j := 23) (FK := FK3) (by rfl) (by decide) gap0 rfl rfl) x3c in_X3 tyX3 tyX3_ok nmX3 (by decide) q1290 rfl rfl rfl rfl rfl (by rw [pFs_len]; decide) dX3_init_185 ?_
  refine go_aload_n (pc := 188) C dX3_init_188 rfl 0 rfl ?_
  refine go_bipush (pc := 189) (v := (8 : Int32)) C dX3_init_189 (by decide) ?_
  refine go_newarr (pc := 191) (t := 0) (ty := .int) (N := 8) (a0 := (8, .inl (fun _ => 0))) C rfl q306 rfl (fun _ => rfl) (by decide) (by decide) (by decide) ⟨by decide, by decide⟩ dX3_init_191 (fun q24 => ?_)
  refine go_putF (pc := 193) (v := .ref q24) (ty := .array .int) C hI 24 (pW_A (f := 24) (q := q24) (σ := s3i) (rf := fun _ _ => .null) (rq := fun _ _ _ => none) (j := 24) (FK := FK3) (by rfl) (by decide) gap0 rfl rfl) x3c in_X3 tyX3 tyX3_ok nmX3 (by decide) q1291 rfl rfl rfl rfl rfl (by rw [pFs_len]; decide) dX3_init_193 ?_
  refine go_aload_n (pc := 196) C dX3_init_196 rfl 0 rfl ?_
  refine go_bipush (pc := 197) (v := (8 : Int32)) C dX3_init_197 (by decide) ?_
  refine go_newarr (pc := 199) (t := 0) (ty := .int) (N := 8) (a0 := (8, .inl (fun _ => 0))) C rfl q306 rfl (fun _ => rfl) (by decide) (by decide) (by decide) ⟨by decide, by decide⟩ dX3_init_199 (fun q25 => ?_)
  refine go_putF (pc := 201) (v := .ref q25) (ty := .array .int) C hI 25 (pW_A (f := 25) (q := q25) (σ := s3i) (rf := fun _ _ => .null) (rq := fun _ _ _ => none) (j := 25) (FK := FK3) (by rfl) (by decide) gap0 rfl rfl) x3c in_X3 tyX3 tyX3_ok nmX3 (by decide) q1292 rfl rfl rfl rfl rfl (by rw [pFs_len]; decide) dX3_init_201 ?_
  refine go_aload_n (pc := 204) C dX3_init_204 rfl 0 rfl ?_
  refine go_bipush (pc := 205) (v := (12 : Int32)) C dX3_init_205 (by decide) ?_
  refine go_newarr (pc := 207) (t := 0) (ty := .int) (N := 12) (a0 := (12, .inl (fun _ => 0))) C rfl q306 rfl (fun _ => rfl) (by decide) (by decide) (by decide) ⟨by decide, by decide⟩ dX3_init_207 (fun q26 => ?_)
  refine go_putF (pc := 209) (v := .ref q26) (ty := .array .int) C hI 26 (pW_A (f := 26) (q := q26) (σ := s3i) (rf := fun _ _ => .null) (rq := fun _ _ _ => none) (j := 26) (FK := FK3) (by rfl) (by decide) gap0 rfl rfl) x3c in_X3 tyX3 tyX3_ok nmX3 (by decide) q1293 rfl rfl rfl rfl rfl (by rw [pFs_len]; decide) dX3_init_209 ?_
  refine go_aload_n (pc := 212) C dX3_init_212 rfl 0 rfl ?_
  refine go_bipush (pc := 213) (v := (12 : Int32)) C dX3_init_213 (by decide) ?_
  refine go_newarr (pc := 215) (t := 0) (ty := .int) (N := 12) (a0 := (12, .inl (fun _ => 0))) C rfl q306 rfl (fun _ => rfl) (by decide) (by decide) (by decide) ⟨by decide, by decide⟩ dX3_init_215 (fun q27 => ?_)
  refine go_putF (pc := 217) (v := .ref q27) (ty := .array .int) C hI 27 (pW_A (f := 27) (q := q27) (σ := s3i) (rf := fun _ _ => .null) (rq := fun _ _ _ => none) (j := 27) (FK := FK3) (by rfl) (by decide) gap0 rfl rfl) x3c in_X3 tyX3 tyX3_ok nmX3 (by decide) q1294 rfl rfl rfl rfl rfl (by rw [pFs_len]; decide) dX3_init_217 ?_
  refine go_aload_n (pc := 220) C dX3_init_220 rfl 0 rfl ?_
  refine go_bipush (pc := 221) (v := (12 : Int32)) C dX3_init_221 (by decide) ?_
  refine go_newarr (pc := 223) (t := 0) (ty := .int) (N := 12) (a0 := (12, .inl (fun _ => 0))) C rfl q306 rfl (fun _ => rfl) (by decide) (by decide) (by decide) ⟨by decide, by decide⟩ dX3_init_223 (fun q28 => ?_)
  refine go_putF (pc := 225) (v := .ref q28) (ty := .array .int) C hI 28 (pW_A (f := 28) (q := q28) (σ := s3i) (rf := fun _ _ => .null) (rq := fun _ _ _ => none) (j := 28) (FK := FK3) (by rfl) (by decide) gap0 rfl rfl) x3c in_X3 tyX3 tyX3_ok nmX3 (by decide) q1295 rfl rfl rfl rfl rfl (by rw [pFs_len]; decide) dX3_init_225 ?_
  refine go_aload_n (pc := 228) C dX3_init_228 rfl 0 rfl ?_
  refine go_bipush (pc := 229) (v := (6 : Int32)) C dX3_init_229 (by decide) ?_
  refine go_newarr (pc := 231) (t := 0) (ty := .int) (N := 6) (a0 := (6, .inl (fun _ => 0))) C rfl q306 rfl (fun _ => rfl) (by decide) (by decide) (by decide) ⟨by decide, by decide⟩ dX3_init_231 (fun q29 => ?_)
  refine go_putF (pc := 233) (v := .ref q29) (ty := .array .int) C hI 29 (pW_A (f := 29) (q := q29) (σ := s3i) (rf := fun _ _ => .null) (rq := fun _ _ _ => none) (j := 29) (FK := FK3) (by rfl) (by decide) gap0 rfl rfl) x3c in_X3 tyX3 tyX3_ok nmX3 (by decide) q1296 rfl rfl rfl rfl rfl (by rw [pFs_len]; decide) dX3_init_233 ?_
  refine go_aload_n (pc := 236) C dX3_init_236 rfl 0 rfl ?_
  refine go_bipush (pc := 237) (v := (6 : Int32)) C dX3_init_237 (by decide) ?_
  refine go_newarr (pc := 239) (t := 0) (ty := .int) (N := 6) (a0 := (6, .inl (fun _ => 0))) C rfl q306 rfl (fun _ => rfl) (by decide) (by decide) (by decide) ⟨by decide, by decide⟩ dX3_init_239 (fun q30 => ?_)
  refine go_putF (pc := 241) (v := .ref q30) (ty := .array .int) C hI 30 (pW_A (f := 30) (q := q30) (σ := s3i) (rf := fun _ _ => .null) (rq := fun _ _ _ => none) (j := 30) (FK := FK3) (by rfl) (by decide) gap0 rfl rfl) x3c in_X3 tyX3 tyX3_ok nmX3 (by decide) q1297 rfl rfl rfl rfl rfl (by rw [pFs_len]; decide) dX3_init_241 ?_
  refine go_aload_n (pc := 244) C dX3_init_244 rfl 0 rfl ?_
  refine go_bipush (pc := 245) (v := (12 : Int32)) C dX3_init_245 (by decide) ?_
  refine go_putfield (pc := 247) (v := .int (12 : Int32)) (ty := .int) C 40 (pW_I (f := 40) (σ := s3i) (rf := fun _ _ => .null) (rq := fun _ _ _ => none) (j := 31) (FK := FK3) (by rfl) (by decide) (gapC (by decide +kernel)) (Or.inl rfl) rfl) x3c in_X3 tyX3 tyX3_ok nmX3 (by decide) q1307 rfl rfl rfl rfl (by rw [pFs_len]; decide) dX3_init_247 ?_
  refine go_aload_n (pc := 250) C dX3_init_250 rfl 0 rfl ?_
  refine go_sipush (pc := 251) (v := (400 : Int32)) C dX3_init_251 (by decide) ?_
  refine go_newarr (pc := 254) (t := 1) (ty := .byte) (N := 400) (a0 := (400, .inl (fun _ => 0))) C rfl q380 rfl (fun _ => rfl) (by decide) (by decide) (by decide) ⟨by decide, by decide⟩ dX3_init_254 (fun q31 => ?_)
  refine go_putF (pc := 256) (v := .ref q31) (ty := .array .byte) C hI 41 (pW_A (f := 41) (q := q31) (σ := s3i) (rf := fun _ _ => .null) (rq := fun _ _ _ => none) (j := 41) (FK := FK3) (by rfl) (by decide) gap0 rfl rfl) x3c in_X3 tyX3 tyX3_ok nmX3 (by decide) q1308 rfl rfl rfl rfl rfl (by rw [pFs_len]; decide) dX3_init_256 ?_
  refine go_aload_n (pc := 259) C dX3_init_259 rfl 0 rfl ?_
  refine go_sipush (pc := 260) (v := (1800 : Int32)) C dX3_init_260 (by decide) ?_
  refine go_newarr (pc := 263) (t := 0) (ty := .int) (N := 1800) (a0 := (1800, .inl (fun _ => 0))) C rfl q306 rfl (fun _ => rfl) (by decide) (by decide) (by decide) ⟨by decide, by decide⟩ dX3_init_263 (fun q32 => ?_)
  refine go_putF (pc := 265) (v := .ref q32) (ty := .array .int) C hI 42 (pW_A (f := 42) (q := q32) (σ := s3i) (rf := fun _ _ => .null) (rq := fun _ _ _ => none) (j := 42) (FK := FK3) (by rfl) (by decide) gap0 rfl rfl) x3c in_X3 tyX3 tyX3_ok nmX3 (by decide) q1309 rfl rfl rfl rfl rfl (by rw [pFs_len]; decide) dX3_init_265 ?_
  refine go_aload_n (pc := 268) C dX3_init_268 rfl 0 rfl ?_
  refine go_sipush (pc := 269) (v := (1800 : Int32)) C dX3_init_269 (by decide) ?_
  refine go_newarr (pc := 272) (t := 0) (ty := .int) (N := 1800) (a0 := (1800, .inl (fun _ => 0))) C rfl q306 rfl (fun _ => rfl) (by decide) (by decide) (by decide) ⟨by decide, by decide⟩ dX3_init_272 (fun q33 => ?_)
  refine go_putF (pc := 274) (v := .ref q33) (ty := .array .int) C hI 43 (pW_A (f := 43) (q := q33) (σ := s3i) (rf := fun _ _ => .null) (rq := fun _ _ _ => none) (j := 43) (FK := FK3) (by rfl) (by decide) gap0 rfl rfl) x3c in_X3 tyX3 tyX3_ok nmX3 (by decide) q1310 rfl rfl rfl rfl rfl (by rw [pFs_len]; decide) dX3_init_274 ?_
  refine go_aload_n (pc := 277) C dX3_init_277 rfl 0 rfl ?_
  refine go_bipush (pc := 278) (v := (6 : Int32)) C dX3_init_278 (by decide) ?_
  refine go_newarr (pc := 280) (t := 0) (ty := .int) (N := 6) (a0 := (6, .inl (fun _ => 0))) C rfl q306 rfl (fun _ => rfl) (by decide) (by decide) (by decide) ⟨by decide, by decide⟩ dX3_init_280 (fun q34 => ?_)
  refine go_putF (pc := 282) (v := .ref q34) (ty := .array .int) C hI 44 (pW_A (f := 44) (q := q34) (σ := s3i) (rf := fun _ _ => .null) (rq := fun _ _ _ => none) (j := 44) (FK := FK3) (by rfl) (by decide) gap0 rfl rfl) x3c in_X3 tyX3 tyX3_ok nmX3 (by decide) q1311 rfl rfl rfl rfl rfl (by rw [pFs_len]; decide) dX3_init_282 ?_
  refine go_aload_n (pc := 285) C dX3_init_285 rfl 0 rfl ?_
  refine go_bipush (pc := 286) (v := (72 : Int32)) C dX3_init_286 (by decide) ?_
  refine go_newarr (pc := 288) (t := 0) (ty := .int) (N := 72) (a0 := (72, .inl (fun _ => 0))) C rfl q306 rfl (fun _ => rfl) (by decide) (by decide) (by decide) ⟨by decide, by decide⟩ dX3_init_288 (fun q35 => ?_)
  refine go_putF (pc := 290) (v := .ref q35) (ty := .array .int) C hI 45 (pW_A (f := 45) (q := q35) (σ := s3i) (rf := fun _ _ => .null) (rq := fun _ _ _ => none) (j := 45) (FK := FK3) (by rfl) (by decide) gap0 rfl rfl) x3c in_X3 tyX3 tyX3_ok nmX3 (by decide) q1312 rfl rfl rfl rfl rfl (by rw [pFs_len]; decide) dX3_init_290 ?_
  refine go_aload_n (pc := 293) C dX3_init_293 rfl 0 rfl ?_
  refine go_bipush (pc := 294) (v := (72 : Int32)) C dX3_init_294 (by decide) ?_
  refine go_newarr (pc := 296) (t := 0) (ty := .int) (N := 72) (a0 := (72, .inl (fun _ => 0))) C rfl q306 rfl (fun _ => rfl) (by decide) (by decide) (by decide) ⟨by decide, by decide⟩ dX3_init_296 (fun q36 => ?_)
  refine go_putF (pc := 298) (v := .ref q36) (ty := .array .int) C hI 46 (pW_A (f := 46) (q := q36) (σ := s3i) (rf := fun _ _ => .null) (rq := fun _ _ _ => none) (j := 46) (FK := FK3) (by rfl) (by decide) gap0 rfl rfl) x3c in_X3 tyX3 tyX3_ok nmX3 (by decide) q1313 rfl rfl rfl rfl rfl (by rw [pFs_len]; decide) dX3_init_298 ?_
  refine go_aload_n (pc := 301) C dX3_init_301 rfl 0 rfl ?_
  refine go_bipush (pc := 302) (v := (72 : Int32)) C dX3_init_302 (by decide) ?_
  refine go_newarr (pc := 304) (t := 0) (ty := .int) (N := 72) (a0 := (72, .inl (fun _ => 0))) C rfl q306 rfl (fun _ => rfl) (by decide) (by decide) (by decide) ⟨by decide, by decide⟩ dX3_init_304 (fun q37 => ?_)
  refine go_putF (pc := 306) (v := .ref q37) (ty := .array .int) C hI 47 (pW_A (f := 47) (q := q37) (σ := s3i) (rf := fun _ _ => .null) (rq := fun _ _ _ => none) (j := 47) (FK := FK3) (by rfl) (by decide) gap0 rfl rfl) x3c in_X3 tyX3 tyX3_ok nmX3 (by decide) q1314 rfl rfl rfl rfl rfl (by rw [pFs_len]; decide) dX3_init_306 ?_
  refine go_aload_n (pc := 309) C dX3_init_309 rfl 0 rfl ?_
  refine go_sipush (pc := 310) (v := (402 : Int32)) C dX3_init_310 (by decide) ?_
  refine go_newarr (pc := 313) (t := 0) (ty := .int) (N := 402) (a0 := (402, .inl (fun _ => 0))) C rfl q306 rfl (fun _ => rfl) (by decide) (by decide) (by decide) ⟨by decide, by decide⟩ dX3_init_313 (fun q38 => ?_)
  refine go_putF (pc := 315) (v := .ref q38) (ty := .array .int) C hI 48 (pW_A (f := 48) (q := q38) (σ := s3i) (rf := fun _ _ => .null) (rq := fun _ _ _ => none) (j := 48) (FK := FK3) (by rfl) (by decide) gap0 rfl rfl) x3c in_X3 tyX3 tyX3_ok nmX3 (by decide) q1315 rfl rfl rfl rfl rfl (by rw [pFs_len]; decide) dX3_init_315 ?_
  refine go_aload_n (pc := 318) C dX3_init_318 rfl 0 rfl ?_
  refine go_bipush (pc := 319) (v := (12 : Int32)) C dX3_init_319 (by decide) ?_
  refine go_newarr (pc := 321) (t := 3) (ty := .long) (N := 12) (a0 := (12, .inr (.inl (fun _ => 0)))) C rfl q501 rfl (fun _ => rfl) (by decide) (by decide) (by decide) ⟨by decide, by decide⟩ dX3_init_321 (fun q39 => ?_)
  refine go_putF (pc := 323) (v := .ref q39) (ty := .array .long) C hI 49 (pW_A (f := 49) (q := q39) (σ := s3i) (rf := fun _ _ => .null) (rq := fun _ _ _ => none) (j := 49) (FK := FK3) (by rfl) (by decide) gap0 rfl rfl) x3c in_X3 tyX3 tyX3_ok nmX3 (by decide) q1316 rfl rfl rfl rfl rfl (by rw [pFs_len]; decide) dX3_init_323 ?_
  refine go_aload_n (pc := 326) C dX3_init_326 rfl 0 rfl ?_
  refine go_sipush (pc := 327) (v := (300 : Int32)) C dX3_init_327 (by decide) ?_
  refine go_newarr (pc := 330) (t := 3) (ty := .long) (N := 300) (a0 := (300, .inr (.inl (fun _ => 0)))) C rfl q501 rfl (fun _ => rfl) (by decide) (by decide) (by decide) ⟨by decide, by decide⟩ dX3_init_330 (fun q40 => ?_)
  refine go_putF (pc := 332) (v := .ref q40) (ty := .array .long) C hI 50 (pW_A (f := 50) (q := q40) (σ := s3i) (rf := fun _ _ => .null) (rq := fun _ _ _ => none) (j := 50) (FK := FK3) (by rfl) (by decide) gap0 rfl rfl) x3c in_X3 tyX3 tyX3_ok nmX3 (by decide) q1317 rfl rfl rfl rfl rfl (by rw [pFs_len]; decide) dX3_init_332 ?_
  refine go_aload_n (pc := 335) C dX3_init_335 rfl 0 rfl ?_
  refine go_sipush (pc := 336) (v := (1540 : Int32)) C dX3_init_336 (by decide) ?_
  refine go_newarr (pc := 339) (t := 0) (ty := .int) (N := 1540) (a0 := (1540, .inl (fun _ => 0))) C rfl q306 rfl (fun _ => rfl) (by decide) (by decide) (by decide) ⟨by decide, by decide⟩ dX3_init_339 (fun q41 => ?_)
  refine go_putF (pc := 341) (v := .ref q41) (ty := .array .int) C hI 53 (pW_A (f := 53) (q := q41) (σ := s3i) (rf := fun _ _ => .null) (rq := fun _ _ _ => none) (j := 51) (FK := FK3) (by rfl) (by decide) (gapC (by decide +kernel)) rfl rfl) x3c in_X3 tyX3 tyX3_ok nmX3 (by decide) q1320 rfl rfl rfl rfl rfl (by rw [pFs_len]; decide) dX3_init_341 ?_
  refine go_aload_n (pc := 344) C dX3_init_344 rfl 0 rfl ?_
  refine go_iconst (pc := 345) (v := (1 : Int32)) C dX3_init_345 (by decide) ?_
  refine go_newarr (pc := 346) (t := 0) (ty := .int) (N := 1) (a0 := (1, .inl (fun _ => 0))) C rfl q306 rfl (fun _ => rfl) (by decide) (by decide) (by decide) ⟨by decide, by decide⟩ dX3_init_346 (fun q42 => ?_)
  refine go_putF (pc := 348) (v := .ref q42) (ty := .array .int) C hI 54 (pW_A (f := 54) (q := q42) (σ := s3i) (rf := fun _ _ => .null) (rq := fun _ _ _ => none) (j := 54) (FK := FK3) (by rfl) (by decide) gap0 rfl rfl) x3c in_X3 tyX3 tyX3_ok nmX3 (by decide) q1321 rfl rfl rfl rfl rfl (by rw [pFs_len]; decide) dX3_init_348 ?_
  refine go_aload_n (pc := 351) C dX3_init_351 rfl 0 rfl ?_
  refine go_bipush (pc := 352) (v := (9 : Int32)) C dX3_init_352 (by decide) ?_
  refine go_newarr (pc := 354) (t := 0) (ty := .int) (N := 9) (a0 := (9, .inl (fun _ => 0))) C rfl q306 rfl (fun _ => rfl) (by decide) (by decide) (by decide) ⟨by decide, by decide⟩ dX3_init_354 (fun q43 => ?_)
  refine go_putF (pc := 356) (v := .ref q43) (ty := .array .int) C hI 58 (pW_A (f := 58) (q := q43) (σ := s3i) (rf := fun _ _ => .null) (rq := fun _ _ _ => none) (j := 55) (FK := FK3) (by rfl) (by decide) (gapC (by decide +kernel)) rfl rfl) x3c in_X3 tyX3 tyX3_ok nmX3 (by decide) q1325 rfl rfl rfl rfl rfl (by rw [pFs_len]; decide) dX3_init_356 ?_
  refine go_aload_n (pc := 359) C dX3_init_359 rfl 0 rfl ?_
  refine go_bipush (pc := 360) (v := (8 : Int32)) C dX3_init_360 (by decide) ?_
  refine go_newarr (pc := 362) (t := 0) (ty := .int) (N := 8) (a0 := (8, .inl (fun _ => 0))) C rfl q306 rfl (fun _ => rfl) (by decide) (by decide) (by decide) ⟨by decide, by decide⟩ dX3_init_362 (fun q44 => ?_)
  refine go_putF (pc := 364) (v := .ref q44) (ty := .array .int) C hI 59 (pW_A (f := 59) (q := q44) (σ := s3i) (rf := fun _ _ => .null) (rq := fun _ _ _ => none) (j := 59) (FK := FK3) (by rfl) (by decide) gap0 rfl rfl) x3c in_X3 tyX3 tyX3_ok nmX3 (by decide) q1326 rfl rfl rfl rfl rfl (by rw [pFs_len]; decide) dX3_init_364 ?_
  refine go_aload_n (pc := 367) C dX3_init_367 rfl 0 rfl ?_
  refine go_bipush (pc := 368) (v := (7 : Int32)) C dX3_init_368 (by decide) ?_
  refine go_newarr (pc := 370) (t := 0) (ty := .int) (N := 7) (a0 := (7, .inl (fun _ => 0))) C rfl q306 rfl (fun _ => rfl) (by decide) (by decide) (by decide) ⟨by decide, by decide⟩ dX3_init_370 (fun q45 => ?_)
  refine go_putF (pc := 372) (v := .ref q45) (ty := .array .int) C hI 60 (pW_A (f := 60) (q := q45) (σ := s3i) (rf := fun _ _ => .null) (rq := fun _ _ _ => none) (j := 60) (FK := FK3) (by rfl) (by decide) gap0 rfl rfl) x3c in_X3 tyX3 tyX3_ok nmX3 (by decide) q1327 rfl rfl rfl rfl rfl (by rw [pFs_len]; decide) dX3_init_372 ?_
  refine go_aload_n (pc := 375) C dX3_init_375 rfl 0 rfl ?_
  refine go_bipush (pc := 376) (v := (9 : Int32)) C dX3_init_376 (by decide) ?_
  refine go_newarr (pc := 378) (t := 0) (ty := .int) (N := 9) (a0 := (9, .inl (fun _ => 0))) C rfl q306 rfl (fun _ => rfl) (by decide) (by decide) (by decide) ⟨by decide, by decide⟩ dX3_init_378 (fun q46 => ?_)
  refine go_putF (pc := 380) (v := .ref q46) (ty := .array .int) C hI 63 (pW_A (f := 63) (q := q46) (σ := s3i) (rf := fun _ _ => .null) (rq := fun _ _ _ => none) (j := 61) (FK := FK3) (by rfl) (by decide) (gapC (by decide +kernel)) rfl rfl) x3c in_X3 tyX3 tyX3_ok nmX3 (by decide) q1330 rfl rfl rfl rfl rfl (by rw [pFs_len]; decide) dX3_init_380 ?_
  refine go_aload_n (pc := 383) C dX3_init_383 rfl 0 rfl ?_
  refine go_bipush (pc := 384) (v := (8 : Int32)) C dX3_init_384 (by decide) ?_
  refine go_newarr (pc := 386) (t := 0) (ty := .int) (N := 8) (a0 := (8, .inl (fun _ => 0))) C rfl q306 rfl (fun _ => rfl) (by decide) (by decide) (by decide) ⟨by decide, by decide⟩ dX3_init_386 (fun q47 => ?_)
  refine go_putF (pc := 388) (v := .ref q47) (ty := .array .int) C hI 64 (pW_A (f := 64) (q := q47) (σ := s3i) (rf := fun _ _ => .null) (rq := fun _ _ _ => none) (j := 64) (FK := FK3) (by rfl) (by decide) gap0 rfl rfl) x3c in_X3 tyX3 tyX3_ok nmX3 (by decide) q1331 rfl rfl rfl rfl rfl (by rw [pFs_len]; decide) dX3_init_388 ?_
  refine go_aload_n (pc := 391) C dX3_init_391 rfl 0 rfl ?_
  refine go_bipush (pc := 392) (v := (8 : Int32)) C dX3_init_392 (by decide) ?_
  refine go_newarr (pc := 394) (t := 0) (ty := .int) (N := 8) (a0 := (8, .inl (fun _ => 0))) C rfl q306 rfl (fun _ => rfl) (by decide) (by decide) (by decide) ⟨by decide, by decide⟩ dX3_init_394 (fun q48 => ?_)
  refine go_putF (pc := 396) (v := .ref q48) (ty := .array .int) C hI 65 (pW_A (f := 65) (q := q48) (σ := s3i) (rf := fun _ _ => .null) (rq := fun _ _ _ => none) (j := 65) (FK := FK3) (by rfl) (by decide) gap0 rfl rfl) x3c in_X3 tyX3 tyX3_ok nmX3 (by decide) q1332 rfl rfl rfl rfl rfl (by rw [pFs_len]; decide) dX3_init_396 ?_
  refine go_aload_n (pc := 399) C dX3_init_399 rfl 0 rfl ?_
  refine go_bipush (pc := 400) (v := (8 : Int32)) C dX3_init_400 (by decide) ?_
  refine go_newarr (pc := 402) (t := 0) (ty := .int) (N := 8) (a0 := (8, .inl (fun _ => 0))) C rfl q306 rfl (fun _ => rfl) (by decide) (by decide) (by decide) ⟨by decide, by decide⟩ dX3_init_402 (fun q49 => ?_)
  refine go_putF (pc := 404) (v := .ref q49) (ty := .array .int) C hI 67 (pW_A (f := 67) (q := q49) (σ := s3i) (rf := fun _ _ => .null) (rq := fun _ _ _ => none) (j := 66) (FK := FK3) (by rfl) (by decide) (gapC (by decide +kernel)) rfl rfl) x3c in_X3 tyX3 tyX3_ok nmX3 (by decide) q1334 rfl rfl rfl rfl rfl (by rw [pFs_len]; decide) dX3_init_404 ?_
  refine go_aload_n (pc := 407) C dX3_init_407 rfl 0 rfl ?_
  refine go_sipush (pc := 408) (v := (256 : Int32)) C dX3_init_408 (by decide) ?_
  refine go_newarr (pc := 411) (t := 2) (ty := .boolean) (N := 256) (a0 := (256, .inl (fun _ => 0))) C rfl q502 rfl (fun _ => rfl) (by decide) (by decide) (by decide) ⟨by decide, by decide⟩ dX3_init_411 (fun q50 => ?_)
  refine go_putF (pc := 413) (v := .ref q50) (ty := .array .boolean) C hI 68 (pW_A (f := 68) (q := q50) (σ := s3i) (rf := fun _ _ => .null) (rq := fun _ _ _ => none) (j := 68) (FK := FK3) (by rfl) (by decide) gap0 rfl rfl) x3c in_X3 tyX3 tyX3_ok nmX3 (by decide) q1335 rfl rfl rfl rfl rfl (by rw [pFs_len]; decide) dX3_init_413 ?_
  refine go_aload_n (pc := 416) C dX3_init_416 rfl 0 rfl ?_
  refine go_sipush (pc := 417) (v := (9500 : Int32)) C dX3_init_417 (by decide) ?_
  refine go_newarr (pc := 420) (t := 0) (ty := .int) (N := 9500) (a0 := (9500, .inl (fun _ => 0))) C rfl q306 rfl (fun _ => rfl) (by decide) (by decide) (by decide) ⟨by decide, by decide⟩ dX3_init_420 (fun q51 => ?_)
  refine go_putF (pc := 422) (v := .ref q51) (ty := .array .int) C hI 69 (pW_A (f := 69) (q := q51) (σ := s3i) (rf := fun _ _ => .null) (rq := fun _ _ _ => none) (j := 69) (FK := FK3) (by rfl) (by decide) gap0 rfl rfl) x3c in_X3 tyX3 tyX3_ok nmX3 (by decide) q1336 rfl rfl rfl rfl rfl (by rw [pFs_len]; decide) dX3_init_422 ?_
  refine go_aload_n (pc := 425) C dX3_init_425 rfl 0 rfl ?_
  refine go_iconst (pc := 426) (v := (4 : Int32)) C dX3_init_426 (by decide) ?_
  refine go_newarr (pc := 427) (t := 2) (ty := .boolean) (N := 4) (a0 := (4, .inl (fun _ => 0))) C rfl q502 rfl (fun _ => rfl) (by decide) (by decide) (by decide) ⟨by decide, by decide⟩ dX3_init_427 (fun q52 => ?_)
  refine go_putF (pc := 429) (v := .ref q52) (ty := .array .boolean) C hI 70 (pW_A (f := 70) (q := q52) (σ := s3i) (rf := fun _ _ => .null) (rq := fun _ _ _ => none) (j := 70) (FK := FK3) (by rfl) (by decide) gap0 rfl rfl) x3c in_X3 tyX3 tyX3_ok nmX3 (by decide) q1337 rfl rfl rfl rfl rfl (by rw [pFs_len]; decide) dX3_init_429 ?_
  exact (hE 52 16533 _ 432 [(0, .ref b)] (Nat.le_refl _) (Nat.le_refl _)).2.2.2.1 rfl dX3_init_432 ⟨rfl, _, rfl, (pW_gap (by decide) (gapC (by decide +kernel))).trans (pW_all (j := 73) rfl)⟩

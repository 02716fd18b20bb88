/-! RULES: Clause.fits, Rule.sumFor -/
set_option maxRecDepth 100000
theorem x5pn : plainName RX5 = true := by decide +kernel
theorem x6pn : plainName RX6 = true := by decide +kernel
section GO
variable {Γ : Gam} {cc : ByteArray} {own : String} {fr : Nat × Nat × Nat} {lo k n pc : Nat} {ws ws' : va_W} {lv : List (Nat × Value)} {st : List Value}
theorem go_aald (C : Cx Γ cc own fr lo) {α : Type} {r : α} {X : Option α} {b N t : Nat} {f : Nat → Option Nat} {cn : String} (ha : hasA ws b (Γ.d.2.1 t, N, .inr (.inr (.inr (.inr f))))) (ht : (gTy Γ.d)[t]? = some (Γ.d.2.1 t, .object cn)) {i : Int32} (h : chk (inB i N) X = some r) (hd : decode cc pc = .ok (.aaload, 1)) (kk : X = some r → Go Γ k n ws (pc + 1) lv (va_rf (f i.toNatClampNeg) :: st)) : Go Γ k n ws pc lv (.int i :: .ref b :: st) := by
  obtain ⟨p, l, e, R, s, m, args, below, meth, c, nL, d, A, Q⟩ := Γ
  obtain ⟨hx, hb, hml, hown, hts, hlk, hK, hA, hZ, ⟨hfr, hce, hsl⟩, hlo⟩ := C
  intro H locs ls hP hD hS hl
  obtain ⟨q, hq⟩ := ha
  exact va_aldq hx hb hK hP q t hq ht (inB_in (chk_some h).1) hd (kk (chk_some h).2 H locs ls hP hD hS hl)
theorem go_aaldK (C : Cx Γ cc own fr lo) {b N t : Nat} {f : Nat → Option Nat} {cn : String} (ha : hasA ws b (Γ.d.2.1 t, N, .inr (.inr (.inr (.inr f))))) (ht : (gTy Γ.d)[t]? = some (Γ.d.2.1 t, .object cn)) {i : Int32} (hi : inB i N = true) (hd : decode cc pc = .ok (.aaload, 1)) (kk : Go Γ k n ws (pc + 1) lv (va_rf (f i.toNatClampNeg) :: st)) : Go Γ k n ws pc lv (.int i :: .ref b :: st) :=
  go_aald (X := some ()) (r := ()) C ha ht (by rw [hi]; rfl) hd (fun _ => kk)
end GO
/-- a clause: its sum; its test, where it has one -/
abbrev Cls : Type := ((Nat → Int64) → Int64) × Option ((Nat → Int64) → Bool)
def fitsV (c : Cls) (wds : Nat → Int64) : Bool := match c.2 with
  | none => true
  | some f => f wds
def sumV (wds : Nat → Int64) : List Cls → Int64
  | [] => 0
  | c :: t => if fitsV c wds = true then c.1 wds else sumV wds t
def cAt (ws : va_W) (n b : Nat) (c : Cls) : Prop := ∃ (a1 : Nat) (tv : Value), hasO ws b 6 [.ref a1, tv] ∧ vAt ws n a1 c.1 ∧ ((c.2 = none ∧ tv = .null) ∨ ∃ (a2 : Nat) (f : (Nat → Int64) → Bool), c.2 = some f ∧ tv = .ref a2 ∧ tAt ws n a2 f)
def rAt (ws : va_W) (d : gD) (n a : Nat) (cs : List Cls) : Prop := ∃ (ca : Nat) (q : Nat → Option Nat), hasO ws a 5 [.ref ca, .int (nI cs.length)] ∧ hasA ws ca (d.2.1 5, 12, .inr (.inr (.inr (.inr q)))) ∧ cs.length ≤ 12 ∧ ∀ (k : Nat) (c : Cls), cs[k]? = some c → ∃ b : Nat, q k = some b ∧ cAt ws n b c
theorem cAt.mono {ws w2 : va_W} {n b : Nat} {c : Cls} (hw : ∀ b ci fs, hasO ws b ci fs → hasO w2 b ci fs) (h : cAt ws n b c) : cAt w2 n b c := by
  obtain ⟨a1, tv, h1, h2, h3⟩ := h
  refine ⟨a1, tv, hw _ _ _ h1, h2.mono hw, ?_⟩
  rcases h3 with h3 | ⟨a2, f, g1, g2, g3⟩
  · exact Or.inl h3
  · exact Or.inr ⟨a2, f, g1, g2, g3.mono hw⟩
theorem rAt.mono {ws w2 : va_W} {d : gD} {n a : Nat} {cs : List Cls} (hw : ∀ b ci fs, hasO ws b ci fs → hasO w2 b ci fs) (hw2 : ∀ b x, hasA ws b x → hasA w2 b x) (h : rAt ws d n a cs) : rAt w2 d n a cs := by
  obtain ⟨ca, q, h1, h2, h3, h4⟩ := h
  exact ⟨ca, q, hw _ _ _ h1, hw2 _ _ h2, h3, fun k c hk => by obtain ⟨b, g1, g2⟩ := h4 k c hk; exact ⟨b, g1, g2.mono hw⟩⟩
theorem x6pd_fits : yX6_fits.cls = RX6 ∧ yX6_fits.cls ≠ "java/lang/invoke/MethodHandle" ∧ yX6_fits.cls ≠ "java/lang/invoke/VarHandle" ∧ (parseMethodDescriptor yX6_fits.desc).map (fun d => d.parameters.length) = some 1 := by decide +kernel
theorem x5pd_sumFor : yX5_sumFor.cls = RX5 ∧ yX5_sumFor.cls ≠ "java/lang/invoke/MethodHandle" ∧ yX5_sumFor.cls ≠ "java/lang/invoke/VarHandle" ∧ (parseMethodDescriptor yX5_sumFor.desc).map (fun d => d.parameters.length) = some 1 := by decide +kernel
theorem m6_fits {l : Launch} {d : gD} {ws : va_W} {b wa n : Nat} {wds : Nat → Int64} {c : Cls} (hc : cAt ws n b c) (hwa : hasA ws wa (d.2.1 3, 12, .inr (.inl wds))) : Mt l d yX6_fits cX6_fits 2 (some .boolean) (n + 1, 0, 0) ((n + 1) * 40) ws [.ref b, .ref wa] (fun v w => v = some (.int (b01 (fitsV c wds))) ∧ w = ws) := by
  refine Mt.of x6pn (Nat.le_of_ble_eq_true rfl) ?_
  intro Γ hl hd hN C hE
  subst hl; subst hd
  obtain ⟨a1, tv, h1, h2, h3⟩ := hc
  show Go Γ 0 0 ws 0 [(0, .ref b), (1, .ref wa)] []
  refine go_aload_n (pc := 0) C dX6_fits_0 rfl 0 rfl ?_
  refine go_getfield (pc := 1) C h1 rfl in_X6 1 (by decide) q733 rfl dX6_fits_1 ?_
  rcases h3 with ⟨h3, rfl⟩ | ⟨a2, f, h3, rfl, h4⟩
  · have e : fitsV c wds = true := by simp [fitsV, h3]
    rw [e] at hE
    refine go_ifnullN (pc := 4) (tgt := 18) C dX6_fits_4 (by decide) ?_
    refine go_iconst (v := (1 : Int32)) (pc := 18) C dX6_fits_18 (by decide) ?_
    refine go_goto (pc := 19) (tgt := 23) C dX6_fits_19 (by decide) ?_
    exact (hE 0 0 _ _ _ (Nat.zero_le _) (Nat.zero_le _)).2.1 _ rfl (Or.inr rfl) dX6_fits_23 ⟨rfl, rfl⟩
  · have e : fitsV c wds = f wds := by simp [fitsV, h3]
    rw [e] at hE
    refine go_ifnull (pc := 4) C dX6_fits_4 ?_
    refine go_aload_n (pc := 7) C dX6_fits_7 rfl 0 rfl ?_
    refine go_getfield (pc := 8) C h1 rfl in_X6 1 (by decide) q733 rfl dX6_fits_8 ?_
    refine go_aload_n (pc := 11) C dX6_fits_11 rfl 1 rfl ?_
    refine go_tst (pc := 12) C (h4.of hwa) hwa q1069 (Nat.le_refl _) (by omega) (Nat.le_of_ble_eq_true rfl) ⟨Nat.zero_le _, Nat.zero_le _⟩ dX6_fits_12 ?_
    cases hf : f wds
    · rw [hf] at hE
      refine go_if_eqT (pc := 15) (tgt := 22) C dX6_fits_15 (by decide) (by decide) ?_
      refine go_iconst (v := (0 : Int32)) (pc := 22) C dX6_fits_22 (by decide) ?_
      exact (hE 0 0 _ _ _ (Nat.zero_le _) (Nat.zero_le _)).2.1 _ rfl (Or.inl rfl) dX6_fits_23 ⟨rfl, rfl⟩
    · rw [hf] at hE
      refine go_if_eqF (pc := 15) (tgt := 22) C dX6_fits_15 (by decide) (by decide) ?_
      refine go_iconst (v := (1 : Int32)) (pc := 18) C dX6_fits_18 (by decide) ?_
      refine go_goto (pc := 19) (tgt := 23) C dX6_fits_19 (by decide) ?_
      exact (hE 0 0 _ _ _ (Nat.zero_le _) (Nat.zero_le _)).2.1 _ rfl (Or.inr rfl) dX6_fits_23 ⟨rfl, rfl⟩
theorem sumFor_loop {Γ : Gam} {ws : va_W} {a wa n : Nat} {wds : Nat → Int64} {cs : List Cls} {r9 : Int64} (hN : Γ.nL = 3) (C : Cx Γ cX5_sumFor RX5 (n + 2, 0, 0) ((n + 2) * 40)) (hE : Rets Γ cX5_sumFor (some .long) 0 0 (fun v w => v = some (.long r9) ∧ w = ws)) (hr : rAt ws Γ.d n a cs) (hwa : hasA ws wa (Γ.d.2.1 3, 12, .inr (.inl wds))) :
    ∀ (m j : Nat), j + m = cs.length → sumV wds (cs.drop j) = r9 → Go Γ 0 0 ws 2 [(0, .ref a), (1, .ref wa), (2, .int (nI j))] [] := by
  obtain ⟨ca, q, h1, h2, h3, h4⟩ := hr
  intro m
  induction m with
  | zero =>
    intro j hj hs
    refine go_iload_n (pc := 2) C dX5_sumFor_2 rfl 2 rfl ?_
    refine go_aload_n (pc := 3) C dX5_sumFor_3 rfl 0 rfl ?_
    refine go_getfield (pc := 4) C h1 rfl in_X5 1 (by decide) q714 rfl dX5_sumFor_4 ?_
    refine go_icmp_ge (A := some ()) (B := none) (r := ()) (pc := 7) (tgt := 43) C dX5_sumFor_7 (by decide) (by rw [if_pos (nI_le (by omega) (by omega))]) (fun _ => ?_) (fun h => by cases h)
    refine go_lconst (v := (0 : Int64)) (pc := 43) C dX5_sumFor_43 (by decide) ?_
    rw [List.drop_eq_nil_of_le (by omega)] at hs
    exact (hE 0 0 _ _ _ (Nat.zero_le _) (Nat.zero_le _)).2.2.1 _ rfl dX5_sumFor_44 ⟨congrArg (fun z => some (Value.long z)) hs, rfl⟩
  | succ m ih =>
    intro j hj hs
    have hlt : j < cs.length := by omega
    obtain ⟨b, hb, hcb⟩ := h4 j cs[j] (List.getElem?_eq_getElem hlt)
    have hin : inB (nI j) 12 = true := by
      simp only [inB, Bool.and_eq_true, decide_eq_true_eq]
      exact ⟨nI_pos' (by omega), by rw [nI_clamp (by omega)]; omega⟩
    have hcl : (nI j).toNatClampNeg = j := nI_clamp (by omega)
    have hcb2 := hcb
    obtain ⟨a1, tv, g1, g2, -⟩ := hcb
    rw [List.drop_eq_getElem_cons hlt] at hs
    refine go_iload_n (pc := 2) C dX5_sumFor_2 rfl 2 rfl ?_
    refine go_aload_n (pc := 3) C dX5_sumFor_3 rfl 0 rfl ?_
    refine go_getfield (pc := 4) C h1 rfl in_X5 1 (by decide) q714 rfl dX5_sumFor_4 ?_
    refine go_icmp_ge (A := none) (B := some ()) (r := ()) (pc := 7) (tgt := 43) C dX5_sumFor_7 (by decide) (by rw [if_neg (nI_ge hlt (by omega))]) (fun h => by cases h) (fun _ => ?_)
    refine go_aload_n (pc := 10) C dX5_sumFor_10 rfl 0 rfl ?_
    refine go_getfield (pc := 11) C h1 rfl in_X5 0 (by decide) q712 rfl dX5_sumFor_11 ?_
    refine go_iload_n (pc := 14) C dX5_sumFor_14 rfl 2 rfl ?_
    refine go_aaldK (t := 5) (pc := 15) C h2 rfl hin dX5_sumFor_15 ?_
    rw [hcl, hb]
    refine go_aload_n (pc := 16) C dX5_sumFor_16 rfl 1 rfl ?_
    refine go_callVi (pc := 17) C [.ref wa] (m6_fits hcb2 hwa) q1065 q1066 q1067 q153 q1068 x6pd_fits (by show n + 1 + 1 ≤ n + 2; omega) (by omega) g1 rfl rfl (Nat.le_of_ble_eq_true rfl) ⟨Nat.zero_le _, Nat.zero_le _⟩ dX5_sumFor_17 rfl ?_
    cases hf : fitsV cs[j] wds
    · rw [sumV, hf] at hs
      refine go_if_eqT (pc := 20) (tgt := 37) C dX5_sumFor_20 (by decide) (by decide) ?_
      refine go_iinc (v := nI (j + 1)) (pc := 37) C hN dX5_sumFor_37 (q := 2) rfl (nI_1 j) (by decide) rfl ?_
      refine go_goto (pc := 40) (tgt := 2) C dX5_sumFor_40 (by decide) ?_
      refine go_sub [1, 2, 0] rfl ?_
      exact ih (j + 1) (by omega) (by simpa using hs)
    · rw [sumV, hf] at hs
      refine go_if_eqF (pc := 20) (tgt := 37) C dX5_sumFor_20 (by decide) (by decide) ?_
      refine go_aload_n (pc := 23) C dX5_sumFor_23 rfl 0 rfl ?_
      refine go_getfield (pc := 24) C h1 rfl in_X5 0 (by decide) q712 rfl dX5_sumFor_24 ?_
      refine go_iload_n (pc := 27) C dX5_sumFor_27 rfl 2 rfl ?_
      refine go_aaldK (t := 5) (pc := 28) C h2 rfl hin dX5_sumFor_28 ?_
      rw [hcl, hb]
      refine go_getfieldN (pc := 29) C g1 rfl in_X6 0 (by decide) q731 rfl dX5_sumFor_29 ?_
      refine go_aload_n (pc := 32) C dX5_sumFor_32 rfl 1 rfl ?_
      refine go_val (pc := 33) C (g2.of hwa) hwa q1096 (by show n + 1 ≤ n + 2; omega) (by omega) (Nat.le_of_ble_eq_true rfl) ⟨Nat.zero_le _, Nat.zero_le _⟩ dX5_sumFor_33 ?_
      exact (hE 0 0 _ _ _ (Nat.zero_le _) (Nat.zero_le _)).2.2.1 _ rfl dX5_sumFor_36 ⟨congrArg (fun z => some (Value.long z)) (by simpa using hs), rfl⟩
theorem m5_sumFor {l : Launch} {d : gD} {ws : va_W} {a wa n : Nat} {wds : Nat → Int64} {cs : List Cls} (hr : rAt ws d n a cs) (hwa : hasA ws wa (d.2.1 3, 12, .inr (.inl wds))) : Mt l d yX5_sumFor cX5_sumFor 3 (some .long) (n + 2, 0, 0) ((n + 2) * 40) ws [.ref a, .ref wa] (fun v w => v = some (.long (sumV wds cs)) ∧ w = ws) := by
  refine Mt.of x5pn (Nat.le_of_ble_eq_true rfl) ?_
  intro Γ hl hd hN C hE
  subst hl; subst hd
  show Go Γ 0 0 ws 0 [(0, .ref a), (1, .ref wa)] []
  refine go_iconst (v := (0 : Int32)) (pc := 0) C dX5_sumFor_0 (by decide) ?_
  refine go_istore_n (pc := 1) C hN dX5_sumFor_1 rfl (by decide) rfl ?_
  refine go_sub [1, 2, 0] rfl ?_
  exact sumFor_loop hN C hE hr hwa cs.length 0 (by omega) rfl

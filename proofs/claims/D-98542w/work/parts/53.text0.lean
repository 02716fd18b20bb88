/-! A TEXT IS MADE; cells that nobody names any more are dropped -/
set_option maxRecDepth 100000
def up14 (A : XA) (q : Nat) : XA := (fun j f => if j = 14 then q else A.1 j f, A.2)
theorem xrq_last {d : gD} {A : XA} {q : Nat} (i : Nat) (z : Int32) : (if z = 0 then none else if i < 4 then some ((up14 A q).1 (9 + i) 0) else none) = (if z = 0 then none else if i < 4 then some (A.1 (9 + i) 0) else none) := by
  by_cases h : i < 4
  · have e : (up14 A q).1 (9 + i) 0 = A.1 (9 + i) 0 := by
      show (if 9 + i = 14 then q else A.1 (9 + i) 0) = _
      rw [if_neg (by omega)]
    rw [e]
  · simp [h]
theorem xrq14 {d : gD} {A : XA} {q : Nat} : xrq d (up14 A q) 0 = xrq d A 0 := by
  funext f i z
  match f with
  | 9 => rfl
  | 10 => rfl
  | 11 => rfl
  | 12 => rfl
  | 0 => exact xrq_last (d := d) i z
  | 1 => exact xrq_last (d := d) i z
  | 2 => exact xrq_last (d := d) i z
  | 3 => exact xrq_last (d := d) i z
  | 4 => exact xrq_last (d := d) i z
  | 5 => exact xrq_last (d := d) i z
  | 6 => exact xrq_last (d := d) i z
  | 7 => exact xrq_last (d := d) i z
  | 8 => exact xrq_last (d := d) i z
  | f + 13 => exact xrq_last (d := d) i z
theorem XB14 {d : gD} {A : XA} {q : Nat} {σ : Bl} : ∀ {j : Nat}, j ≠ 14 → XB d (up14 A q) j σ = XB d A j σ
  | 0, _ => by
    show bWr d 0 FK0 (A.1 0) (xrf A 0) (xrq d (up14 A q) 0) σ = _
    rw [xrq14]
    rfl
  | 1, _ => rfl
  | 2, _ => rfl
  | 3, _ => rfl
  | 4, _ => rfl
  | 5, _ => rfl
  | 6, _ => rfl
  | 7, _ => rfl
  | 8, _ => rfl
  | 9, _ => rfl
  | 10, _ => rfl
  | 11, _ => rfl
  | 12, _ => rfl
  | 13, _ => rfl
  | 14, h => absurd rfl h
  | j + 15, _ => by
    have e : (up14 A q).1 (j + 15) = A.1 (j + 15) := by
      funext f
      show (if j + 15 = 14 then q else A.1 (j + 15) f) = A.1 (j + 15) f
      exact if_neg (by omega)
    show bWr d 1 FK1 ((up14 A q).1 (j + 15)) (fun _ _ => .null) (fun _ _ _ => none) σ = bWr d 1 FK1 (A.1 (j + 15)) (fun _ _ => .null) (fun _ _ _ => none) σ
    rw [e]
theorem XW14 {d : gD} {A : XA} {q : Nat} {x : Nat → Bl} : ∀ {L : List Nat}, 14 ∉ L → L.flatMap (fun j => XB d (up14 A q) j (x j)) = L.flatMap (fun j => XB d A j (x j))
  | [], _ => rfl
  | i :: t, h => by
    simp only [List.flatMap_cons]
    rw [XB14 (fun e => h (by rw [e]; exact List.mem_cons_self)), XW14 (fun e => h (List.mem_cons_of_mem _ e))]
/-- the cells of a new text -/
def tX (A : XA) (q : Nat) : Nat × va_E := (q, .inr (4, [.ref (A.1 0 12), .ref (A.1 3 0), .int 0, .int 0, .int 0, .int 0, .ref (A.1 0 0)]))
theorem flat_up {d : gD} {A : XA} {x : Nat → Bl} {j : Nat} {σ : Bl} {L : List Nat} (h : j ∉ L) : L.flatMap (fun i => XB d A i (upX x j σ i)) = L.flatMap (fun i => XB d A i (x i)) := flat_off L h
/-- with the text: its block is the 14th -/
theorem XW_text {d : gD} {A : XA} {L : List Nat} {E : va_W} {x : Nat → Bl} {q : Nat} (h : 14 ∉ L) : (XW d A L E x ++ [tX A q]).Perm (XW d (up14 A q) (14 :: L) E (upX x 14 s1i)) := by
  have e1 : XB d (up14 A q) 14 s1i = [tX A q] := rfl
  have e2 : XW d (up14 A q) (14 :: L) E (upX x 14 s1i) = [tX A q] ++ XW d A L E x := by
    unfold XW
    rw [List.flatMap_cons, XW14 h, flat_up h, upX_self, e1, List.append_assoc]
  rw [e2]
  exact List.perm_append_comm
/-- and back: the text is left -/
theorem XW_untext {d : gD} {A : XA} {L : List Nat} {E : va_W} {x : Nat → Bl} {q : Nat} (h : 14 ∉ L) : XW d (up14 A q) (14 :: L) E x = XB d (up14 A q) 14 (x 14) ++ XW d A L E x := by
  unfold XW
  rw [List.flatMap_cons, XW14 h, List.append_assoc]
section GO
variable {Γ : Gam} {cc : ByteArray} {own : String} {fr : Nat × Nat × Nat} {lo k n pc : Nat} {ws ws' : va_W} {lv : List (Nat × Value)} {st : List Value}
/-- what is not named any more is dropped -/
theorem go_drop {w1 w2 : va_W} (h : ws = w1 ++ w2) (kk : Go Γ k n w2 pc lv st) : Go Γ k n ws pc lv st := by
  obtain ⟨p, l, e, R, s, m, args, below, meth, c, nL, d, A, Q⟩ := Γ
  subst h
  intro H locs ls hP hD hS hl
  exact kk H locs ls hP.r hD.r hS hl
end GO
theorem m4_init {l : Launch} {d : gD} {A : XA} {L : List Nat} {E : va_W} {x : Nat → Bl} {q : Nat} (hL : xOK L) : Mt l d yX4_init cX4_init 2 none (1, 0, 0) 20 (XW d A L E x ++ [(q, .inr (4, [.null, .null, .int 0, .int 0, .int 0, .int 0, .null]))]) [.ref q, .ref (A.1 0 0)] (fun v w => v = none ∧ w = XW d A L E x ++ [tX A q]) := by
  refine Mt.ofI (by decide +kernel) (Nat.le_of_ble_eq_true rfl) rfl ?_
  intro Γ hl hd hN hI C hE
  subst hl; subst hd
  show Go Γ 0 0 (XW Γ.d A L E x ++ [(q, .inr (4, [.null, .null, .int 0, .int 0, .int 0, .int 0, .null]))]) 0 [(0, .ref q), (1, .ref (A.1 0 0))] []
  refine go_aload_n (pc := 0) C dX4_init_0 rfl 0 rfl ?_
  refine go_aload_n (pc := 1) C dX4_init_1 rfl 1 rfl ?_
  refine go_putF (pc := 2) (v := .ref (A.1 0 0)) (ty := .object "PartyRaft") (fs := [.null, .null, .int 0, .int 0, .int 0, .int 0, .null]) (ws' := XW Γ.d A L E x ++ [(q, .inr (4, [.null, .null, .int 0, .int 0, .int 0, .int 0, .ref (A.1 0 0)]))]) C hI 6 (putO.appR ⟨0, rfl, rfl⟩) (ci := 4) rfl in_X4 tyX4 tyX4_ok nmX4 (by decide) q531 rfl rfl rfl rfl rfl (Nat.le_of_ble_eq_true rfl) dX4_init_2 ?_
  refine go_aload_n (pc := 5) C dX4_init_5 rfl 0 rfl ?_
  refine go_objInit (pc := 6) C q524 q170 q171 (by decide) (by decide) dX4_init_6 ?_
  refine go_aload_n (pc := 9) C dX4_init_9 rfl 0 rfl ?_
  refine go_aload_n (pc := 10) C dX4_init_10 rfl 0 rfl ?_
  refine go_getfield (pc := 11) (v := .ref (A.1 0 0)) (fs := [.null, .null, .int 0, .int 0, .int 0, .int 0, .ref (A.1 0 0)]) C (hasO.appR ⟨0, rfl⟩) (ci := 4) rfl in_X4 6 (by decide) q531 rfl dX4_init_11 ?_
  refine go_getfieldN (pc := 14) (v := .ref (A.1 0 12)) C (hasO.appL (xO (hL.2 0 (by decide)) hL.1)) xc0 in_X0 11 (by decide) q423 rfl dX4_init_14 ?_
  refine go_putF (pc := 17) (v := .ref (A.1 0 12)) (ty := .array (.object "java/lang/String")) (fs := [.null, .null, .int 0, .int 0, .int 0, .int 0, .ref (A.1 0 0)]) (ws' := XW Γ.d A L E x ++ [(q, .inr (4, [.ref (A.1 0 12), .null, .int 0, .int 0, .int 0, .int 0, .ref (A.1 0 0)]))]) C hI 0 (putO.appR ⟨0, rfl, rfl⟩) (ci := 4) rfl in_X4 tyX4 tyX4_ok nmX4 (by decide) q525 rfl rfl rfl rfl rfl (Nat.le_of_ble_eq_true rfl) dX4_init_17 ?_
  refine go_aload_n (pc := 20) C dX4_init_20 rfl 0 rfl ?_
  refine go_aload_n (pc := 21) C dX4_init_21 rfl 0 rfl ?_
  refine go_getfield (pc := 22) (v := .ref (A.1 0 0)) (fs := [.ref (A.1 0 12), .null, .int 0, .int 0, .int 0, .int 0, .ref (A.1 0 0)]) C (hasO.appR ⟨0, rfl⟩) (ci := 4) rfl in_X4 6 (by decide) q531 rfl dX4_init_22 ?_
  refine go_getfieldN (pc := 25) (v := .ref (A.1 3 0)) C (hasO.appL (xO (hL.2 0 (by decide)) hL.1)) xc0 in_X0 3 (by decide) q408 rfl dX4_init_25 ?_
  refine go_putF (pc := 28) (v := .ref (A.1 3 0)) (ty := .object "PartyRaft$Flow") (fs := [.ref (A.1 0 12), .null, .int 0, .int 0, .int 0, .int 0, .ref (A.1 0 0)]) (ws' := XW Γ.d A L E x ++ [tX A q]) C hI 1 (putO.appR ⟨0, rfl, rfl⟩) (ci := 4) rfl in_X4 tyX4 tyX4_ok nmX4 (by decide) q526 rfl rfl rfl rfl rfl (Nat.le_of_ble_eq_true rfl) dX4_init_28 ?_
  exact (hE 0 0 _ 31 [(0, .ref q), (1, .ref (A.1 0 0))] (Nat.le_refl _) (Nat.le_refl _)).2.2.2.1 rfl dX4_init_31 ⟨rfl, rfl⟩

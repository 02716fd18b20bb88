/-! HEAP ROWS and CALLS of the Go logic -/
set_option maxRecDepth 100000
abbrev Gam.l (Γ : Gam) : Launch := Γ.2.1
def hasO (ws : va_W) (b ci : Nat) (fs : List Value) : Prop := ∃ q : Nat, ws[q]? = some (b, .inr (ci, fs))
def hasA (ws : va_W) (b : Nat) (x : ClassId × vp_A) : Prop := ∃ q : Nat, ws[q]? = some (b, .inl x)
def putO (ws : va_W) (b ci : Nat) (fs fs' : List Value) (ws' : va_W) : Prop := ∃ q : Nat, ws[q]? = some (b, .inr (ci, fs)) ∧ ws.set q (b, .inr (ci, fs')) = ws'
def putA (ws : va_W) (b : Nat) (x x' : ClassId × vp_A) (ws' : va_W) : Prop := ∃ q : Nat, ws[q]? = some (b, .inl x) ∧ ws.set q (b, .inl x') = ws'
theorem hasO.appL {ws w2 : va_W} {b ci : Nat} {fs : List Value} (h : hasO ws b ci fs) : hasO (ws ++ w2) b ci fs := by
  obtain ⟨q, h⟩ := h
  exact ⟨q, by rw [List.getElem?_append_left (List.getElem?_eq_some_iff.mp h).1]; exact h⟩
theorem hasO.appR {ws w2 : va_W} {b ci : Nat} {fs : List Value} (h : hasO w2 b ci fs) : hasO (ws ++ w2) b ci fs := by
  obtain ⟨q, h⟩ := h
  exact ⟨ws.length + q, by rw [List.getElem?_append_right (by omega), Nat.add_sub_cancel_left]; exact h⟩
theorem hasA.appL {ws w2 : va_W} {b : Nat} {x : ClassId × vp_A} (h : hasA ws b x) : hasA (ws ++ w2) b x := by
  obtain ⟨q, h⟩ := h
  exact ⟨q, by rw [List.getElem?_append_left (List.getElem?_eq_some_iff.mp h).1]; exact h⟩
theorem hasA.appR {ws w2 : va_W} {b : Nat} {x : ClassId × vp_A} (h : hasA w2 b x) : hasA (ws ++ w2) b x := by
  obtain ⟨q, h⟩ := h
  exact ⟨ws.length + q, by rw [List.getElem?_append_right (by omega), Nat.add_sub_cancel_left]; exact h⟩
theorem putO.appL {ws w2 ws' : va_W} {b ci : Nat} {fs fs' : List Value} (h : putO ws b ci fs fs' ws') : putO (ws ++ w2) b ci fs fs' (ws' ++ w2) := by
  obtain ⟨q, h, h2⟩ := h
  have hl := (List.getElem?_eq_some_iff.mp h).1
  exact ⟨q, by rw [List.getElem?_append_left hl]; exact h, by rw [List.set_append_left _ _ hl, h2]⟩
theorem putO.appR {ws w2 ws' : va_W} {b ci : Nat} {fs fs' : List Value} (h : putO w2 b ci fs fs' ws') : putO (ws ++ w2) b ci fs fs' (ws ++ ws') := by
  obtain ⟨q, h, h2⟩ := h
  exact ⟨ws.length + q, by rw [List.getElem?_append_right (by omega), Nat.add_sub_cancel_left]; exact h, by rw [List.set_append_right _ _ (by omega), Nat.add_sub_cancel_left, h2]⟩
theorem putA.appL {ws w2 ws' : va_W} {b : Nat} {x x' : ClassId × vp_A} (h : putA ws b x x' ws') : putA (ws ++ w2) b x x' (ws' ++ w2) := by
  obtain ⟨q, h, h2⟩ := h
  have hl := (List.getElem?_eq_some_iff.mp h).1
  exact ⟨q, by rw [List.getElem?_append_left hl]; exact h, by rw [List.set_append_left _ _ hl, h2]⟩
theorem putA.appR {ws w2 ws' : va_W} {b : Nat} {x x' : ClassId × vp_A} (h : putA w2 b x x' ws') : putA (ws ++ w2) b x x' (ws ++ ws') := by
  obtain ⟨q, h, h2⟩ := h
  exact ⟨ws.length + q, by rw [List.getElem?_append_right (by omega), Nat.add_sub_cancel_left]; exact h, by rw [List.set_append_right _ _ (by omega), Nat.add_sub_cancel_left, h2]⟩
/-- an index within an array -/
def inB (i : Int32) (N : Nat) : Bool := decide (0 ≤ i) && decide (i.toNatClampNeg < N)
theorem inB_in {i : Int32} {N : Nat} (h : inB i N = true) : vp_in i N := by
  simp only [inB, Bool.and_eq_true, decide_eq_true_eq] at h
  rintro (q | q)
  · exact absurd q (Int32.not_lt.mpr h.1)
  · exact absurd h.2 (Nat.not_lt.mpr q)
/-- what a method needs to go on; else no answer -/
def chk {α : Type} (b : Bool) (x : Option α) : Option α := match b with
  | true => x
  | false => none
theorem chk_some {α : Type} {b : Bool} {x : Option α} {r : α} (h : chk b x = some r) : b = true ∧ x = some r := by
  cases b with
  | true => exact ⟨rfl, h⟩
  | false => cases h
def bnd {α β : Type} (x : Option α) (f : α → Option β) : Option β := match x with
  | some a => f a
  | none => none
theorem bnd_some {α β : Type} {x : Option α} {f : α → Option β} {r : β} (h : bnd x f = some r) : ∃ a, x = some a ∧ f a = some r := by
  cases x with
  | some a => exact ⟨a, rfl, h⟩
  | none => cases h
def bnd2 {α β γ : Type} (x : Option (α × β)) (f : α → β → Option γ) : Option γ := match x with
  | some (a, b) => f a b
  | none => none
theorem bnd2_some {α β γ : Type} {x : Option (α × β)} {f : α → β → Option γ} {r : γ} (h : bnd2 x f = some r) : ∃ a b, x = some (a, b) ∧ f a b = some r := by
  cases x with
  | some a => exact ⟨a.1, a.2, rfl, h⟩
  | none => cases h
/-- a loop: one turn after another, n at most -/
def loop {S R : Type} (body : (S → Option R) → S → Option R) : Nat → S → Option R
  | 0, _ => none
  | n + 1, s => body (loop body n) s
theorem loop_walk {S R : Type} {body : (S → Option R) → S → Option R} {P : S → Prop} {r : R} (h : ∀ K : S → Option R, (∀ s, K s = some r → P s) → ∀ s, body K s = some r → P s) : ∀ (n : Nat) (s : S), loop body n s = some r → P s := by
  intro n
  induction n with
  | zero => intro s h; cases h
  | succ n ih => intro s hs; exact h (loop body n) ih s hs
def FU : Nat := 10 ^ 40
section GO
variable {Γ : Gam} {cc : ByteArray} {own : String} {fr : Nat × Nat × Nat} {lo k n pc : Nat} {ws ws' : va_W} {lv : List (Nat × Value)} {st : List Value}
theorem go_getfield (C : Cx Γ cc own fr lo) {b ci N ix : Nat} {T : u_T} {cn : String} {fs : List Value} {v : Value} (ho : hasO ws b ci fs) (hc : CL[ci]? = some (cn, T, N)) (hin : ∀ w ∈ u_ws cn T N, w ∈ lw_all) (j : Nat) (hj : j < N) (hw : Cond.fieldLink own ix (T j).1 (T j).2.1 (T j).2.2.1 ∈ lw_all) (hv : fs[j]? = some v) (hd : decode cc pc = .ok (.getfield ix, 3)) (kk : Go Γ k n ws (pc + 3) lv (v :: st)) : Go Γ k n ws pc lv (.ref b :: st) := by
  obtain ⟨p, l, e, R, s, m, args, below, meth, c, nL, d, A, Q⟩ := Γ
  obtain ⟨hx, hb, hml, hown, hts, hlk, hK, hA, hZ, ⟨hfr, hce, hsl⟩, hlo⟩ := C
  intro H locs ls hP hD hS hl
  obtain ⟨q, hq⟩ := ho
  exact va_get hx hb hts hin hown hK hP q hq hc j hj (hts _ hw) (fun _ h9 => h9) hv hd (kk H locs ls hP hD hS hl)
theorem go_getfieldN (C : Cx Γ cc own fr lo) {b ci N ix : Nat} {T : u_T} {cn host : String} {fs : List Value} {v : Value} (ho : hasO ws b ci fs) (hc : CL[ci]? = some (cn, T, N)) (hin : ∀ w ∈ u_ws cn T N, w ∈ lw_all) (j : Nat) (hj : j < N) (hw : Cond.fieldLinkNest own ix (T j).1 (T j).2.1 (T j).2.2.1 host ∈ lw_tbl) (hv : fs[j]? = some v) (hd : decode cc pc = .ok (.getfield ix, 3)) (kk : Go Γ k n ws (pc + 3) lv (v :: st)) : Go Γ k n ws pc lv (.ref b :: st) := by
  obtain ⟨p, l, e, R, s, m, args, below, meth, c, nL, d, A, Q⟩ := Γ
  obtain ⟨hx, hb, hml, hown, hts, hlk, hK, hA, hZ, ⟨hfr, hce, hsl⟩, hlo⟩ := C
  intro H locs ls hP hD hS hl
  obtain ⟨q, hq⟩ := ho
  exact va_getN hx hb hts hin hown hK hP q hq hc j hj ((hZ.2.2 _ (lw_n hw rfl)).use rfl) (fun _ h9 => h9) hv hd (kk H locs ls hP hD hS hl)
theorem go_putfield (C : Cx Γ cc own fr lo) {b ci N ix : Nat} {T : u_T} {cn : String} {fs : List Value} {v : Value} {ty : FieldType} (j : Nat) (hp : putO ws b ci fs (fs.set j v) ws') (hc : CL[ci]? = some (cn, T, N)) (hin : ∀ w ∈ u_ws cn T N, w ∈ lw_all) (ty0 : Nat → FieldType) (hty : ∀ k, k < N → parseFieldDescriptor (T k).2.2.1 = some (ty0 k)) (hnm : ∀ a, a < N → ∀ b, b < N → a ≠ b → (T a).2.1 ≠ (T b).2.1) (hj : j < N) (hw : Cond.fieldLink own ix (T j).1 (T j).2.1 (T j).2.2.1 ∈ lw_all) (hfin : (T j).2.2.2 = false) (ht0 : ty0 j = ty) (hn : narrow ty v = v) (hfit : fits ty v = true) (hl9 : j < fs.length) (hd : decode cc pc = .ok (.putfield ix, 3)) (kk : Go Γ k n ws' (pc + 3) lv st) : Go Γ k n ws pc lv (v :: .ref b :: st) := by
  obtain ⟨p, l, e, R, s, m, args, below, meth, c, nL, d, A, Q⟩ := Γ
  obtain ⟨hx, hb, hml, hown, hts, hlk, hK, hA, hZ, ⟨hfr, hce, hsl⟩, hlo⟩ := C
  intro H locs ls hP hD hS hl
  obtain ⟨q, hq, hs⟩ := hp
  exact va_put hx hb hts hin ty0 hty hnm hown hK hP hD hS q hq hc j hj (hts _ hw) (fun _ h9 => h9) hfin (ht0 ▸ hty j hj) hn hfit hl9 hd (fun H1 locs1 hP1 hD1 hS1 => kk H1 locs1 ls (hs ▸ hP1) (hs ▸ hD1) hS1 hl)
theorem go_putfieldN (C : Cx Γ cc own fr lo) {b ci N ix : Nat} {T : u_T} {cn host : String} {fs : List Value} {v : Value} {ty : FieldType} (j : Nat) (hp : putO ws b ci fs (fs.set j v) ws') (hc : CL[ci]? = some (cn, T, N)) (hin : ∀ w ∈ u_ws cn T N, w ∈ lw_all) (ty0 : Nat → FieldType) (hty : ∀ k, k < N → parseFieldDescriptor (T k).2.2.1 = some (ty0 k)) (hnm : ∀ a, a < N → ∀ b, b < N → a ≠ b → (T a).2.1 ≠ (T b).2.1) (hj : j < N) (hw : Cond.fieldLinkNest own ix (T j).1 (T j).2.1 (T j).2.2.1 host ∈ lw_tbl) (hfin : (T j).2.2.2 = false) (ht0 : ty0 j = ty) (hn : narrow ty v = v) (hfit : fits ty v = true) (hl9 : j < fs.length) (hd : decode cc pc = .ok (.putfield ix, 3)) (kk : Go Γ k n ws' (pc + 3) lv st) : Go Γ k n ws pc lv (v :: .ref b :: st) := by
  obtain ⟨p, l, e, R, s, m, args, below, meth, c, nL, d, A, Q⟩ := Γ
  obtain ⟨hx, hb, hml, hown, hts, hlk, hK, hA, hZ, ⟨hfr, hce, hsl⟩, hlo⟩ := C
  intro H locs ls hP hD hS hl
  obtain ⟨q, hq, hs⟩ := hp
  exact va_putN hx hb hts hin ty0 hty hnm hown hK hP hD hS q hq hc j hj ((hZ.2.2 _ (lw_n hw rfl)).use rfl) (fun _ h9 => h9) hfin (ht0 ▸ hty j hj) hn hfit hl9 hd (fun H1 locs1 hP1 hD1 hS1 => kk H1 locs1 ls (hs ▸ hP1) (hs ▸ hD1) hS1 hl)
theorem go_iald {α : Type} {r : α} {X : Option α} (C : Cx Γ cc own fr lo) {b N : Nat} {f : Nat → Int32} (ha : hasA ws b (Γ.d.2.1 0, N, .inl f)) {i : Int32} (h : chk (inB i N) X = some r) (hd : decode cc pc = .ok (.iaload, 1)) (kk : X = some r → Go Γ k n ws (pc + 1) lv (.int (f i.toNatClampNeg) :: st)) : Go Γ k n ws pc lv (.int i :: .ref b :: st) := by
  obtain ⟨p, l, e, R, s, m, args, below, meth, c, nL, d, A, Q⟩ := Γ
  obtain ⟨hx, hb, hml, hown, hts, hlk, hK, hA, hZ, ⟨hfr, hce, hsl⟩, hlo⟩ := C
  intro H locs ls hP hD hS hl
  obtain ⟨q, hq⟩ := ha
  exact va_iald hx hb hK hP q 0 hq rfl (inB_in (chk_some h).1) hd (kk (chk_some h).2 H locs ls hP hD hS hl)
theorem go_bald {α : Type} {r : α} {X : Option α} (C : Cx Γ cc own fr lo) {b N : Nat} {f : Nat → Int32} (ha : hasA ws b (Γ.d.2.1 1, N, .inl f)) {i : Int32} (h : chk (inB i N) X = some r) (hd : decode cc pc = .ok (.baload, 1)) (kk : X = some r → Go Γ k n ws (pc + 1) lv (.int (f i.toNatClampNeg) :: st)) : Go Γ k n ws pc lv (.int i :: .ref b :: st) := by
  obtain ⟨p, l, e, R, s, m, args, below, meth, c, nL, d, A, Q⟩ := Γ
  obtain ⟨hx, hb, hml, hown, hts, hlk, hK, hA, hZ, ⟨hfr, hce, hsl⟩, hlo⟩ := C
  intro H locs ls hP hD hS hl
  obtain ⟨q, hq⟩ := ha
  exact va_bald hx hb hK hP q 1 hq rfl (inB_in (chk_some h).1) hd (kk (chk_some h).2 H locs ls hP hD hS hl)
theorem go_zald {α : Type} {r : α} {X : Option α} (C : Cx Γ cc own fr lo) {b N : Nat} {f : Nat → Int32} (ha : hasA ws b (Γ.d.2.1 2, N, .inl f)) {i : Int32} (h : chk (inB i N) X = some r) (hd : decode cc pc = .ok (.baload, 1)) (kk : X = some r → Go Γ k n ws (pc + 1) lv (.int (f i.toNatClampNeg) :: st)) : Go Γ k n ws pc lv (.int i :: .ref b :: st) := by
  obtain ⟨p, l, e, R, s, m, args, below, meth, c, nL, d, A, Q⟩ := Γ
  obtain ⟨hx, hb, hml, hown, hts, hlk, hK, hA, hZ, ⟨hfr, hce, hsl⟩, hlo⟩ := C
  intro H locs ls hP hD hS hl
  obtain ⟨q, hq⟩ := ha
  exact va_zald hx hb hK hP q 2 hq rfl (inB_in (chk_some h).1) hd (kk (chk_some h).2 H locs ls hP hD hS hl)
theorem go_lald {α : Type} {r : α} {X : Option α} (C : Cx Γ cc own fr lo) {b N : Nat} {f : Nat → Int64} (ha : hasA ws b (Γ.d.2.1 3, N, .inr (.inl f))) {i : Int32} (h : chk (inB i N) X = some r) (hd : decode cc pc = .ok (.laload, 1)) (kk : X = some r → Go Γ k n ws (pc + 1) lv (.long (f i.toNatClampNeg) :: st)) : Go Γ k n ws pc lv (.int i :: .ref b :: st) := by
  obtain ⟨p, l, e, R, s, m, args, below, meth, c, nL, d, A, Q⟩ := Γ
  obtain ⟨hx, hb, hml, hown, hts, hlk, hK, hA, hZ, ⟨hfr, hce, hsl⟩, hlo⟩ := C
  intro H locs ls hP hD hS hl
  obtain ⟨q, hq⟩ := ha
  exact va_lald hx hb hK hP q 3 hq rfl (inB_in (chk_some h).1) hd (kk (chk_some h).2 H locs ls hP hD hS hl)
theorem go_iast {α : Type} {r : α} {X : Option α} (C : Cx Γ cc own fr lo) {b N : Nat} {f : Nat → Int32} {i : Int32} {x : Int32} (ha : putA ws b (Γ.d.2.1 0, N, .inl f) (Γ.d.2.1 0, N, .inl (upd f i.toNatClampNeg x)) ws') (h : chk (inB i N) X = some r) (hd : decode cc pc = .ok (.iastore, 1)) (kk : X = some r → Go Γ k n ws' (pc + 1) lv st) : Go Γ k n ws pc lv (.int x :: .int i :: .ref b :: st) := by
  obtain ⟨p, l, e, R, s, m, args, below, meth, c, nL, d, A, Q⟩ := Γ
  obtain ⟨hx, hb, hml, hown, hts, hlk, hK, hA, hZ, ⟨hfr, hce, hsl⟩, hlo⟩ := C
  intro H locs ls hP hD hS hl
  obtain ⟨q, hq, hs⟩ := ha
  exact va_iast hx hb hK hP hD hS q 0 hq rfl (inB_in (chk_some h).1) hd (fun H1 locs1 hP1 hD1 hS1 => kk (chk_some h).2 H1 locs1 ls (hs ▸ hP1) (hs ▸ hD1) hS1 hl)
theorem go_bast {α : Type} {r : α} {X : Option α} (C : Cx Γ cc own fr lo) {b N : Nat} {f : Nat → Int32} {i : Int32} {x : Int32} (ha : putA ws b (Γ.d.2.1 1, N, .inl f) (Γ.d.2.1 1, N, .inl (upd f i.toNatClampNeg (vp_nar .byte x))) ws') (h : chk (inB i N) X = some r) (hd : decode cc pc = .ok (.bastore, 1)) (kk : X = some r → Go Γ k n ws' (pc + 1) lv st) : Go Γ k n ws pc lv (.int x :: .int i :: .ref b :: st) := by
  obtain ⟨p, l, e, R, s, m, args, below, meth, c, nL, d, A, Q⟩ := Γ
  obtain ⟨hx, hb, hml, hown, hts, hlk, hK, hA, hZ, ⟨hfr, hce, hsl⟩, hlo⟩ := C
  intro H locs ls hP hD hS hl
  obtain ⟨q, hq, hs⟩ := ha
  exact va_bast hx hb hK hP hD hS q 1 hq rfl (inB_in (chk_some h).1) hd (fun H1 locs1 hP1 hD1 hS1 => kk (chk_some h).2 H1 locs1 ls (hs ▸ hP1) (hs ▸ hD1) hS1 hl)
theorem go_zast {α : Type} {r : α} {X : Option α} (C : Cx Γ cc own fr lo) {b N : Nat} {f : Nat → Int32} {i : Int32} {x : Int32} (ha : putA ws b (Γ.d.2.1 2, N, .inl f) (Γ.d.2.1 2, N, .inl (upd f i.toNatClampNeg (vp_nar .boolean x))) ws') (h : chk (inB i N) X = some r) (hd : decode cc pc = .ok (.bastore, 1)) (kk : X = some r → Go Γ k n ws' (pc + 1) lv st) : Go Γ k n ws pc lv (.int x :: .int i :: .ref b :: st) := by
  obtain ⟨p, l, e, R, s, m, args, below, meth, c, nL, d, A, Q⟩ := Γ
  obtain ⟨hx, hb, hml, hown, hts, hlk, hK, hA, hZ, ⟨hfr, hce, hsl⟩, hlo⟩ := C
  intro H locs ls hP hD hS hl
  obtain ⟨q, hq, hs⟩ := ha
  exact va_zast hx hb hK hP hD hS q 2 hq rfl (inB_in (chk_some h).1) hd (fun H1 locs1 hP1 hD1 hS1 => kk (chk_some h).2 H1 locs1 ls (hs ▸ hP1) (hs ▸ hD1) hS1 hl)
theorem go_last {α : Type} {r : α} {X : Option α} (C : Cx Γ cc own fr lo) {b N : Nat} {f : Nat → Int64} {i : Int32} {x : Int64} (ha : putA ws b (Γ.d.2.1 3, N, .inr (.inl f)) (Γ.d.2.1 3, N, .inr (.inl (vp_updL f i.toNatClampNeg x))) ws') (h : chk (inB i N) X = some r) (hd : decode cc pc = .ok (.lastore, 1)) (kk : X = some r → Go Γ k n ws' (pc + 1) lv st) : Go Γ k n ws pc lv (.long x :: .int i :: .ref b :: st) := by
  obtain ⟨p, l, e, R, s, m, args, below, meth, c, nL, d, A, Q⟩ := Γ
  obtain ⟨hx, hb, hml, hown, hts, hlk, hK, hA, hZ, ⟨hfr, hce, hsl⟩, hlo⟩ := C
  intro H locs ls hP hD hS hl
  obtain ⟨q, hq, hs⟩ := ha
  exact va_last hx hb hK hP hD hS q 3 hq rfl (inB_in (chk_some h).1) hd (fun H1 locs1 hP1 hD1 hS1 => kk (chk_some h).2 H1 locs1 ls (hs ▸ hP1) (hs ▸ hD1) hS1 hl)
theorem go_alen (C : Cx Γ cc own fr lo) {b N t : Nat} {x : vp_A} {ty : FieldType} (ha : hasA ws b (Γ.d.2.1 t, x)) (ht : (gTy Γ.d)[t]? = some (Γ.d.2.1 t, ty)) (hN : x.1 = N) (hd : decode cc pc = .ok (.arraylength, 1)) (kk : Go Γ k n ws (pc + 1) lv (.int (Int32.ofNat N) :: st)) : Go Γ k n ws pc lv (.ref b :: st) := by
  obtain ⟨p, l, e, R, s, m, args, below, meth, c, nL, d, A, Q⟩ := Γ
  obtain ⟨hx, hb, hml, hown, hts, hlk, hK, hA, hZ, ⟨hfr, hce, hsl⟩, hlo⟩ := C
  intro H locs ls hP hD hS hl
  obtain ⟨q, hq⟩ := ha
  subst hN
  exact va_alen hx hb hK hP q t hq ht rfl hd (kk H locs ls hP hD hS hl)
end GO

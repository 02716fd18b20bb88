/-! ROWS of the Go logic, printed by gen/mkrows.py -/
set_option maxRecDepth 100000
abbrev Gam.nL (Γ : Gam) : Nat := Γ.2.2.2.2.2.2.2.2.2.2.1
section GO
variable {Γ : Gam} {cc : ByteArray} {own : String} {fr : Nat × Nat × Nat} {lo k n pc : Nat} {ws : va_W} {lv : List (Nat × Value)} {st : List Value}
theorem go_iconst (C : Cx Γ cc own fr lo) {z : Int} {v : Int32} (hd : decode cc pc = .ok (.iconst z, 1)) (hv : Int32.ofInt z = v) (kk : Go Γ k n ws (pc + 1) lv (.int v :: st)) : Go Γ k n ws pc lv (st) := by
  obtain ⟨p, l, e, R, s, m, args, below, meth, c, nL, d, A, Q⟩ := Γ
  obtain ⟨hx, hb, hml, hown, hts, hlk, hK, hA, hZ, ⟨hfr, hce, hsl⟩, hlo⟩ := C
  intro H locs ls hP hD hS hl
  exact lv_iconst hx hb hd hv (kk H locs ls hP hD hS hl)
theorem go_bipush (C : Cx Γ cc own fr lo) {z : Int} {v : Int32} (hd : decode cc pc = .ok (.bipush z, 2)) (hv : (Int8.ofInt z).toInt32 = v) (kk : Go Γ k n ws (pc + 2) lv (.int v :: st)) : Go Γ k n ws pc lv (st) := by
  obtain ⟨p, l, e, R, s, m, args, below, meth, c, nL, d, A, Q⟩ := Γ
  obtain ⟨hx, hb, hml, hown, hts, hlk, hK, hA, hZ, ⟨hfr, hce, hsl⟩, hlo⟩ := C
  intro H locs ls hP hD hS hl
  exact lv_bipush hx hb hd hv (kk H locs ls hP hD hS hl)
theorem go_sipush (C : Cx Γ cc own fr lo) {z : Int} {v : Int32} (hd : decode cc pc = .ok (.sipush z, 3)) (hv : (Int16.ofInt z).toInt32 = v) (kk : Go Γ k n ws (pc + 3) lv (.int v :: st)) : Go Γ k n ws pc lv (st) := by
  obtain ⟨p, l, e, R, s, m, args, below, meth, c, nL, d, A, Q⟩ := Γ
  obtain ⟨hx, hb, hml, hown, hts, hlk, hK, hA, hZ, ⟨hfr, hce, hsl⟩, hlo⟩ := C
  intro H locs ls hP hD hS hl
  exact lv_sipush hx hb hd hv (kk H locs ls hP hD hS hl)
theorem go_lconst (C : Cx Γ cc own fr lo) {z : Fin 2} {v : Int64} (hd : decode cc pc = .ok (.lconst z, 1)) (hv : Int64.ofNat (z : Nat) = v) (kk : Go Γ k n ws (pc + 1) lv (.long v :: st)) : Go Γ k n ws pc lv (st) := by
  obtain ⟨p, l, e, R, s, m, args, below, meth, c, nL, d, A, Q⟩ := Γ
  obtain ⟨hx, hb, hml, hown, hts, hlk, hK, hA, hZ, ⟨hfr, hce, hsl⟩, hlo⟩ := C
  intro H locs ls hP hD hS hl
  exact lv_lconst hx hb hd hv (kk H locs ls hP hD hS hl)
theorem go_aconst_null (C : Cx Γ cc own fr lo) (hd : decode cc pc = .ok (.aconst_null, 1)) (kk : Go Γ k n ws (pc + 1) lv (.null :: st)) : Go Γ k n ws pc lv (st) := by
  obtain ⟨p, l, e, R, s, m, args, below, meth, c, nL, d, A, Q⟩ := Γ
  obtain ⟨hx, hb, hml, hown, hts, hlk, hK, hA, hZ, ⟨hfr, hce, hsl⟩, hlo⟩ := C
  intro H locs ls hP hD hS hl
  exact lv_null hx hb hd (kk H locs ls hP hD hS hl)
theorem go_iload_n (C : Cx Γ cc own fr lo) {j : Fin 4} {i : Nat} {x : Int32} (hd : decode cc pc = .ok (.iload_n j, 1)) (hi : (j : Nat) = i) (q : Nat) (hq : lv[q]? = some (i, .int x)) (kk : Go Γ k n ws (pc + 1) lv (.int x :: st)) : Go Γ k n ws pc lv (st) := by
  obtain ⟨p, l, e, R, s, m, args, below, meth, c, nL, d, A, Q⟩ := Γ
  obtain ⟨hx, hb, hml, hown, hts, hlk, hK, hA, hZ, ⟨hfr, hce, hsl⟩, hlo⟩ := C
  intro H locs ls hP hD hS hl
  exact lv_iload_n hx hb hd hi (lv_at hl q hq) (kk H locs ls hP hD hS hl)
theorem go_iload (C : Cx Γ cc own fr lo) {i : Nat} {x : Int32} (hd : decode cc pc = .ok (.iload i, 2)) (q : Nat) (hq : lv[q]? = some (i, .int x)) (kk : Go Γ k n ws (pc + 2) lv (.int x :: st)) : Go Γ k n ws pc lv (st) := by
  obtain ⟨p, l, e, R, s, m, args, below, meth, c, nL, d, A, Q⟩ := Γ
  obtain ⟨hx, hb, hml, hown, hts, hlk, hK, hA, hZ, ⟨hfr, hce, hsl⟩, hlo⟩ := C
  intro H locs ls hP hD hS hl
  exact lv_iload hx hb hd (lv_at hl q hq) (kk H locs ls hP hD hS hl)
theorem go_lload_n (C : Cx Γ cc own fr lo) {j : Fin 4} {i : Nat} {x : Int64} (hd : decode cc pc = .ok (.lload_n j, 1)) (hi : (j : Nat) = i) (q : Nat) (hq : lv[q]? = some (i, .long x)) (kk : Go Γ k n ws (pc + 1) lv (.long x :: st)) : Go Γ k n ws pc lv (st) := by
  obtain ⟨p, l, e, R, s, m, args, below, meth, c, nL, d, A, Q⟩ := Γ
  obtain ⟨hx, hb, hml, hown, hts, hlk, hK, hA, hZ, ⟨hfr, hce, hsl⟩, hlo⟩ := C
  intro H locs ls hP hD hS hl
  exact lv_lload_n hx hb hd hi (lv_at hl q hq) (kk H locs ls hP hD hS hl)
theorem go_lload (C : Cx Γ cc own fr lo) {i : Nat} {x : Int64} (hd : decode cc pc = .ok (.lload i, 2)) (q : Nat) (hq : lv[q]? = some (i, .long x)) (kk : Go Γ k n ws (pc + 2) lv (.long x :: st)) : Go Γ k n ws pc lv (st) := by
  obtain ⟨p, l, e, R, s, m, args, below, meth, c, nL, d, A, Q⟩ := Γ
  obtain ⟨hx, hb, hml, hown, hts, hlk, hK, hA, hZ, ⟨hfr, hce, hsl⟩, hlo⟩ := C
  intro H locs ls hP hD hS hl
  exact lv_lload hx hb hd (lv_at hl q hq) (kk H locs ls hP hD hS hl)
theorem go_aload_n (C : Cx Γ cc own fr lo) {j : Fin 4} {i : Nat} {x : Nat} (hd : decode cc pc = .ok (.aload_n j, 1)) (hi : (j : Nat) = i) (q : Nat) (hq : lv[q]? = some (i, .ref x)) (kk : Go Γ k n ws (pc + 1) lv (.ref x :: st)) : Go Γ k n ws pc lv (st) := by
  obtain ⟨p, l, e, R, s, m, args, below, meth, c, nL, d, A, Q⟩ := Γ
  obtain ⟨hx, hb, hml, hown, hts, hlk, hK, hA, hZ, ⟨hfr, hce, hsl⟩, hlo⟩ := C
  intro H locs ls hP hD hS hl
  exact lv_aload_n hx hb hd hi (lv_at hl q hq) (kk H locs ls hP hD hS hl)
theorem go_aload (C : Cx Γ cc own fr lo) {i : Nat} {x : Nat} (hd : decode cc pc = .ok (.aload i, 2)) (q : Nat) (hq : lv[q]? = some (i, .ref x)) (kk : Go Γ k n ws (pc + 2) lv (.ref x :: st)) : Go Γ k n ws pc lv (st) := by
  obtain ⟨p, l, e, R, s, m, args, below, meth, c, nL, d, A, Q⟩ := Γ
  obtain ⟨hx, hb, hml, hown, hts, hlk, hK, hA, hZ, ⟨hfr, hce, hsl⟩, hlo⟩ := C
  intro H locs ls hP hD hS hl
  exact lv_aload hx hb hd (lv_at hl q hq) (kk H locs ls hP hD hS hl)
theorem go_aload_nN (C : Cx Γ cc own fr lo) {j : Fin 4} {i : Nat} (hd : decode cc pc = .ok (.aload_n j, 1)) (hi : (j : Nat) = i) (q : Nat) (hq : lv[q]? = some (i, .null)) (kk : Go Γ k n ws (pc + 1) lv (.null :: st)) : Go Γ k n ws pc lv (st) := by
  obtain ⟨p, l, e, R, s, m, args, below, meth, c, nL, d, A, Q⟩ := Γ
  obtain ⟨hx, hb, hml, hown, hts, hlk, hK, hA, hZ, ⟨hfr, hce, hsl⟩, hlo⟩ := C
  intro H locs ls hP hD hS hl
  exact lv_aload_nN hx hb hd hi (lv_at hl q hq) (kk H locs ls hP hD hS hl)
theorem go_iadd (C : Cx Γ cc own fr lo) {x y : Int32} (hd : decode cc pc = .ok (.iadd, 1)) (kk : Go Γ k n ws (pc + 1) lv (.int (x + y) :: st)) : Go Γ k n ws pc lv (.int y :: .int x :: st) := by
  obtain ⟨p, l, e, R, s, m, args, below, meth, c, nL, d, A, Q⟩ := Γ
  obtain ⟨hx, hb, hml, hown, hts, hlk, hK, hA, hZ, ⟨hfr, hce, hsl⟩, hlo⟩ := C
  intro H locs ls hP hD hS hl
  exact lv_iadd hx hb hd (kk H locs ls hP hD hS hl)
theorem go_isub (C : Cx Γ cc own fr lo) {x y : Int32} (hd : decode cc pc = .ok (.isub, 1)) (kk : Go Γ k n ws (pc + 1) lv (.int (x - y) :: st)) : Go Γ k n ws pc lv (.int y :: .int x :: st) := by
  obtain ⟨p, l, e, R, s, m, args, below, meth, c, nL, d, A, Q⟩ := Γ
  obtain ⟨hx, hb, hml, hown, hts, hlk, hK, hA, hZ, ⟨hfr, hce, hsl⟩, hlo⟩ := C
  intro H locs ls hP hD hS hl
  exact lv_isub hx hb hd (kk H locs ls hP hD hS hl)
theorem go_imul (C : Cx Γ cc own fr lo) {x y : Int32} (hd : decode cc pc = .ok (.imul, 1)) (kk : Go Γ k n ws (pc + 1) lv (.int (x * y) :: st)) : Go Γ k n ws pc lv (.int y :: .int x :: st) := by
  obtain ⟨p, l, e, R, s, m, args, below, meth, c, nL, d, A, Q⟩ := Γ
  obtain ⟨hx, hb, hml, hown, hts, hlk, hK, hA, hZ, ⟨hfr, hce, hsl⟩, hlo⟩ := C
  intro H locs ls hP hD hS hl
  exact lv_imul hx hb hd (kk H locs ls hP hD hS hl)
theorem go_iand (C : Cx Γ cc own fr lo) {x y : Int32} (hd : decode cc pc = .ok (.iand, 1)) (kk : Go Γ k n ws (pc + 1) lv (.int (x &&& y) :: st)) : Go Γ k n ws pc lv (.int y :: .int x :: st) := by
  obtain ⟨p, l, e, R, s, m, args, below, meth, c, nL, d, A, Q⟩ := Γ
  obtain ⟨hx, hb, hml, hown, hts, hlk, hK, hA, hZ, ⟨hfr, hce, hsl⟩, hlo⟩ := C
  intro H locs ls hP hD hS hl
  exact lv_iand hx hb hd (kk H locs ls hP hD hS hl)
theorem go_ior (C : Cx Γ cc own fr lo) {x y : Int32} (hd : decode cc pc = .ok (.ior, 1)) (kk : Go Γ k n ws (pc + 1) lv (.int (x ||| y) :: st)) : Go Γ k n ws pc lv (.int y :: .int x :: st) := by
  obtain ⟨p, l, e, R, s, m, args, below, meth, c, nL, d, A, Q⟩ := Γ
  obtain ⟨hx, hb, hml, hown, hts, hlk, hK, hA, hZ, ⟨hfr, hce, hsl⟩, hlo⟩ := C
  intro H locs ls hP hD hS hl
  exact lv_ior hx hb hd (kk H locs ls hP hD hS hl)
theorem go_ixor (C : Cx Γ cc own fr lo) {x y : Int32} (hd : decode cc pc = .ok (.ixor, 1)) (kk : Go Γ k n ws (pc + 1) lv (.int (x ^^^ y) :: st)) : Go Γ k n ws pc lv (.int y :: .int x :: st) := by
  obtain ⟨p, l, e, R, s, m, args, below, meth, c, nL, d, A, Q⟩ := Γ
  obtain ⟨hx, hb, hml, hown, hts, hlk, hK, hA, hZ, ⟨hfr, hce, hsl⟩, hlo⟩ := C
  intro H locs ls hP hD hS hl
  exact lv_ixor hx hb hd (kk H locs ls hP hD hS hl)
theorem go_ishl (C : Cx Γ cc own fr lo) {x y : Int32} (hd : decode cc pc = .ok (.ishl, 1)) (kk : Go Γ k n ws (pc + 1) lv (.int (x <<< (y &&& 31)) :: st)) : Go Γ k n ws pc lv (.int y :: .int x :: st) := by
  obtain ⟨p, l, e, R, s, m, args, below, meth, c, nL, d, A, Q⟩ := Γ
  obtain ⟨hx, hb, hml, hown, hts, hlk, hK, hA, hZ, ⟨hfr, hce, hsl⟩, hlo⟩ := C
  intro H locs ls hP hD hS hl
  exact lv_ishl hx hb hd (kk H locs ls hP hD hS hl)
theorem go_ishr (C : Cx Γ cc own fr lo) {x y : Int32} (hd : decode cc pc = .ok (.ishr, 1)) (kk : Go Γ k n ws (pc + 1) lv (.int (x >>> (y &&& 31)) :: st)) : Go Γ k n ws pc lv (.int y :: .int x :: st) := by
  obtain ⟨p, l, e, R, s, m, args, below, meth, c, nL, d, A, Q⟩ := Γ
  obtain ⟨hx, hb, hml, hown, hts, hlk, hK, hA, hZ, ⟨hfr, hce, hsl⟩, hlo⟩ := C
  intro H locs ls hP hD hS hl
  exact lv_ishr hx hb hd (kk H locs ls hP hD hS hl)
theorem go_ladd (C : Cx Γ cc own fr lo) {x y : Int64} (hd : decode cc pc = .ok (.ladd, 1)) (kk : Go Γ k n ws (pc + 1) lv (.long (x + y) :: st)) : Go Γ k n ws pc lv (.long y :: .long x :: st) := by
  obtain ⟨p, l, e, R, s, m, args, below, meth, c, nL, d, A, Q⟩ := Γ
  obtain ⟨hx, hb, hml, hown, hts, hlk, hK, hA, hZ, ⟨hfr, hce, hsl⟩, hlo⟩ := C
  intro H locs ls hP hD hS hl
  exact lv_ladd hx hb hd (kk H locs ls hP hD hS hl)
theorem go_lsub (C : Cx Γ cc own fr lo) {x y : Int64} (hd : decode cc pc = .ok (.lsub, 1)) (kk : Go Γ k n ws (pc + 1) lv (.long (x - y) :: st)) : Go Γ k n ws pc lv (.long y :: .long x :: st) := by
  obtain ⟨p, l, e, R, s, m, args, below, meth, c, nL, d, A, Q⟩ := Γ
  obtain ⟨hx, hb, hml, hown, hts, hlk, hK, hA, hZ, ⟨hfr, hce, hsl⟩, hlo⟩ := C
  intro H locs ls hP hD hS hl
  exact lv_lsub hx hb hd (kk H locs ls hP hD hS hl)
theorem go_lmul (C : Cx Γ cc own fr lo) {x y : Int64} (hd : decode cc pc = .ok (.lmul, 1)) (kk : Go Γ k n ws (pc + 1) lv (.long (x * y) :: st)) : Go Γ k n ws pc lv (.long y :: .long x :: st) := by
  obtain ⟨p, l, e, R, s, m, args, below, meth, c, nL, d, A, Q⟩ := Γ
  obtain ⟨hx, hb, hml, hown, hts, hlk, hK, hA, hZ, ⟨hfr, hce, hsl⟩, hlo⟩ := C
  intro H locs ls hP hD hS hl
  exact lv_lmul hx hb hd (kk H locs ls hP hD hS hl)
theorem go_land (C : Cx Γ cc own fr lo) {x y : Int64} (hd : decode cc pc = .ok (.land, 1)) (kk : Go Γ k n ws (pc + 1) lv (.long (x &&& y) :: st)) : Go Γ k n ws pc lv (.long y :: .long x :: st) := by
  obtain ⟨p, l, e, R, s, m, args, below, meth, c, nL, d, A, Q⟩ := Γ
  obtain ⟨hx, hb, hml, hown, hts, hlk, hK, hA, hZ, ⟨hfr, hce, hsl⟩, hlo⟩ := C
  intro H locs ls hP hD hS hl
  exact lv_land hx hb hd (kk H locs ls hP hD hS hl)
theorem go_lor (C : Cx Γ cc own fr lo) {x y : Int64} (hd : decode cc pc = .ok (.lor, 1)) (kk : Go Γ k n ws (pc + 1) lv (.long (x ||| y) :: st)) : Go Γ k n ws pc lv (.long y :: .long x :: st) := by
  obtain ⟨p, l, e, R, s, m, args, below, meth, c, nL, d, A, Q⟩ := Γ
  obtain ⟨hx, hb, hml, hown, hts, hlk, hK, hA, hZ, ⟨hfr, hce, hsl⟩, hlo⟩ := C
  intro H locs ls hP hD hS hl
  exact lv_lor hx hb hd (kk H locs ls hP hD hS hl)
theorem go_lxor (C : Cx Γ cc own fr lo) {x y : Int64} (hd : decode cc pc = .ok (.lxor, 1)) (kk : Go Γ k n ws (pc + 1) lv (.long (x ^^^ y) :: st)) : Go Γ k n ws pc lv (.long y :: .long x :: st) := by
  obtain ⟨p, l, e, R, s, m, args, below, meth, c, nL, d, A, Q⟩ := Γ
  obtain ⟨hx, hb, hml, hown, hts, hlk, hK, hA, hZ, ⟨hfr, hce, hsl⟩, hlo⟩ := C
  intro H locs ls hP hD hS hl
  exact lv_lxor hx hb hd (kk H locs ls hP hD hS hl)
theorem go_ineg (C : Cx Γ cc own fr lo) {x : Int32} (hd : decode cc pc = .ok (.ineg, 1)) (kk : Go Γ k n ws (pc + 1) lv (.int (-x) :: st)) : Go Γ k n ws pc lv (.int x :: st) := by
  obtain ⟨p, l, e, R, s, m, args, below, meth, c, nL, d, A, Q⟩ := Γ
  obtain ⟨hx, hb, hml, hown, hts, hlk, hK, hA, hZ, ⟨hfr, hce, hsl⟩, hlo⟩ := C
  intro H locs ls hP hD hS hl
  exact lv_ineg hx hb hd (kk H locs ls hP hD hS hl)
theorem go_iushr (C : Cx Γ cc own fr lo) {x y : Int32} (hd : decode cc pc = .ok (.iushr, 1)) (kk : Go Γ k n ws (pc + 1) lv (.int ((x.toUInt32 >>> (y.toUInt32 &&& Int32.toUInt32 31)).toInt32) :: st)) : Go Γ k n ws pc lv (.int y :: .int x :: st) := by
  obtain ⟨p, l, e, R, s, m, args, below, meth, c, nL, d, A, Q⟩ := Γ
  obtain ⟨hx, hb, hml, hown, hts, hlk, hK, hA, hZ, ⟨hfr, hce, hsl⟩, hlo⟩ := C
  intro H locs ls hP hD hS hl
  exact lv_iushr hx hb hd rfl (kk H locs ls hP hD hS hl)
theorem go_idiv (C : Cx Γ cc own fr lo) {x y : Int32} (hd : decode cc pc = .ok (.idiv, 1)) (hne : ¬ y = 0) (kk : Go Γ k n ws (pc + 1) lv (.int (x / y) :: st)) : Go Γ k n ws pc lv (.int y :: .int x :: st) := by
  obtain ⟨p, l, e, R, s, m, args, below, meth, c, nL, d, A, Q⟩ := Γ
  obtain ⟨hx, hb, hml, hown, hts, hlk, hK, hA, hZ, ⟨hfr, hce, hsl⟩, hlo⟩ := C
  intro H locs ls hP hD hS hl
  exact lv_idiv hx hb hd hne (kk H locs ls hP hD hS hl)
theorem go_irem (C : Cx Γ cc own fr lo) {x y : Int32} (hd : decode cc pc = .ok (.irem, 1)) (hne : ¬ y = 0) (kk : Go Γ k n ws (pc + 1) lv (.int (x - x / y * y) :: st)) : Go Γ k n ws pc lv (.int y :: .int x :: st) := by
  obtain ⟨p, l, e, R, s, m, args, below, meth, c, nL, d, A, Q⟩ := Γ
  obtain ⟨hx, hb, hml, hown, hts, hlk, hK, hA, hZ, ⟨hfr, hce, hsl⟩, hlo⟩ := C
  intro H locs ls hP hD hS hl
  exact lv_irem hx hb hd hne (kk H locs ls hP hD hS hl)
theorem go_ldiv (C : Cx Γ cc own fr lo) {x y : Int64} (hd : decode cc pc = .ok (.ldiv, 1)) (hne : ¬ y = 0) (kk : Go Γ k n ws (pc + 1) lv (.long (x / y) :: st)) : Go Γ k n ws pc lv (.long y :: .long x :: st) := by
  obtain ⟨p, l, e, R, s, m, args, below, meth, c, nL, d, A, Q⟩ := Γ
  obtain ⟨hx, hb, hml, hown, hts, hlk, hK, hA, hZ, ⟨hfr, hce, hsl⟩, hlo⟩ := C
  intro H locs ls hP hD hS hl
  exact lv_ldiv hx hb hd hne (kk H locs ls hP hD hS hl)
theorem go_lrem (C : Cx Γ cc own fr lo) {x y : Int64} (hd : decode cc pc = .ok (.lrem, 1)) (hne : ¬ y = 0) (kk : Go Γ k n ws (pc + 1) lv (.long (x - x / y * y) :: st)) : Go Γ k n ws pc lv (.long y :: .long x :: st) := by
  obtain ⟨p, l, e, R, s, m, args, below, meth, c, nL, d, A, Q⟩ := Γ
  obtain ⟨hx, hb, hml, hown, hts, hlk, hK, hA, hZ, ⟨hfr, hce, hsl⟩, hlo⟩ := C
  intro H locs ls hP hD hS hl
  exact lv_lrem hx hb hd hne (kk H locs ls hP hD hS hl)
theorem go_i2l (C : Cx Γ cc own fr lo) {x : Int32} (hd : decode cc pc = .ok (.i2l, 1)) (kk : Go Γ k n ws (pc + 1) lv (.long x.toInt64 :: st)) : Go Γ k n ws pc lv (.int x :: st) := by
  obtain ⟨p, l, e, R, s, m, args, below, meth, c, nL, d, A, Q⟩ := Γ
  obtain ⟨hx, hb, hml, hown, hts, hlk, hK, hA, hZ, ⟨hfr, hce, hsl⟩, hlo⟩ := C
  intro H locs ls hP hD hS hl
  exact lv_i2l hx hb hd rfl (kk H locs ls hP hD hS hl)
theorem go_l2i (C : Cx Γ cc own fr lo) {x : Int64} (hd : decode cc pc = .ok (.l2i, 1)) (kk : Go Γ k n ws (pc + 1) lv (.int x.toInt32 :: st)) : Go Γ k n ws pc lv (.long x :: st) := by
  obtain ⟨p, l, e, R, s, m, args, below, meth, c, nL, d, A, Q⟩ := Γ
  obtain ⟨hx, hb, hml, hown, hts, hlk, hK, hA, hZ, ⟨hfr, hce, hsl⟩, hlo⟩ := C
  intro H locs ls hP hD hS hl
  exact lv_l2i hx hb hd rfl (kk H locs ls hP hD hS hl)
theorem go_i2b (C : Cx Γ cc own fr lo) {x : Int32} (hd : decode cc pc = .ok (.i2b, 1)) (kk : Go Γ k n ws (pc + 1) lv (.int x.toInt8.toInt32 :: st)) : Go Γ k n ws pc lv (.int x :: st) := by
  obtain ⟨p, l, e, R, s, m, args, below, meth, c, nL, d, A, Q⟩ := Γ
  obtain ⟨hx, hb, hml, hown, hts, hlk, hK, hA, hZ, ⟨hfr, hce, hsl⟩, hlo⟩ := C
  intro H locs ls hP hD hS hl
  exact lv_i2b hx hb hd rfl (kk H locs ls hP hD hS hl)
theorem go_i2c (C : Cx Γ cc own fr lo) {x : Int32} (hd : decode cc pc = .ok (.i2c, 1)) (kk : Go Γ k n ws (pc + 1) lv (.int (x.toUInt32 % 65536).toInt32 :: st)) : Go Γ k n ws pc lv (.int x :: st) := by
  obtain ⟨p, l, e, R, s, m, args, below, meth, c, nL, d, A, Q⟩ := Γ
  obtain ⟨hx, hb, hml, hown, hts, hlk, hK, hA, hZ, ⟨hfr, hce, hsl⟩, hlo⟩ := C
  intro H locs ls hP hD hS hl
  exact lv_i2c hx hb hd rfl (kk H locs ls hP hD hS hl)
theorem go_lcmp (C : Cx Γ cc own fr lo) {x y : Int64} (hd : decode cc pc = .ok (.lcmp, 1)) (kk : Go Γ k n ws (pc + 1) lv (.int (lg_cmp x y) :: st)) : Go Γ k n ws pc lv (.long y :: .long x :: st) := by
  obtain ⟨p, l, e, R, s, m, args, below, meth, c, nL, d, A, Q⟩ := Γ
  obtain ⟨hx, hb, hml, hown, hts, hlk, hK, hA, hZ, ⟨hfr, hce, hsl⟩, hlo⟩ := C
  intro H locs ls hP hD hS hl
  exact W.lcmp hx hb hd (kk H locs ls hP hD hS hl)
theorem go_dup (C : Cx Γ cc own fr lo) {va : Value} (hd : decode cc pc = .ok (.dup, 1)) (hva : va.category = 1) (kk : Go Γ k n ws (pc + 1) lv (va :: va :: st)) : Go Γ k n ws pc lv (va :: st) := by
  obtain ⟨p, l, e, R, s, m, args, below, meth, c, nL, d, A, Q⟩ := Γ
  obtain ⟨hx, hb, hml, hown, hts, hlk, hK, hA, hZ, ⟨hfr, hce, hsl⟩, hlo⟩ := C
  intro H locs ls hP hD hS hl
  exact lv_dup hx hb hd hva (kk H locs ls hP hD hS hl)
theorem go_pop (C : Cx Γ cc own fr lo) {va : Value} (hd : decode cc pc = .ok (.pop, 1)) (hva : va.category = 1) (kk : Go Γ k n ws (pc + 1) lv (st)) : Go Γ k n ws pc lv (va :: st) := by
  obtain ⟨p, l, e, R, s, m, args, below, meth, c, nL, d, A, Q⟩ := Γ
  obtain ⟨hx, hb, hml, hown, hts, hlk, hK, hA, hZ, ⟨hfr, hce, hsl⟩, hlo⟩ := C
  intro H locs ls hP hD hS hl
  exact lv_pop hx hb hd hva (kk H locs ls hP hD hS hl)
theorem go_dup_x1 (C : Cx Γ cc own fr lo) {va vb : Value} (hd : decode cc pc = .ok (.dup_x1, 1)) (hva : va.category = 1) (hvb : vb.category = 1) (kk : Go Γ k n ws (pc + 1) lv (va :: vb :: va :: st)) : Go Γ k n ws pc lv (va :: vb :: st) := by
  obtain ⟨p, l, e, R, s, m, args, below, meth, c, nL, d, A, Q⟩ := Γ
  obtain ⟨hx, hb, hml, hown, hts, hlk, hK, hA, hZ, ⟨hfr, hce, hsl⟩, hlo⟩ := C
  intro H locs ls hP hD hS hl
  exact lv_dup_x1 hx hb hd hva hvb (kk H locs ls hP hD hS hl)
theorem go_dup2 (C : Cx Γ cc own fr lo) {va vb : Value} (hd : decode cc pc = .ok (.dup2, 1)) (hva : va.category = 1) (hvb : vb.category = 1) (kk : Go Γ k n ws (pc + 1) lv (va :: vb :: va :: vb :: st)) : Go Γ k n ws pc lv (va :: vb :: st) := by
  obtain ⟨p, l, e, R, s, m, args, below, meth, c, nL, d, A, Q⟩ := Γ
  obtain ⟨hx, hb, hml, hown, hts, hlk, hK, hA, hZ, ⟨hfr, hce, hsl⟩, hlo⟩ := C
  intro H locs ls hP hD hS hl
  exact lv_dup2_11 hx hb hd hva hvb (kk H locs ls hP hD hS hl)
theorem go_dup2_2 (C : Cx Γ cc own fr lo) {va : Value} (hd : decode cc pc = .ok (.dup2, 1)) (hva : va.category = 2) (kk : Go Γ k n ws (pc + 1) lv (va :: va :: st)) : Go Γ k n ws pc lv (va :: st) := by
  obtain ⟨p, l, e, R, s, m, args, below, meth, c, nL, d, A, Q⟩ := Γ
  obtain ⟨hx, hb, hml, hown, hts, hlk, hK, hA, hZ, ⟨hfr, hce, hsl⟩, hlo⟩ := C
  intro H locs ls hP hD hS hl
  exact lv_dup2_2 hx hb hd hva (kk H locs ls hP hD hS hl)
theorem go_ldc (C : Cx Γ cc own fr lo) {ix : Nat} {v : Int32} (hd : decode cc pc = .ok (.ldc ix, 2)) (hw : Cond.constant own ix v ∈ lw_all) (kk : Go Γ k n ws (pc + 2) lv (.int v :: st)) : Go Γ k n ws pc lv (st) := by
  obtain ⟨p, l, e, R, s, m, args, below, meth, c, nL, d, A, Q⟩ := Γ
  obtain ⟨hx, hb, hml, hown, hts, hlk, hK, hA, hZ, ⟨hfr, hce, hsl⟩, hlo⟩ := C
  intro H locs ls hP hD hS hl
  exact lv_ldc hx hb hown (hts _ hw) hd (kk H locs ls hP hD hS hl)
theorem go_ldc_w (C : Cx Γ cc own fr lo) {ix : Nat} {v : Int32} (hd : decode cc pc = .ok (.ldc_w ix, 3)) (hw : Cond.constant own ix v ∈ lw_all) (kk : Go Γ k n ws (pc + 3) lv (.int v :: st)) : Go Γ k n ws pc lv (st) := by
  obtain ⟨p, l, e, R, s, m, args, below, meth, c, nL, d, A, Q⟩ := Γ
  obtain ⟨hx, hb, hml, hown, hts, hlk, hK, hA, hZ, ⟨hfr, hce, hsl⟩, hlo⟩ := C
  intro H locs ls hP hD hS hl
  exact lv_ldcw hx hb hown (hts _ hw) hd (kk H locs ls hP hD hS hl)
theorem go_ldc2 (C : Cx Γ cc own fr lo) {ix : Nat} {v : Int64} (hd : decode cc pc = .ok (.ldc2_w ix, 3)) (hw : Cond.constantLong own ix v ∈ lw_all) (kk : Go Γ k n ws (pc + 3) lv (.long v :: st)) : Go Γ k n ws pc lv (st) := by
  obtain ⟨p, l, e, R, s, m, args, below, meth, c, nL, d, A, Q⟩ := Γ
  obtain ⟨hx, hb, hml, hown, hts, hlk, hK, hA, hZ, ⟨hfr, hce, hsl⟩, hlo⟩ := C
  intro H locs ls hP hD hS hl
  exact lv_ldc2 hx hb hown (hts _ hw) hd (kk H locs ls hP hD hS hl)
theorem go_istore_n (C : Cx Γ cc own fr lo) {j : Fin 4} {i : Nat} {x : Int32} {N9 : Nat} {lv' : List (Nat × Value)} (hN9 : Γ.nL = N9) (hd : decode cc pc = .ok (.istore_n j, 1)) (hi : (j : Nat) = i) (hn : i < N9) (hq : (i, Value.int x) :: lv.filter (fun q => !(q.1 == i) && !(q.1 + 1 == i && q.2.category == 2)) = lv') (kk : Go Γ k n ws (pc + 1) lv' st) : Go Γ k n ws pc lv (.int x :: st) := by
  obtain ⟨p, l, e, R, s, m, args, below, meth, c, nL, d, A, Q⟩ := Γ
  obtain ⟨hx, hb, hml, hown, hts, hlk, hK, hA, hZ, ⟨hfr, hce, hsl⟩, hlo⟩ := C
  intro H locs ls hP hD hS hl
  exact lv_istore_n hx hb hd hi hl (Nat.lt_of_lt_of_le hn (Nat.le_of_eq hN9.symm)) hq (fun ls' hl' => kk H locs ls' hP hD hS hl')
theorem go_istore (C : Cx Γ cc own fr lo) {i : Nat} {x : Int32} {N9 : Nat} {lv' : List (Nat × Value)} (hN9 : Γ.nL = N9) (hd : decode cc pc = .ok (.istore i, 2)) (hn : i < N9) (hq : (i, Value.int x) :: lv.filter (fun q => !(q.1 == i) && !(q.1 + 1 == i && q.2.category == 2)) = lv') (kk : Go Γ k n ws (pc + 2) lv' st) : Go Γ k n ws pc lv (.int x :: st) := by
  obtain ⟨p, l, e, R, s, m, args, below, meth, c, nL, d, A, Q⟩ := Γ
  obtain ⟨hx, hb, hml, hown, hts, hlk, hK, hA, hZ, ⟨hfr, hce, hsl⟩, hlo⟩ := C
  intro H locs ls hP hD hS hl
  exact lv_istore hx hb hd hl (Nat.lt_of_lt_of_le hn (Nat.le_of_eq hN9.symm)) hq (fun ls' hl' => kk H locs ls' hP hD hS hl')
theorem go_astore_n (C : Cx Γ cc own fr lo) {j : Fin 4} {i : Nat} {x : Nat} {N9 : Nat} {lv' : List (Nat × Value)} (hN9 : Γ.nL = N9) (hd : decode cc pc = .ok (.astore_n j, 1)) (hi : (j : Nat) = i) (hn : i < N9) (hq : (i, Value.ref x) :: lv.filter (fun q => !(q.1 == i) && !(q.1 + 1 == i && q.2.category == 2)) = lv') (kk : Go Γ k n ws (pc + 1) lv' st) : Go Γ k n ws pc lv (.ref x :: st) := by
  obtain ⟨p, l, e, R, s, m, args, below, meth, c, nL, d, A, Q⟩ := Γ
  obtain ⟨hx, hb, hml, hown, hts, hlk, hK, hA, hZ, ⟨hfr, hce, hsl⟩, hlo⟩ := C
  intro H locs ls hP hD hS hl
  exact lv_astore_n hx hb hd hi hl (Nat.lt_of_lt_of_le hn (Nat.le_of_eq hN9.symm)) hq (fun ls' hl' => kk H locs ls' hP hD hS hl')
theorem go_astore (C : Cx Γ cc own fr lo) {i : Nat} {x : Nat} {N9 : Nat} {lv' : List (Nat × Value)} (hN9 : Γ.nL = N9) (hd : decode cc pc = .ok (.astore i, 2)) (hn : i < N9) (hq : (i, Value.ref x) :: lv.filter (fun q => !(q.1 == i) && !(q.1 + 1 == i && q.2.category == 2)) = lv') (kk : Go Γ k n ws (pc + 2) lv' st) : Go Γ k n ws pc lv (.ref x :: st) := by
  obtain ⟨p, l, e, R, s, m, args, below, meth, c, nL, d, A, Q⟩ := Γ
  obtain ⟨hx, hb, hml, hown, hts, hlk, hK, hA, hZ, ⟨hfr, hce, hsl⟩, hlo⟩ := C
  intro H locs ls hP hD hS hl
  exact lv_astore hx hb hd hl (Nat.lt_of_lt_of_le hn (Nat.le_of_eq hN9.symm)) hq (fun ls' hl' => kk H locs ls' hP hD hS hl')
theorem go_lstore_n (C : Cx Γ cc own fr lo) {j : Fin 4} {i : Nat} {x : Int64} {N9 : Nat} {lv' : List (Nat × Value)} (hN9 : Γ.nL = N9) (hd : decode cc pc = .ok (.lstore_n j, 1)) (hi : (j : Nat) = i) (hn : i + 1 < N9) (hq : (i, Value.long x) :: lv.filter (fun q => !(q.1 == i) && (!(q.1 == i + 1) && !(q.1 + 1 == i && q.2.category == 2))) = lv') (kk : Go Γ k n ws (pc + 1) lv' st) : Go Γ k n ws pc lv (.long x :: st) := by
  obtain ⟨p, l, e, R, s, m, args, below, meth, c, nL, d, A, Q⟩ := Γ
  obtain ⟨hx, hb, hml, hown, hts, hlk, hK, hA, hZ, ⟨hfr, hce, hsl⟩, hlo⟩ := C
  intro H locs ls hP hD hS hl
  exact lv_lstore_n hx hb hd hi hl (Nat.lt_of_lt_of_le hn (Nat.le_of_eq hN9.symm)) hq (fun ls' hl' => kk H locs ls' hP hD hS hl')
theorem go_lstore (C : Cx Γ cc own fr lo) {i : Nat} {x : Int64} {N9 : Nat} {lv' : List (Nat × Value)} (hN9 : Γ.nL = N9) (hd : decode cc pc = .ok (.lstore i, 2)) (hn : i + 1 < N9) (hq : (i, Value.long x) :: lv.filter (fun q => !(q.1 == i) && (!(q.1 == i + 1) && !(q.1 + 1 == i && q.2.category == 2))) = lv') (kk : Go Γ k n ws (pc + 2) lv' st) : Go Γ k n ws pc lv (.long x :: st) := by
  obtain ⟨p, l, e, R, s, m, args, below, meth, c, nL, d, A, Q⟩ := Γ
  obtain ⟨hx, hb, hml, hown, hts, hlk, hK, hA, hZ, ⟨hfr, hce, hsl⟩, hlo⟩ := C
  intro H locs ls hP hD hS hl
  exact lv_lstore hx hb hd hl (Nat.lt_of_lt_of_le hn (Nat.le_of_eq hN9.symm)) hq (fun ls' hl' => kk H locs ls' hP hD hS hl')
theorem go_iinc (C : Cx Γ cc own fr lo) {i q : Nat} {z : Int} {x v : Int32} {N9 : Nat} {lv' : List (Nat × Value)} (hN9 : Γ.nL = N9) (hd : decode cc pc = .ok (.iinc i z, 3)) (hk : lv[q]? = some (i, .int x)) (hv : x + Int32.ofInt z = v) (hn : i < N9) (hq : (i, Value.int v) :: lv.filter (fun q => !(q.1 == i) && !(q.1 + 1 == i && q.2.category == 2)) = lv') (kk : Go Γ k n ws (pc + 3) lv' st) : Go Γ k n ws pc lv st := by
  obtain ⟨p, l, e, R, s, m, args, below, meth, c, nL, d, A, Q⟩ := Γ
  obtain ⟨hx, hb, hml, hown, hts, hlk, hK, hA, hZ, ⟨hfr, hce, hsl⟩, hlo⟩ := C
  intro H locs ls hP hD hS hl
  exact lv_iinc hx hb hd hl hk hv (Nat.lt_of_lt_of_le hn (Nat.le_of_eq hN9.symm)) hq (fun ls' hl' => kk H locs ls' hP hD hS hl')
theorem go_if_eq {α : Type} {r : α} {A B : Option α} (C : Cx Γ cc own fr lo) {x : Int32} {off : Int} {tgt : Nat} (hd : decode cc pc = .ok (.ifCond .eq off, 3)) (ht : (pc : Int) + off = (tgt : Int)) (h : (if x = 0 then A else B) = some r) (kt : A = some r → Go Γ k n ws tgt lv st) (kf : B = some r → Go Γ k n ws (pc + 3) lv st) : Go Γ k n ws pc lv (.int x :: st) := by
  obtain ⟨p, l, e, R, s, m, args, below, meth, c, nL, d, A, Q⟩ := Γ
  obtain ⟨hx, hb, hml, hown, hts, hlk, hK, hA, hZ, ⟨hfr, hce, hsl⟩, hlo⟩ := C
  intro H locs ls hP hD hS hl
  exact lv_if_eq hx hb hd ht (fun c9 => kt (by rw [if_pos c9] at h; exact h) H locs ls hP hD hS hl) (fun c9 => kf (by rw [if_neg c9] at h; exact h) H locs ls hP hD hS hl)
theorem go_if_ne {α : Type} {r : α} {A B : Option α} (C : Cx Γ cc own fr lo) {x : Int32} {off : Int} {tgt : Nat} (hd : decode cc pc = .ok (.ifCond .ne off, 3)) (ht : (pc : Int) + off = (tgt : Int)) (h : (if x = 0 then B else A) = some r) (kt : A = some r → Go Γ k n ws tgt lv st) (kf : B = some r → Go Γ k n ws (pc + 3) lv st) : Go Γ k n ws pc lv (.int x :: st) := by
  obtain ⟨p, l, e, R, s, m, args, below, meth, c, nL, d, A, Q⟩ := Γ
  obtain ⟨hx, hb, hml, hown, hts, hlk, hK, hA, hZ, ⟨hfr, hce, hsl⟩, hlo⟩ := C
  intro H locs ls hP hD hS hl
  exact lv_if_ne hx hb hd ht (fun c9 => kt (by rw [if_neg c9] at h; exact h) H locs ls hP hD hS hl) (fun c9 => kf (by rw [if_pos c9] at h; exact h) H locs ls hP hD hS hl)
theorem go_if_lt {α : Type} {r : α} {A B : Option α} (C : Cx Γ cc own fr lo) {x : Int32} {off : Int} {tgt : Nat} (hd : decode cc pc = .ok (.ifCond .lt off, 3)) (ht : (pc : Int) + off = (tgt : Int)) (h : (if x < 0 then A else B) = some r) (kt : A = some r → Go Γ k n ws tgt lv st) (kf : B = some r → Go Γ k n ws (pc + 3) lv st) : Go Γ k n ws pc lv (.int x :: st) := by
  obtain ⟨p, l, e, R, s, m, args, below, meth, c, nL, d, A, Q⟩ := Γ
  obtain ⟨hx, hb, hml, hown, hts, hlk, hK, hA, hZ, ⟨hfr, hce, hsl⟩, hlo⟩ := C
  intro H locs ls hP hD hS hl
  exact lv_if_lt hx hb hd ht (fun c9 => kt (by rw [if_pos c9] at h; exact h) H locs ls hP hD hS hl) (fun c9 => kf (by rw [if_neg c9] at h; exact h) H locs ls hP hD hS hl)
theorem go_if_ge {α : Type} {r : α} {A B : Option α} (C : Cx Γ cc own fr lo) {x : Int32} {off : Int} {tgt : Nat} (hd : decode cc pc = .ok (.ifCond .ge off, 3)) (ht : (pc : Int) + off = (tgt : Int)) (h : (if 0 ≤ x then A else B) = some r) (kt : A = some r → Go Γ k n ws tgt lv st) (kf : B = some r → Go Γ k n ws (pc + 3) lv st) : Go Γ k n ws pc lv (.int x :: st) := by
  obtain ⟨p, l, e, R, s, m, args, below, meth, c, nL, d, A, Q⟩ := Γ
  obtain ⟨hx, hb, hml, hown, hts, hlk, hK, hA, hZ, ⟨hfr, hce, hsl⟩, hlo⟩ := C
  intro H locs ls hP hD hS hl
  exact lv_if_ge hx hb hd ht (fun c9 => kt (by rw [if_pos c9] at h; exact h) H locs ls hP hD hS hl) (fun c9 => kf (by rw [if_neg c9] at h; exact h) H locs ls hP hD hS hl)
theorem go_if_gt {α : Type} {r : α} {A B : Option α} (C : Cx Γ cc own fr lo) {x : Int32} {off : Int} {tgt : Nat} (hd : decode cc pc = .ok (.ifCond .gt off, 3)) (ht : (pc : Int) + off = (tgt : Int)) (h : (if 0 < x then A else B) = some r) (kt : A = some r → Go Γ k n ws tgt lv st) (kf : B = some r → Go Γ k n ws (pc + 3) lv st) : Go Γ k n ws pc lv (.int x :: st) := by
  obtain ⟨p, l, e, R, s, m, args, below, meth, c, nL, d, A, Q⟩ := Γ
  obtain ⟨hx, hb, hml, hown, hts, hlk, hK, hA, hZ, ⟨hfr, hce, hsl⟩, hlo⟩ := C
  intro H locs ls hP hD hS hl
  exact lv_if_gt hx hb hd ht (fun c9 => kt (by rw [if_pos c9] at h; exact h) H locs ls hP hD hS hl) (fun c9 => kf (by rw [if_neg c9] at h; exact h) H locs ls hP hD hS hl)
theorem go_if_le {α : Type} {r : α} {A B : Option α} (C : Cx Γ cc own fr lo) {x : Int32} {off : Int} {tgt : Nat} (hd : decode cc pc = .ok (.ifCond .le off, 3)) (ht : (pc : Int) + off = (tgt : Int)) (h : (if x ≤ 0 then A else B) = some r) (kt : A = some r → Go Γ k n ws tgt lv st) (kf : B = some r → Go Γ k n ws (pc + 3) lv st) : Go Γ k n ws pc lv (.int x :: st) := by
  obtain ⟨p, l, e, R, s, m, args, below, meth, c, nL, d, A, Q⟩ := Γ
  obtain ⟨hx, hb, hml, hown, hts, hlk, hK, hA, hZ, ⟨hfr, hce, hsl⟩, hlo⟩ := C
  intro H locs ls hP hD hS hl
  exact lv_if_le hx hb hd ht (fun c9 => kt (by rw [if_pos c9] at h; exact h) H locs ls hP hD hS hl) (fun c9 => kf (by rw [if_neg c9] at h; exact h) H locs ls hP hD hS hl)
theorem go_icmp_eq {α : Type} {r : α} {A B : Option α} (C : Cx Γ cc own fr lo) {x y : Int32} {off : Int} {tgt : Nat} (hd : decode cc pc = .ok (.if_icmp .eq off, 3)) (ht : (pc : Int) + off = (tgt : Int)) (h : (if x = y then A else B) = some r) (kt : A = some r → Go Γ k n ws tgt lv st) (kf : B = some r → Go Γ k n ws (pc + 3) lv st) : Go Γ k n ws pc lv (.int y :: .int x :: st) := by
  obtain ⟨p, l, e, R, s, m, args, below, meth, c, nL, d, A, Q⟩ := Γ
  obtain ⟨hx, hb, hml, hown, hts, hlk, hK, hA, hZ, ⟨hfr, hce, hsl⟩, hlo⟩ := C
  intro H locs ls hP hD hS hl
  exact lv_icmp_eq hx hb hd ht (fun c9 => kt (by rw [if_pos c9] at h; exact h) H locs ls hP hD hS hl) (fun c9 => kf (by rw [if_neg c9] at h; exact h) H locs ls hP hD hS hl)
theorem go_icmp_ne {α : Type} {r : α} {A B : Option α} (C : Cx Γ cc own fr lo) {x y : Int32} {off : Int} {tgt : Nat} (hd : decode cc pc = .ok (.if_icmp .ne off, 3)) (ht : (pc : Int) + off = (tgt : Int)) (h : (if x = y then B else A) = some r) (kt : A = some r → Go Γ k n ws tgt lv st) (kf : B = some r → Go Γ k n ws (pc + 3) lv st) : Go Γ k n ws pc lv (.int y :: .int x :: st) := by
  obtain ⟨p, l, e, R, s, m, args, below, meth, c, nL, d, A, Q⟩ := Γ
  obtain ⟨hx, hb, hml, hown, hts, hlk, hK, hA, hZ, ⟨hfr, hce, hsl⟩, hlo⟩ := C
  intro H locs ls hP hD hS hl
  exact lv_icmp_ne hx hb hd ht (fun c9 => kt (by rw [if_neg c9] at h; exact h) H locs ls hP hD hS hl) (fun c9 => kf (by rw [if_pos c9] at h; exact h) H locs ls hP hD hS hl)
theorem go_icmp_lt {α : Type} {r : α} {A B : Option α} (C : Cx Γ cc own fr lo) {x y : Int32} {off : Int} {tgt : Nat} (hd : decode cc pc = .ok (.if_icmp .lt off, 3)) (ht : (pc : Int) + off = (tgt : Int)) (h : (if x < y then A else B) = some r) (kt : A = some r → Go Γ k n ws tgt lv st) (kf : B = some r → Go Γ k n ws (pc + 3) lv st) : Go Γ k n ws pc lv (.int y :: .int x :: st) := by
  obtain ⟨p, l, e, R, s, m, args, below, meth, c, nL, d, A, Q⟩ := Γ
  obtain ⟨hx, hb, hml, hown, hts, hlk, hK, hA, hZ, ⟨hfr, hce, hsl⟩, hlo⟩ := C
  intro H locs ls hP hD hS hl
  exact lv_icmp_lt hx hb hd ht (fun c9 => kt (by rw [if_pos c9] at h; exact h) H locs ls hP hD hS hl) (fun c9 => kf (by rw [if_neg c9] at h; exact h) H locs ls hP hD hS hl)
theorem go_icmp_ge {α : Type} {r : α} {A B : Option α} (C : Cx Γ cc own fr lo) {x y : Int32} {off : Int} {tgt : Nat} (hd : decode cc pc = .ok (.if_icmp .ge off, 3)) (ht : (pc : Int) + off = (tgt : Int)) (h : (if y ≤ x then A else B) = some r) (kt : A = some r → Go Γ k n ws tgt lv st) (kf : B = some r → Go Γ k n ws (pc + 3) lv st) : Go Γ k n ws pc lv (.int y :: .int x :: st) := by
  obtain ⟨p, l, e, R, s, m, args, below, meth, c, nL, d, A, Q⟩ := Γ
  obtain ⟨hx, hb, hml, hown, hts, hlk, hK, hA, hZ, ⟨hfr, hce, hsl⟩, hlo⟩ := C
  intro H locs ls hP hD hS hl
  exact lv_icmp_ge hx hb hd ht (fun c9 => kt (by rw [if_pos c9] at h; exact h) H locs ls hP hD hS hl) (fun c9 => kf (by rw [if_neg c9] at h; exact h) H locs ls hP hD hS hl)
theorem go_icmp_gt {α : Type} {r : α} {A B : Option α} (C : Cx Γ cc own fr lo) {x y : Int32} {off : Int} {tgt : Nat} (hd : decode cc pc = .ok (.if_icmp .gt off, 3)) (ht : (pc : Int) + off = (tgt : Int)) (h : (if y < x then A else B) = some r) (kt : A = some r → Go Γ k n ws tgt lv st) (kf : B = some r → Go Γ k n ws (pc + 3) lv st) : Go Γ k n ws pc lv (.int y :: .int x :: st) := by
  obtain ⟨p, l, e, R, s, m, args, below, meth, c, nL, d, A, Q⟩ := Γ
  obtain ⟨hx, hb, hml, hown, hts, hlk, hK, hA, hZ, ⟨hfr, hce, hsl⟩, hlo⟩ := C
  intro H locs ls hP hD hS hl
  exact lv_icmp_gt hx hb hd ht (fun c9 => kt (by rw [if_pos c9] at h; exact h) H locs ls hP hD hS hl) (fun c9 => kf (by rw [if_neg c9] at h; exact h) H locs ls hP hD hS hl)
theorem go_icmp_le {α : Type} {r : α} {A B : Option α} (C : Cx Γ cc own fr lo) {x y : Int32} {off : Int} {tgt : Nat} (hd : decode cc pc = .ok (.if_icmp .le off, 3)) (ht : (pc : Int) + off = (tgt : Int)) (h : (if x ≤ y then A else B) = some r) (kt : A = some r → Go Γ k n ws tgt lv st) (kf : B = some r → Go Γ k n ws (pc + 3) lv st) : Go Γ k n ws pc lv (.int y :: .int x :: st) := by
  obtain ⟨p, l, e, R, s, m, args, below, meth, c, nL, d, A, Q⟩ := Γ
  obtain ⟨hx, hb, hml, hown, hts, hlk, hK, hA, hZ, ⟨hfr, hce, hsl⟩, hlo⟩ := C
  intro H locs ls hP hD hS hl
  exact lv_icmp_le hx hb hd ht (fun c9 => kt (by rw [if_pos c9] at h; exact h) H locs ls hP hD hS hl) (fun c9 => kf (by rw [if_neg c9] at h; exact h) H locs ls hP hD hS hl)
theorem go_if_eqT (C : Cx Γ cc own fr lo) {x : Int32} {off : Int} {tgt : Nat} (hd : decode cc pc = .ok (.ifCond .eq off, 3)) (ht : (pc : Int) + off = (tgt : Int)) (h : x = 0) (kk : Go Γ k n ws tgt lv st) : Go Γ k n ws pc lv (.int x :: st) := by
  obtain ⟨p, l, e, R, s, m, args, below, meth, c, nL, d, A, Q⟩ := Γ
  obtain ⟨hx, hb, hml, hown, hts, hlk, hK, hA, hZ, ⟨hfr, hce, hsl⟩, hlo⟩ := C
  intro H locs ls hP hD hS hl
  exact lv_if_eq hx hb hd ht (fun _ => kk H locs ls hP hD hS hl) (fun c9 => absurd h c9)
theorem go_if_eqF (C : Cx Γ cc own fr lo) {x : Int32} {off : Int} {tgt : Nat} (hd : decode cc pc = .ok (.ifCond .eq off, 3)) (ht : (pc : Int) + off = (tgt : Int)) (h : ¬ (x = 0)) (kk : Go Γ k n ws (pc + 3) lv st) : Go Γ k n ws pc lv (.int x :: st) := by
  obtain ⟨p, l, e, R, s, m, args, below, meth, c, nL, d, A, Q⟩ := Γ
  obtain ⟨hx, hb, hml, hown, hts, hlk, hK, hA, hZ, ⟨hfr, hce, hsl⟩, hlo⟩ := C
  intro H locs ls hP hD hS hl
  exact lv_if_eq hx hb hd ht (fun c9 => absurd c9 h) (fun _ => kk H locs ls hP hD hS hl)
theorem go_if_neT (C : Cx Γ cc own fr lo) {x : Int32} {off : Int} {tgt : Nat} (hd : decode cc pc = .ok (.ifCond .ne off, 3)) (ht : (pc : Int) + off = (tgt : Int)) (h : ¬ x = 0) (kk : Go Γ k n ws tgt lv st) : Go Γ k n ws pc lv (.int x :: st) := by
  obtain ⟨p, l, e, R, s, m, args, below, meth, c, nL, d, A, Q⟩ := Γ
  obtain ⟨hx, hb, hml, hown, hts, hlk, hK, hA, hZ, ⟨hfr, hce, hsl⟩, hlo⟩ := C
  intro H locs ls hP hD hS hl
  exact lv_if_ne hx hb hd ht (fun _ => kk H locs ls hP hD hS hl) (fun c9 => absurd c9 h)
theorem go_if_neF (C : Cx Γ cc own fr lo) {x : Int32} {off : Int} {tgt : Nat} (hd : decode cc pc = .ok (.ifCond .ne off, 3)) (ht : (pc : Int) + off = (tgt : Int)) (h : ¬ (¬ x = 0)) (kk : Go Γ k n ws (pc + 3) lv st) : Go Γ k n ws pc lv (.int x :: st) := by
  obtain ⟨p, l, e, R, s, m, args, below, meth, c, nL, d, A, Q⟩ := Γ
  obtain ⟨hx, hb, hml, hown, hts, hlk, hK, hA, hZ, ⟨hfr, hce, hsl⟩, hlo⟩ := C
  intro H locs ls hP hD hS hl
  exact lv_if_ne hx hb hd ht (fun c9 => absurd c9 h) (fun _ => kk H locs ls hP hD hS hl)
theorem go_if_ltT (C : Cx Γ cc own fr lo) {x : Int32} {off : Int} {tgt : Nat} (hd : decode cc pc = .ok (.ifCond .lt off, 3)) (ht : (pc : Int) + off = (tgt : Int)) (h : x < 0) (kk : Go Γ k n ws tgt lv st) : Go Γ k n ws pc lv (.int x :: st) := by
  obtain ⟨p, l, e, R, s, m, args, below, meth, c, nL, d, A, Q⟩ := Γ
  obtain ⟨hx, hb, hml, hown, hts, hlk, hK, hA, hZ, ⟨hfr, hce, hsl⟩, hlo⟩ := C
  intro H locs ls hP hD hS hl
  exact lv_if_lt hx hb hd ht (fun _ => kk H locs ls hP hD hS hl) (fun c9 => absurd h c9)
theorem go_if_ltF (C : Cx Γ cc own fr lo) {x : Int32} {off : Int} {tgt : Nat} (hd : decode cc pc = .ok (.ifCond .lt off, 3)) (ht : (pc : Int) + off = (tgt : Int)) (h : ¬ (x < 0)) (kk : Go Γ k n ws (pc + 3) lv st) : Go Γ k n ws pc lv (.int x :: st) := by
  obtain ⟨p, l, e, R, s, m, args, below, meth, c, nL, d, A, Q⟩ := Γ
  obtain ⟨hx, hb, hml, hown, hts, hlk, hK, hA, hZ, ⟨hfr, hce, hsl⟩, hlo⟩ := C
  intro H locs ls hP hD hS hl
  exact lv_if_lt hx hb hd ht (fun c9 => absurd c9 h) (fun _ => kk H locs ls hP hD hS hl)
theorem go_if_geT (C : Cx Γ cc own fr lo) {x : Int32} {off : Int} {tgt : Nat} (hd : decode cc pc = .ok (.ifCond .ge off, 3)) (ht : (pc : Int) + off = (tgt : Int)) (h : 0 ≤ x) (kk : Go Γ k n ws tgt lv st) : Go Γ k n ws pc lv (.int x :: st) := by
  obtain ⟨p, l, e, R, s, m, args, below, meth, c, nL, d, A, Q⟩ := Γ
  obtain ⟨hx, hb, hml, hown, hts, hlk, hK, hA, hZ, ⟨hfr, hce, hsl⟩, hlo⟩ := C
  intro H locs ls hP hD hS hl
  exact lv_if_ge hx hb hd ht (fun _ => kk H locs ls hP hD hS hl) (fun c9 => absurd h c9)
theorem go_if_geF (C : Cx Γ cc own fr lo) {x : Int32} {off : Int} {tgt : Nat} (hd : decode cc pc = .ok (.ifCond .ge off, 3)) (ht : (pc : Int) + off = (tgt : Int)) (h : ¬ (0 ≤ x)) (kk : Go Γ k n ws (pc + 3) lv st) : Go Γ k n ws pc lv (.int x :: st) := by
  obtain ⟨p, l, e, R, s, m, args, below, meth, c, nL, d, A, Q⟩ := Γ
  obtain ⟨hx, hb, hml, hown, hts, hlk, hK, hA, hZ, ⟨hfr, hce, hsl⟩, hlo⟩ := C
  intro H locs ls hP hD hS hl
  exact lv_if_ge hx hb hd ht (fun c9 => absurd c9 h) (fun _ => kk H locs ls hP hD hS hl)
theorem go_if_gtT (C : Cx Γ cc own fr lo) {x : Int32} {off : Int} {tgt : Nat} (hd : decode cc pc = .ok (.ifCond .gt off, 3)) (ht : (pc : Int) + off = (tgt : Int)) (h : 0 < x) (kk : Go Γ k n ws tgt lv st) : Go Γ k n ws pc lv (.int x :: st) := by
  obtain ⟨p, l, e, R, s, m, args, below, meth, c, nL, d, A, Q⟩ := Γ
  obtain ⟨hx, hb, hml, hown, hts, hlk, hK, hA, hZ, ⟨hfr, hce, hsl⟩, hlo⟩ := C
  intro H locs ls hP hD hS hl
  exact lv_if_gt hx hb hd ht (fun _ => kk H locs ls hP hD hS hl) (fun c9 => absurd h c9)
theorem go_if_gtF (C : Cx Γ cc own fr lo) {x : Int32} {off : Int} {tgt : Nat} (hd : decode cc pc = .ok (.ifCond .gt off, 3)) (ht : (pc : Int) + off = (tgt : Int)) (h : ¬ (0 < x)) (kk : Go Γ k n ws (pc + 3) lv st) : Go Γ k n ws pc lv (.int x :: st) := by
  obtain ⟨p, l, e, R, s, m, args, below, meth, c, nL, d, A, Q⟩ := Γ
  obtain ⟨hx, hb, hml, hown, hts, hlk, hK, hA, hZ, ⟨hfr, hce, hsl⟩, hlo⟩ := C
  intro H locs ls hP hD hS hl
  exact lv_if_gt hx hb hd ht (fun c9 => absurd c9 h) (fun _ => kk H locs ls hP hD hS hl)
theorem go_if_leT (C : Cx Γ cc own fr lo) {x : Int32} {off : Int} {tgt : Nat} (hd : decode cc pc = .ok (.ifCond .le off, 3)) (ht : (pc : Int) + off = (tgt : Int)) (h : x ≤ 0) (kk : Go Γ k n ws tgt lv st) : Go Γ k n ws pc lv (.int x :: st) := by
  obtain ⟨p, l, e, R, s, m, args, below, meth, c, nL, d, A, Q⟩ := Γ
  obtain ⟨hx, hb, hml, hown, hts, hlk, hK, hA, hZ, ⟨hfr, hce, hsl⟩, hlo⟩ := C
  intro H locs ls hP hD hS hl
  exact lv_if_le hx hb hd ht (fun _ => kk H locs ls hP hD hS hl) (fun c9 => absurd h c9)
theorem go_if_leF (C : Cx Γ cc own fr lo) {x : Int32} {off : Int} {tgt : Nat} (hd : decode cc pc = .ok (.ifCond .le off, 3)) (ht : (pc : Int) + off = (tgt : Int)) (h : ¬ (x ≤ 0)) (kk : Go Γ k n ws (pc + 3) lv st) : Go Γ k n ws pc lv (.int x :: st) := by
  obtain ⟨p, l, e, R, s, m, args, below, meth, c, nL, d, A, Q⟩ := Γ
  obtain ⟨hx, hb, hml, hown, hts, hlk, hK, hA, hZ, ⟨hfr, hce, hsl⟩, hlo⟩ := C
  intro H locs ls hP hD hS hl
  exact lv_if_le hx hb hd ht (fun c9 => absurd c9 h) (fun _ => kk H locs ls hP hD hS hl)
theorem go_goto (C : Cx Γ cc own fr lo) {off : Int} {tgt : Nat} (hd : decode cc pc = .ok (.goto off, 3)) (ht : (pc : Int) + off = (tgt : Int)) (kk : Go Γ k n ws tgt lv st) : Go Γ k n ws pc lv st := by
  obtain ⟨p, l, e, R, s, m, args, below, meth, c, nL, d, A, Q⟩ := Γ
  obtain ⟨hx, hb, hml, hown, hts, hlk, hK, hA, hZ, ⟨hfr, hce, hsl⟩, hlo⟩ := C
  intro H locs ls hP hD hS hl
  exact lv_goto hx hb hd ht (kk H locs ls hP hD hS hl)
theorem go_ifnonnull (C : Cx Γ cc own fr lo) {x : Nat} {off : Int} {tgt : Nat} (hd : decode cc pc = .ok (.ifnonnull off, 3)) (ht : (pc : Int) + off = (tgt : Int)) (kk : Go Γ k n ws tgt lv st) : Go Γ k n ws pc lv (.ref x :: st) := by
  obtain ⟨p, l, e, R, s, m, args, below, meth, c, nL, d, A, Q⟩ := Γ
  obtain ⟨hx, hb, hml, hown, hts, hlk, hK, hA, hZ, ⟨hfr, hce, hsl⟩, hlo⟩ := C
  intro H locs ls hP hD hS hl
  exact lv_ifnonnull hx hb hd ht (kk H locs ls hP hD hS hl)
theorem go_ifnull (C : Cx Γ cc own fr lo) {x : Nat} {off : Int} (hd : decode cc pc = .ok (.ifnull off, 3)) (kk : Go Γ k n ws (pc + 3) lv st) : Go Γ k n ws pc lv (.ref x :: st) := by
  obtain ⟨p, l, e, R, s, m, args, below, meth, c, nL, d, A, Q⟩ := Γ
  obtain ⟨hx, hb, hml, hown, hts, hlk, hK, hA, hZ, ⟨hfr, hce, hsl⟩, hlo⟩ := C
  intro H locs ls hP hD hS hl
  exact lv_ifnull hx hb hd (kk H locs ls hP hD hS hl)
theorem go_ifnonnullN (C : Cx Γ cc own fr lo) {off : Int} (hd : decode cc pc = .ok (.ifnonnull off, 3)) (kk : Go Γ k n ws (pc + 3) lv st) : Go Γ k n ws pc lv (.null :: st) := by
  obtain ⟨p, l, e, R, s, m, args, below, meth, c, nL, d, A, Q⟩ := Γ
  obtain ⟨hx, hb, hml, hown, hts, hlk, hK, hA, hZ, ⟨hfr, hce, hsl⟩, hlo⟩ := C
  intro H locs ls hP hD hS hl
  exact lv_ifnonnullN hx hb hd (kk H locs ls hP hD hS hl)
theorem go_ifnullN (C : Cx Γ cc own fr lo) {off : Int} {tgt : Nat} (hd : decode cc pc = .ok (.ifnull off, 3)) (ht : (pc : Int) + off = (tgt : Int)) (kk : Go Γ k n ws tgt lv st) : Go Γ k n ws pc lv (.null :: st) := by
  obtain ⟨p, l, e, R, s, m, args, below, meth, c, nL, d, A, Q⟩ := Γ
  obtain ⟨hx, hb, hml, hown, hts, hlk, hK, hA, hZ, ⟨hfr, hce, hsl⟩, hlo⟩ := C
  intro H locs ls hP hD hS hl
  exact lv_ifnullN hx hb hd ht (kk H locs ls hP hD hS hl)
theorem go_sub {lv' : List (Nat × Value)} (ks : List Nat) (hq : lv_pick lv ks = lv') (kk : Go Γ k n ws pc lv' st) : Go Γ k n ws pc lv st := by
  obtain ⟨p, l, e, R, s, m, args, below, meth, c, nL, d, A, Q⟩ := Γ
  intro H locs ls hP hD hS hl
  exact kk H locs ls hP hD hS (lv_sub hl ks hq)
theorem go_widen {k1 n1 : Nat} (h1 : k ≤ k1) (h2 : n ≤ n1) (kk : Go Γ k1 n1 ws pc lv st) : Go Γ k n ws pc lv st := by
  obtain ⟨p, l, e, R, s, m, args, below, meth, c, nL, d, A, Q⟩ := Γ
  intro H locs ls hP hD hS hl
  exact W.widen h1 h2 (kk H locs ls hP hD hS hl)
end GO

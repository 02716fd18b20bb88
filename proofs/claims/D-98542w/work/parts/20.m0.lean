/-! the Model's block: kinds of its fields, rows of its fields; printed by gen/model.py -/
set_option maxRecDepth 100000
def FK3 : FKs := [(0, 0), (1, 9), (1, 6), (1, 6), (1, 6), (1, 8), (1, 8), (1, 8), (1, 8), (1, 8), (1, 8), (1, 12), (1, 12), (1, 12), (1, 6), (1, 6), (1, 6), (1, 6), (1, 6), (1, 6), (1, 6), (1, 6), (1, 8), (1, 8), (1, 8), (1, 8), (1, 12), (1, 12), (1, 12), (1, 6), (1, 6), (0, 0), (0, 0), (0, 0), (0, 0), (0, 0), (0, 0), (0, 0), (0, 0), (0, 0), (0, 0), (2, 400), (1, 1800), (1, 1800), (1, 6), (1, 72), (1, 72), (1, 72), (1, 402), (4, 12), (4, 300), (0, 0), (0, 0), (1, 1540), (1, 1), (0, 0), (0, 0), (0, 0), (1, 9), (1, 8), (1, 7), (0, 0), (0, 0), (1, 9), (1, 8), (1, 8), (0, 0), (1, 8), (3, 256), (1, 9500), (3, 4), (0, 0), (0, 0)]
theorem x3c : CL[3]? = some (RX3, TX3, 73) := rfl
theorem x3pn : plainName RX3 = true := by decide +kernel
theorem x3len : FK3.length = 73 := rfl
section X3R
variable {Γ : Gam} {cc : ByteArray} {fr : Nat × Nat × Nat} {lo k n pc : Nat} {a : Nat → Nat} {s : Bl} {lv : List (Nat × Value)} {st : List Value}
theorem x3fk_0 : FK3[0]? = some (0, 0) := rfl
theorem x3fk_1 : FK3[1]? = some (1, 9) := rfl
theorem x3fl_1 : Cond.fieldLink RX3 9 (TX3 1).1 (TX3 1).2.1 (TX3 1).2.2.1 ∈ lw_all := q1268
theorem x3gr_1 (C : Cx Γ cc RX3 fr lo) (hd : decode cc pc = .ok (.getfield 9, 3)) (kk : Go Γ k n (bW Γ.d 3 FK3 a s) (pc + 3) lv (.ref (a (1 + 1)) :: st)) : Go Γ k n (bW Γ.d 3 FK3 a s) pc lv (.ref (a 0) :: st) := go_getfield C bW_O x3c in_X3 1 (by decide) x3fl_1 (bW_ref x3fk_1) hd kk
theorem x3aA_1 {d : gD} : hasA (bW d 3 FK3 a s) (a (1 + 1)) (d.2.1 0, 9, .inl (s.2.1 1)) := bW_A x3fk_1 (by decide)
theorem x3pA_1 {d : gD} {i : Nat} {v : Int32} : putA (bW d 3 FK3 a s) (a (1 + 1)) (d.2.1 0, 9, .inl (s.2.1 1)) (d.2.1 0, 9, .inl (upd (s.2.1 1) i v)) (bW d 3 FK3 a (bA s 1 i v)) := bW_putA x3fk_1 (by decide)
theorem x3fk_2 : FK3[2]? = some (1, 6) := rfl
theorem x3fl_2 : Cond.fieldLink RX3 13 (TX3 2).1 (TX3 2).2.1 (TX3 2).2.2.1 ∈ lw_all := q1269
theorem x3gr_2 (C : Cx Γ cc RX3 fr lo) (hd : decode cc pc = .ok (.getfield 13, 3)) (kk : Go Γ k n (bW Γ.d 3 FK3 a s) (pc + 3) lv (.ref (a (2 + 1)) :: st)) : Go Γ k n (bW Γ.d 3 FK3 a s) pc lv (.ref (a 0) :: st) := go_getfield C bW_O x3c in_X3 2 (by decide) x3fl_2 (bW_ref x3fk_2) hd kk
theorem x3aA_2 {d : gD} : hasA (bW d 3 FK3 a s) (a (2 + 1)) (d.2.1 0, 6, .inl (s.2.1 2)) := bW_A x3fk_2 (by decide)
theorem x3pA_2 {d : gD} {i : Nat} {v : Int32} : putA (bW d 3 FK3 a s) (a (2 + 1)) (d.2.1 0, 6, .inl (s.2.1 2)) (d.2.1 0, 6, .inl (upd (s.2.1 2) i v)) (bW d 3 FK3 a (bA s 2 i v)) := bW_putA x3fk_2 (by decide)
theorem x3fk_3 : FK3[3]? = some (1, 6) := rfl
theorem x3fl_3 : Cond.fieldLink RX3 16 (TX3 3).1 (TX3 3).2.1 (TX3 3).2.2.1 ∈ lw_all := q1270
theorem x3gr_3 (C : Cx Γ cc RX3 fr lo) (hd : decode cc pc = .ok (.getfield 16, 3)) (kk : Go Γ k n (bW Γ.d 3 FK3 a s) (pc + 3) lv (.ref (a (3 + 1)) :: st)) : Go Γ k n (bW Γ.d 3 FK3 a s) pc lv (.ref (a 0) :: st) := go_getfield C bW_O x3c in_X3 3 (by decide) x3fl_3 (bW_ref x3fk_3) hd kk
theorem x3aA_3 {d : gD} : hasA (bW d 3 FK3 a s) (a (3 + 1)) (d.2.1 0, 6, .inl (s.2.1 3)) := bW_A x3fk_3 (by decide)
theorem x3pA_3 {d : gD} {i : Nat} {v : Int32} : putA (bW d 3 FK3 a s) (a (3 + 1)) (d.2.1 0, 6, .inl (s.2.1 3)) (d.2.1 0, 6, .inl (upd (s.2.1 3) i v)) (bW d 3 FK3 a (bA s 3 i v)) := bW_putA x3fk_3 (by decide)
theorem x3fk_4 : FK3[4]? = some (1, 6) := rfl
theorem x3fl_4 : Cond.fieldLink RX3 19 (TX3 4).1 (TX3 4).2.1 (TX3 4).2.2.1 ∈ lw_all := q1271
theorem x3gr_4 (C : Cx Γ cc RX3 fr lo) (hd : decode cc pc = .ok (.getfield 19, 3)) (kk : Go Γ k n (bW Γ.d 3 FK3 a s) (pc + 3) lv (.ref (a (4 + 1)) :: st)) : Go Γ k n (bW Γ.d 3 FK3 a s) pc lv (.ref (a 0) :: st) := go_getfield C bW_O x3c in_X3 4 (by decide) x3fl_4 (bW_ref x3fk_4) hd kk
theorem x3aA_4 {d : gD} : hasA (bW d 3 FK3 a s) (a (4 + 1)) (d.2.1 0, 6, .inl (s.2.1 4)) := bW_A x3fk_4 (by decide)
theorem x3pA_4 {d : gD} {i : Nat} {v : Int32} : putA (bW d 3 FK3 a s) (a (4 + 1)) (d.2.1 0, 6, .inl (s.2.1 4)) (d.2.1 0, 6, .inl (upd (s.2.1 4) i v)) (bW d 3 FK3 a (bA s 4 i v)) := bW_putA x3fk_4 (by decide)
theorem x3fk_5 : FK3[5]? = some (1, 8) := rfl
theorem x3fl_5 : Cond.fieldLink RX3 22 (TX3 5).1 (TX3 5).2.1 (TX3 5).2.2.1 ∈ lw_all := q1272
theorem x3gr_5 (C : Cx Γ cc RX3 fr lo) (hd : decode cc pc = .ok (.getfield 22, 3)) (kk : Go Γ k n (bW Γ.d 3 FK3 a s) (pc + 3) lv (.ref (a (5 + 1)) :: st)) : Go Γ k n (bW Γ.d 3 FK3 a s) pc lv (.ref (a 0) :: st) := go_getfield C bW_O x3c in_X3 5 (by decide) x3fl_5 (bW_ref x3fk_5) hd kk
theorem x3aA_5 {d : gD} : hasA (bW d 3 FK3 a s) (a (5 + 1)) (d.2.1 0, 8, .inl (s.2.1 5)) := bW_A x3fk_5 (by decide)
theorem x3pA_5 {d : gD} {i : Nat} {v : Int32} : putA (bW d 3 FK3 a s) (a (5 + 1)) (d.2.1 0, 8, .inl (s.2.1 5)) (d.2.1 0, 8, .inl (upd (s.2.1 5) i v)) (bW d 3 FK3 a (bA s 5 i v)) := bW_putA x3fk_5 (by decide)
theorem x3fk_6 : FK3[6]? = some (1, 8) := rfl
theorem x3fl_6 : Cond.fieldLink RX3 25 (TX3 6).1 (TX3 6).2.1 (TX3 6).2.2.1 ∈ lw_all := q1273
theorem x3gr_6 (C : Cx Γ cc RX3 fr lo) (hd : decode cc pc = .ok (.getfield 25, 3)) (kk : Go Γ k n (bW Γ.d 3 FK3 a s) (pc + 3) lv (.ref (a (6 + 1)) :: st)) : Go Γ k n (bW Γ.d 3 FK3 a s) pc lv (.ref (a 0) :: st) := go_getfield C bW_O x3c in_X3 6 (by decide) x3fl_6 (bW_ref x3fk_6) hd kk
theorem x3aA_6 {d : gD} : hasA (bW d 3 FK3 a s) (a (6 + 1)) (d.2.1 0, 8, .inl (s.2.1 6)) := bW_A x3fk_6 (by decide)
theorem x3pA_6 {d : gD} {i : Nat} {v : Int32} : putA (bW d 3 FK3 a s) (a (6 + 1)) (d.2.1 0, 8, .inl (s.2.1 6)) (d.2.1 0, 8, .inl (upd (s.2.1 6) i v)) (bW d 3 FK3 a (bA s 6 i v)) := bW_putA x3fk_6 (by decide)
theorem x3fk_7 : FK3[7]? = some (1, 8) := rfl
theorem x3fl_7 : Cond.fieldLink RX3 28 (TX3 7).1 (TX3 7).2.1 (TX3 7).2.2.1 ∈ lw_all := q1274
theorem x3gr_7 (C : Cx Γ cc RX3 fr lo) (hd : decode cc pc = .ok (.getfield 28, 3)) (kk : Go Γ k n (bW Γ.d 3 FK3 a s) (pc + 3) lv (.ref (a (7 + 1)) :: st)) : Go Γ k n (bW Γ.d 3 FK3 a s) pc lv (.ref (a 0) :: st) := go_getfield C bW_O x3c in_X3 7 (by decide) x3fl_7 (bW_ref x3fk_7) hd kk
theorem x3aA_7 {d : gD} : hasA (bW d 3 FK3 a s) (a (7 + 1)) (d.2.1 0, 8, .inl (s.2.1 7)) := bW_A x3fk_7 (by decide)
theorem x3pA_7 {d : gD} {i : Nat} {v : Int32} : putA (bW d 3 FK3 a s) (a (7 + 1)) (d.2.1 0, 8, .inl (s.2.1 7)) (d.2.1 0, 8, .inl (upd (s.2.1 7) i v)) (bW d 3 FK3 a (bA s 7 i v)) := bW_putA x3fk_7 (by decide)
theorem x3fk_8 : FK3[8]? = some (1, 8) := rfl
theorem x3fl_8 : Cond.fieldLink RX3 31 (TX3 8).1 (TX3 8).2.1 (TX3 8).2.2.1 ∈ lw_all := q1275
theorem x3gr_8 (C : Cx Γ cc RX3 fr lo) (hd : decode cc pc = .ok (.getfield 31, 3)) (kk : Go Γ k n (bW Γ.d 3 FK3 a s) (pc + 3) lv (.ref (a (8 + 1)) :: st)) : Go Γ k n (bW Γ.d 3 FK3 a s) pc lv (.ref (a 0) :: st) := go_getfield C bW_O x3c in_X3 8 (by decide) x3fl_8 (bW_ref x3fk_8) hd kk
theorem x3aA_8 {d : gD} : hasA (bW d 3 FK3 a s) (a (8 + 1)) (d.2.1 0, 8, .inl (s.2.1 8)) := bW_A x3fk_8 (by decide)
theorem x3pA_8 {d : gD} {i : Nat} {v : Int32} : putA (bW d 3 FK3 a s) (a (8 + 1)) (d.2.1 0, 8, .inl (s.2.1 8)) (d.2.1 0, 8, .inl (upd (s.2.1 8) i v)) (bW d 3 FK3 a (bA s 8 i v)) := bW_putA x3fk_8 (by decide)
theorem x3fk_9 : FK3[9]? = some (1, 8) := rfl
theorem x3fl_9 : Cond.fieldLink RX3 34 (TX3 9).1 (TX3 9).2.1 (TX3 9).2.2.1 ∈ lw_all := q1276
theorem x3gr_9 (C : Cx Γ cc RX3 fr lo) (hd : decode cc pc = .ok (.getfield 34, 3)) (kk : Go Γ k n (bW Γ.d 3 FK3 a s) (pc + 3) lv (.ref (a (9 + 1)) :: st)) : Go Γ k n (bW Γ.d 3 FK3 a s) pc lv (.ref (a 0) :: st) := go_getfield C bW_O x3c in_X3 9 (by decide) x3fl_9 (bW_ref x3fk_9) hd kk
theorem x3aA_9 {d : gD} : hasA (bW d 3 FK3 a s) (a (9 + 1)) (d.2.1 0, 8, .inl (s.2.1 9)) := bW_A x3fk_9 (by decide)
theorem x3pA_9 {d : gD} {i : Nat} {v : Int32} : putA (bW d 3 FK3 a s) (a (9 + 1)) (d.2.1 0, 8, .inl (s.2.1 9)) (d.2.1 0, 8, .inl (upd (s.2.1 9) i v)) (bW d 3 FK3 a (bA s 9 i v)) := bW_putA x3fk_9 (by decide)
theorem x3fk_10 : FK3[10]? = some (1, 8) := rfl
theorem x3fl_10 : Cond.fieldLink RX3 37 (TX3 10).1 (TX3 10).2.1 (TX3 10).2.2.1 ∈ lw_all := q1277
theorem x3gr_10 (C : Cx Γ cc RX3 fr lo) (hd : decode cc pc = .ok (.getfield 37, 3)) (kk : Go Γ k n (bW Γ.d 3 FK3 a s) (pc + 3) lv (.ref (a (10 + 1)) :: st)) : Go Γ k n (bW Γ.d 3 FK3 a s) pc lv (.ref (a 0) :: st) := go_getfield C bW_O x3c in_X3 10 (by decide) x3fl_10 (bW_ref x3fk_10) hd kk
theorem x3aA_10 {d : gD} : hasA (bW d 3 FK3 a s) (a (10 + 1)) (d.2.1 0, 8, .inl (s.2.1 10)) := bW_A x3fk_10 (by decide)
theorem x3pA_10 {d : gD} {i : Nat} {v : Int32} : putA (bW d 3 FK3 a s) (a (10 + 1)) (d.2.1 0, 8, .inl (s.2.1 10)) (d.2.1 0, 8, .inl (upd (s.2.1 10) i v)) (bW d 3 FK3 a (bA s 10 i v)) := bW_putA x3fk_10 (by decide)
theorem x3fk_11 : FK3[11]? = some (1, 12) := rfl
theorem x3fl_11 : Cond.fieldLink RX3 40 (TX3 11).1 (TX3 11).2.1 (TX3 11).2.2.1 ∈ lw_all := q1278
theorem x3gr_11 (C : Cx Γ cc RX3 fr lo) (hd : decode cc pc = .ok (.getfield 40, 3)) (kk : Go Γ k n (bW Γ.d 3 FK3 a s) (pc + 3) lv (.ref (a (11 + 1)) :: st)) : Go Γ k n (bW Γ.d 3 FK3 a s) pc lv (.ref (a 0) :: st) := go_getfield C bW_O x3c in_X3 11 (by decide) x3fl_11 (bW_ref x3fk_11) hd kk
theorem x3aA_11 {d : gD} : hasA (bW d 3 FK3 a s) (a (11 + 1)) (d.2.1 0, 12, .inl (s.2.1 11)) := bW_A x3fk_11 (by decide)
theorem x3pA_11 {d : gD} {i : Nat} {v : Int32} : putA (bW d 3 FK3 a s) (a (11 + 1)) (d.2.1 0, 12, .inl (s.2.1 11)) (d.2.1 0, 12, .inl (upd (s.2.1 11) i v)) (bW d 3 FK3 a (bA s 11 i v)) := bW_putA x3fk_11 (by decide)
theorem x3fk_12 : FK3[12]? = some (1, 12) := rfl
theorem x3fl_12 : Cond.fieldLink RX3 43 (TX3 12).1 (TX3 12).2.1 (TX3 12).2.2.1 ∈ lw_all := q1279
theorem x3gr_12 (C : Cx Γ cc RX3 fr lo) (hd : decode cc pc = .ok (.getfield 43, 3)) (kk : Go Γ k n (bW Γ.d 3 FK3 a s) (pc + 3) lv (.ref (a (12 + 1)) :: st)) : Go Γ k n (bW Γ.d 3 FK3 a s) pc lv (.ref (a 0) :: st) := go_getfield C bW_O x3c in_X3 12 (by decide) x3fl_12 (bW_ref x3fk_12) hd kk
theorem x3aA_12 {d : gD} : hasA (bW d 3 FK3 a s) (a (12 + 1)) (d.2.1 0, 12, .inl (s.2.1 12)) := bW_A x3fk_12 (by decide)
theorem x3pA_12 {d : gD} {i : Nat} {v : Int32} : putA (bW d 3 FK3 a s) (a (12 + 1)) (d.2.1 0, 12, .inl (s.2.1 12)) (d.2.1 0, 12, .inl (upd (s.2.1 12) i v)) (bW d 3 FK3 a (bA s 12 i v)) := bW_putA x3fk_12 (by decide)
theorem x3fk_13 : FK3[13]? = some (1, 12) := rfl
theorem x3fl_13 : Cond.fieldLink RX3 46 (TX3 13).1 (TX3 13).2.1 (TX3 13).2.2.1 ∈ lw_all := q1280
theorem x3gr_13 (C : Cx Γ cc RX3 fr lo) (hd : decode cc pc = .ok (.getfield 46, 3)) (kk : Go Γ k n (bW Γ.d 3 FK3 a s) (pc + 3) lv (.ref (a (13 + 1)) :: st)) : Go Γ k n (bW Γ.d 3 FK3 a s) pc lv (.ref (a 0) :: st) := go_getfield C bW_O x3c in_X3 13 (by decide) x3fl_13 (bW_ref x3fk_13) hd kk
theorem x3aA_13 {d : gD} : hasA (bW d 3 FK3 a s) (a (13 + 1)) (d.2.1 0, 12, .inl (s.2.1 13)) := bW_A x3fk_13 (by decide)
theorem x3pA_13 {d : gD} {i : Nat} {v : Int32} : putA (bW d 3 FK3 a s) (a (13 + 1)) (d.2.1 0, 12, .inl (s.2.1 13)) (d.2.1 0, 12, .inl (upd (s.2.1 13) i v)) (bW d 3 FK3 a (bA s 13 i v)) := bW_putA x3fk_13 (by decide)
theorem x3fk_14 : FK3[14]? = some (1, 6) := rfl
theorem x3fl_14 : Cond.fieldLink RX3 49 (TX3 14).1 (TX3 14).2.1 (TX3 14).2.2.1 ∈ lw_all := q1281
theorem x3gr_14 (C : Cx Γ cc RX3 fr lo) (hd : decode cc pc = .ok (.getfield 49, 3)) (kk : Go Γ k n (bW Γ.d 3 FK3 a s) (pc + 3) lv (.ref (a (14 + 1)) :: st)) : Go Γ k n (bW Γ.d 3 FK3 a s) pc lv (.ref (a 0) :: st) := go_getfield C bW_O x3c in_X3 14 (by decide) x3fl_14 (bW_ref x3fk_14) hd kk
theorem x3aA_14 {d : gD} : hasA (bW d 3 FK3 a s) (a (14 + 1)) (d.2.1 0, 6, .inl (s.2.1 14)) := bW_A x3fk_14 (by decide)
theorem x3pA_14 {d : gD} {i : Nat} {v : Int32} : putA (bW d 3 FK3 a s) (a (14 + 1)) (d.2.1 0, 6, .inl (s.2.1 14)) (d.2.1 0, 6, .inl (upd (s.2.1 14) i v)) (bW d 3 FK3 a (bA s 14 i v)) := bW_putA x3fk_14 (by decide)
theorem x3fk_15 : FK3[15]? = some (1, 6) := rfl
theorem x3fl_15 : Cond.fieldLink RX3 52 (TX3 15).1 (TX3 15).2.1 (TX3 15).2.2.1 ∈ lw_all := q1282
theorem x3gr_15 (C : Cx Γ cc RX3 fr lo) (hd : decode cc pc = .ok (.getfield 52, 3)) (kk : Go Γ k n (bW Γ.d 3 FK3 a s) (pc + 3) lv (.ref (a (15 + 1)) :: st)) : Go Γ k n (bW Γ.d 3 FK3 a s) pc lv (.ref (a 0) :: st) := go_getfield C bW_O x3c in_X3 15 (by decide) x3fl_15 (bW_ref x3fk_15) hd kk
theorem x3aA_15 {d : gD} : hasA (bW d 3 FK3 a s) (a (15 + 1)) (d.2.1 0, 6, .inl (s.2.1 15)) := bW_A x3fk_15 (by decide)
theorem x3pA_15 {d : gD} {i : Nat} {v : Int32} : putA (bW d 3 FK3 a s) (a (15 + 1)) (d.2.1 0, 6, .inl (s.2.1 15)) (d.2.1 0, 6, .inl (upd (s.2.1 15) i v)) (bW d 3 FK3 a (bA s 15 i v)) := bW_putA x3fk_15 (by decide)
theorem x3fk_16 : FK3[16]? = some (1, 6) := rfl
theorem x3fl_16 : Cond.fieldLink RX3 55 (TX3 16).1 (TX3 16).2.1 (TX3 16).2.2.1 ∈ lw_all := q1283
theorem x3gr_16 (C : Cx Γ cc RX3 fr lo) (hd : decode cc pc = .ok (.getfield 55, 3)) (kk : Go Γ k n (bW Γ.d 3 FK3 a s) (pc + 3) lv (.ref (a (16 + 1)) :: st)) : Go Γ k n (bW Γ.d 3 FK3 a s) pc lv (.ref (a 0) :: st) := go_getfield C bW_O x3c in_X3 16 (by decide) x3fl_16 (bW_ref x3fk_16) hd kk
theorem x3aA_16 {d : gD} : hasA (bW d 3 FK3 a s) (a (16 + 1)) (d.2.1 0, 6, .inl (s.2.1 16)) := bW_A x3fk_16 (by decide)
theorem x3pA_16 {d : gD} {i : Nat} {v : Int32} : putA (bW d 3 FK3 a s) (a (16 + 1)) (d.2.1 0, 6, .inl (s.2.1 16)) (d.2.1 0, 6, .inl (upd (s.2.1 16) i v)) (bW d 3 FK3 a (bA s 16 i v)) := bW_putA x3fk_16 (by decide)
theorem x3fk_17 : FK3[17]? = some (1, 6) := rfl
theorem x3fl_17 : Cond.fieldLink RX3 58 (TX3 17).1 (TX3 17).2.1 (TX3 17).2.2.1 ∈ lw_all := q1284
theorem x3gr_17 (C : Cx Γ cc RX3 fr lo) (hd : decode cc pc = .ok (.getfield 58, 3)) (kk : Go Γ k n (bW Γ.d 3 FK3 a s) (pc + 3) lv (.ref (a (17 + 1)) :: st)) : Go Γ k n (bW Γ.d 3 FK3 a s) pc lv (.ref (a 0) :: st) := go_getfield C bW_O x3c in_X3 17 (by decide) x3fl_17 (bW_ref x3fk_17) hd kk
theorem x3aA_17 {d : gD} : hasA (bW d 3 FK3 a s) (a (17 + 1)) (d.2.1 0, 6, .inl (s.2.1 17)) := bW_A x3fk_17 (by decide)
theorem x3pA_17 {d : gD} {i : Nat} {v : Int32} : putA (bW d 3 FK3 a s) (a (17 + 1)) (d.2.1 0, 6, .inl (s.2.1 17)) (d.2.1 0, 6, .inl (upd (s.2.1 17) i v)) (bW d 3 FK3 a (bA s 17 i v)) := bW_putA x3fk_17 (by decide)
theorem x3fk_18 : FK3[18]? = some (1, 6) := rfl
theorem x3fl_18 : Cond.fieldLink RX3 61 (TX3 18).1 (TX3 18).2.1 (TX3 18).2.2.1 ∈ lw_all := q1285
theorem x3gr_18 (C : Cx Γ cc RX3 fr lo) (hd : decode cc pc = .ok (.getfield 61, 3)) (kk : Go Γ k n (bW Γ.d 3 FK3 a s) (pc + 3) lv (.ref (a (18 + 1)) :: st)) : Go Γ k n (bW Γ.d 3 FK3 a s) pc lv (.ref (a 0) :: st) := go_getfield C bW_O x3c in_X3 18 (by decide) x3fl_18 (bW_ref x3fk_18) hd kk
theorem x3aA_18 {d : gD} : hasA (bW d 3 FK3 a s) (a (18 + 1)) (d.2.1 0, 6, .inl (s.2.1 18)) := bW_A x3fk_18 (by decide)
theorem x3pA_18 {d : gD} {i : Nat} {v : Int32} : putA (bW d 3 FK3 a s) (a (18 + 1)) (d.2.1 0, 6, .inl (s.2.1 18)) (d.2.1 0, 6, .inl (upd (s.2.1 18) i v)) (bW d 3 FK3 a (bA s 18 i v)) := bW_putA x3fk_18 (by decide)
theorem x3fk_19 : FK3[19]? = some (1, 6) := rfl
theorem x3fl_19 : Cond.fieldLink RX3 64 (TX3 19).1 (TX3 19).2.1 (TX3 19).2.2.1 ∈ lw_all := q1286
theorem x3gr_19 (C : Cx Γ cc RX3 fr lo) (hd : decode cc pc = .ok (.getfield 64, 3)) (kk : Go Γ k n (bW Γ.d 3 FK3 a s) (pc + 3) lv (.ref (a (19 + 1)) :: st)) : Go Γ k n (bW Γ.d 3 FK3 a s) pc lv (.ref (a 0) :: st) := go_getfield C bW_O x3c in_X3 19 (by decide) x3fl_19 (bW_ref x3fk_19) hd kk
theorem x3aA_19 {d : gD} : hasA (bW d 3 FK3 a s) (a (19 + 1)) (d.2.1 0, 6, .inl (s.2.1 19)) := bW_A x3fk_19 (by decide)
theorem x3pA_19 {d : gD} {i : Nat} {v : Int32} : putA (bW d 3 FK3 a s) (a (19 + 1)) (d.2.1 0, 6, .inl (s.2.1 19)) (d.2.1 0, 6, .inl (upd (s.2.1 19) i v)) (bW d 3 FK3 a (bA s 19 i v)) := bW_putA x3fk_19 (by decide)
theorem x3fk_20 : FK3[20]? = some (1, 6) := rfl
theorem x3fl_20 : Cond.fieldLink RX3 67 (TX3 20).1 (TX3 20).2.1 (TX3 20).2.2.1 ∈ lw_all := q1287
theorem x3gr_20 (C : Cx Γ cc RX3 fr lo) (hd : decode cc pc = .ok (.getfield 67, 3)) (kk : Go Γ k n (bW Γ.d 3 FK3 a s) (pc + 3) lv (.ref (a (20 + 1)) :: st)) : Go Γ k n (bW Γ.d 3 FK3 a s) pc lv (.ref (a 0) :: st) := go_getfield C bW_O x3c in_X3 20 (by decide) x3fl_20 (bW_ref x3fk_20) hd kk
theorem x3aA_20 {d : gD} : hasA (bW d 3 FK3 a s) (a (20 + 1)) (d.2.1 0, 6, .inl (s.2.1 20)) := bW_A x3fk_20 (by decide)
theorem x3pA_20 {d : gD} {i : Nat} {v : Int32} : putA (bW d 3 FK3 a s) (a (20 + 1)) (d.2.1 0, 6, .inl (s.2.1 20)) (d.2.1 0, 6, .inl (upd (s.2.1 20) i v)) (bW d 3 FK3 a (bA s 20 i v)) := bW_putA x3fk_20 (by decide)
theorem x3fk_21 : FK3[21]? = some (1, 6) := rfl
theorem x3fl_21 : Cond.fieldLink RX3 70 (TX3 21).1 (TX3 21).2.1 (TX3 21).2.2.1 ∈ lw_all := q1288
theorem x3gr_21 (C : Cx Γ cc RX3 fr lo) (hd : decode cc pc = .ok (.getfield 70, 3)) (kk : Go Γ k n (bW Γ.d 3 FK3 a s) (pc + 3) lv (.ref (a (21 + 1)) :: st)) : Go Γ k n (bW Γ.d 3 FK3 a s) pc lv (.ref (a 0) :: st) := go_getfield C bW_O x3c in_X3 21 (by decide) x3fl_21 (bW_ref x3fk_21) hd kk
theorem x3aA_21 {d : gD} : hasA (bW d 3 FK3 a s) (a (21 + 1)) (d.2.1 0, 6, .inl (s.2.1 21)) := bW_A x3fk_21 (by decide)
theorem x3pA_21 {d : gD} {i : Nat} {v : Int32} : putA (bW d 3 FK3 a s) (a (21 + 1)) (d.2.1 0, 6, .inl (s.2.1 21)) (d.2.1 0, 6, .inl (upd (s.2.1 21) i v)) (bW d 3 FK3 a (bA s 21 i v)) := bW_putA x3fk_21 (by decide)
theorem x3fk_22 : FK3[22]? = some (1, 8) := rfl
theorem x3fl_22 : Cond.fieldLink RX3 73 (TX3 22).1 (TX3 22).2.1 (TX3 22).2.2.1 ∈ lw_all := q1289
theorem x3gr_22 (C : Cx Γ cc RX3 fr lo) (hd : decode cc pc = .ok (.getfield 73, 3)) (kk : Go Γ k n (bW Γ.d 3 FK3 a s) (pc + 3) lv (.ref (a (22 + 1)) :: st)) : Go Γ k n (bW Γ.d 3 FK3 a s) pc lv (.ref (a 0) :: st) := go_getfield C bW_O x3c in_X3 22 (by decide) x3fl_22 (bW_ref x3fk_22) hd kk
theorem x3aA_22 {d : gD} : hasA (bW d 3 FK3 a s) (a (22 + 1)) (d.2.1 0, 8, .inl (s.2.1 22)) := bW_A x3fk_22 (by decide)
theorem x3pA_22 {d : gD} {i : Nat} {v : Int32} : putA (bW d 3 FK3 a s) (a (22 + 1)) (d.2.1 0, 8, .inl (s.2.1 22)) (d.2.1 0, 8, .inl (upd (s.2.1 22) i v)) (bW d 3 FK3 a (bA s 22 i v)) := bW_putA x3fk_22 (by decide)
theorem x3fk_23 : FK3[23]? = some (1, 8) := rfl
theorem x3fl_23 : Cond.fieldLink RX3 76 (TX3 23).1 (TX3 23).2.1 (TX3 23).2.2.1 ∈ lw_all := q1290
theorem x3gr_23 (C : Cx Γ cc RX3 fr lo) (hd : decode cc pc = .ok (.getfield 76, 3)) (kk : Go Γ k n (bW Γ.d 3 FK3 a s) (pc + 3) lv (.ref (a (23 + 1)) :: st)) : Go Γ k n (bW Γ.d 3 FK3 a s) pc lv (.ref (a 0) :: st) := go_getfield C bW_O x3c in_X3 23 (by decide) x3fl_23 (bW_ref x3fk_23) hd kk
theorem x3aA_23 {d : gD} : hasA (bW d 3 FK3 a s) (a (23 + 1)) (d.2.1 0, 8, .inl (s.2.1 23)) := bW_A x3fk_23 (by decide)
theorem x3pA_23 {d : gD} {i : Nat} {v : Int32} : putA (bW d 3 FK3 a s) (a (23 + 1)) (d.2.1 0, 8, .inl (s.2.1 23)) (d.2.1 0, 8, .inl (upd (s.2.1 23) i v)) (bW d 3 FK3 a (bA s 23 i v)) := bW_putA x3fk_23 (by decide)
theorem x3fk_24 : FK3[24]? = some (1, 8) := rfl
theorem x3fl_24 : Cond.fieldLink RX3 79 (TX3 24).1 (TX3 24).2.1 (TX3 24).2.2.1 ∈ lw_all := q1291
theorem x3gr_24 (C : Cx Γ cc RX3 fr lo) (hd : decode cc pc = .ok (.getfield 79, 3)) (kk : Go Γ k n (bW Γ.d 3 FK3 a s) (pc + 3) lv (.ref (a (24 + 1)) :: st)) : Go Γ k n (bW Γ.d 3 FK3 a s) pc lv (.ref (a 0) :: st) := go_getfield C bW_O x3c in_X3 24 (by decide) x3fl_24 (bW_ref x3fk_24) hd kk
theorem x3aA_24 {d : gD} : hasA (bW d 3 FK3 a s) (a (24 + 1)) (d.2.1 0, 8, .inl (s.2.1 24)) := bW_A x3fk_24 (by decide)
theorem x3pA_24 {d : gD} {i : Nat} {v : Int32} : putA (bW d 3 FK3 a s) (a (24 + 1)) (d.2.1 0, 8, .inl (s.2.1 24)) (d.2.1 0, 8, .inl (upd (s.2.1 24) i v)) (bW d 3 FK3 a (bA s 24 i v)) := bW_putA x3fk_24 (by decide)
theorem x3fk_25 : FK3[25]? = some (1, 8) := rfl
theorem x3fl_25 : Cond.fieldLink RX3 82 (TX3 25).1 (TX3 25).2.1 (TX3 25).2.2.1 ∈ lw_all := q1292
theorem x3gr_25 (C : Cx Γ cc RX3 fr lo) (hd : decode cc pc = .ok (.getfield 82, 3)) (kk : Go Γ k n (bW Γ.d 3 FK3 a s) (pc + 3) lv (.ref (a (25 + 1)) :: st)) : Go Γ k n (bW Γ.d 3 FK3 a s) pc lv (.ref (a 0) :: st) := go_getfield C bW_O x3c in_X3 25 (by decide) x3fl_25 (bW_ref x3fk_25) hd kk
theorem x3aA_25 {d : gD} : hasA (bW d 3 FK3 a s) (a (25 + 1)) (d.2.1 0, 8, .inl (s.2.1 25)) := bW_A x3fk_25 (by decide)
theorem x3pA_25 {d : gD} {i : Nat} {v : Int32} : putA (bW d 3 FK3 a s) (a (25 + 1)) (d.2.1 0, 8, .inl (s.2.1 25)) (d.2.1 0, 8, .inl (upd (s.2.1 25) i v)) (bW d 3 FK3 a (bA s 25 i v)) := bW_putA x3fk_25 (by decide)
theorem x3fk_26 : FK3[26]? = some (1, 12) := rfl
theorem x3fl_26 : Cond.fieldLink RX3 85 (TX3 26).1 (TX3 26).2.1 (TX3 26).2.2.1 ∈ lw_all := q1293
theorem x3gr_26 (C : Cx Γ cc RX3 fr lo) (hd : decode cc pc = .ok (.getfield 85, 3)) (kk : Go Γ k n (bW Γ.d 3 FK3 a s) (pc + 3) lv (.ref (a (26 + 1)) :: st)) : Go Γ k n (bW Γ.d 3 FK3 a s) pc lv (.ref (a 0) :: st) := go_getfield C bW_O x3c in_X3 26 (by decide) x3fl_26 (bW_ref x3fk_26) hd kk
theorem x3aA_26 {d : gD} : hasA (bW d 3 FK3 a s) (a (26 + 1)) (d.2.1 0, 12, .inl (s.2.1 26)) := bW_A x3fk_26 (by decide)
theorem x3pA_26 {d : gD} {i : Nat} {v : Int32} : putA (bW d 3 FK3 a s) (a (26 + 1)) (d.2.1 0, 12, .inl (s.2.1 26)) (d.2.1 0, 12, .inl (upd (s.2.1 26) i v)) (bW d 3 FK3 a (bA s 26 i v)) := bW_putA x3fk_26 (by decide)
theorem x3fk_27 : FK3[27]? = some (1, 12) := rfl
theorem x3fl_27 : Cond.fieldLink RX3 88 (TX3 27).1 (TX3 27).2.1 (TX3 27).2.2.1 ∈ lw_all := q1294
theorem x3gr_27 (C : Cx Γ cc RX3 fr lo) (hd : decode cc pc = .ok (.getfield 88, 3)) (kk : Go Γ k n (bW Γ.d 3 FK3 a s) (pc + 3) lv (.ref (a (27 + 1)) :: st)) : Go Γ k n (bW Γ.d 3 FK3 a s) pc lv (.ref (a 0) :: st) := go_getfield C bW_O x3c in_X3 27 (by decide) x3fl_27 (bW_ref x3fk_27) hd kk
theorem x3aA_27 {d : gD} : hasA (bW d 3 FK3 a s) (a (27 + 1)) (d.2.1 0, 12, .inl (s.2.1 27)) := bW_A x3fk_27 (by decide)
theorem x3pA_27 {d : gD} {i : Nat} {v : Int32} : putA (bW d 3 FK3 a s) (a (27 + 1)) (d.2.1 0, 12, .inl (s.2.1 27)) (d.2.1 0, 12, .inl (upd (s.2.1 27) i v)) (bW d 3 FK3 a (bA s 27 i v)) := bW_putA x3fk_27 (by decide)
theorem x3fk_28 : FK3[28]? = some (1, 12) := rfl
theorem x3fl_28 : Cond.fieldLink RX3 91 (TX3 28).1 (TX3 28).2.1 (TX3 28).2.2.1 ∈ lw_all := q1295
theorem x3gr_28 (C : Cx Γ cc RX3 fr lo) (hd : decode cc pc = .ok (.getfield 91, 3)) (kk : Go Γ k n (bW Γ.d 3 FK3 a s) (pc + 3) lv (.ref (a (28 + 1)) :: st)) : Go Γ k n (bW Γ.d 3 FK3 a s) pc lv (.ref (a 0) :: st) := go_getfield C bW_O x3c in_X3 28 (by decide) x3fl_28 (bW_ref x3fk_28) hd kk
theorem x3aA_28 {d : gD} : hasA (bW d 3 FK3 a s) (a (28 + 1)) (d.2.1 0, 12, .inl (s.2.1 28)) := bW_A x3fk_28 (by decide)
theorem x3pA_28 {d : gD} {i : Nat} {v : Int32} : putA (bW d 3 FK3 a s) (a (28 + 1)) (d.2.1 0, 12, .inl (s.2.1 28)) (d.2.1 0, 12, .inl (upd (s.2.1 28) i v)) (bW d 3 FK3 a (bA s 28 i v)) := bW_putA x3fk_28 (by decide)
theorem x3fk_29 : FK3[29]? = some (1, 6) := rfl
theorem x3fl_29 : Cond.fieldLink RX3 94 (TX3 29).1 (TX3 29).2.1 (TX3 29).2.2.1 ∈ lw_all := q1296
theorem x3gr_29 (C : Cx Γ cc RX3 fr lo) (hd : decode cc pc = .ok (.getfield 94, 3)) (kk : Go Γ k n (bW Γ.d 3 FK3 a s) (pc + 3) lv (.ref (a (29 + 1)) :: st)) : Go Γ k n (bW Γ.d 3 FK3 a s) pc lv (.ref (a 0) :: st) := go_getfield C bW_O x3c in_X3 29 (by decide) x3fl_29 (bW_ref x3fk_29) hd kk
theorem x3aA_29 {d : gD} : hasA (bW d 3 FK3 a s) (a (29 + 1)) (d.2.1 0, 6, .inl (s.2.1 29)) := bW_A x3fk_29 (by decide)
theorem x3pA_29 {d : gD} {i : Nat} {v : Int32} : putA (bW d 3 FK3 a s) (a (29 + 1)) (d.2.1 0, 6, .inl (s.2.1 29)) (d.2.1 0, 6, .inl (upd (s.2.1 29) i v)) (bW d 3 FK3 a (bA s 29 i v)) := bW_putA x3fk_29 (by decide)
theorem x3fk_30 : FK3[30]? = some (1, 6) := rfl
theorem x3fl_30 : Cond.fieldLink RX3 97 (TX3 30).1 (TX3 30).2.1 (TX3 30).2.2.1 ∈ lw_all := q1297
theorem x3gr_30 (C : Cx Γ cc RX3 fr lo) (hd : decode cc pc = .ok (.getfield 97, 3)) (kk : Go Γ k n (bW Γ.d 3 FK3 a s) (pc + 3) lv (.ref (a (30 + 1)) :: st)) : Go Γ k n (bW Γ.d 3 FK3 a s) pc lv (.ref (a 0) :: st) := go_getfield C bW_O x3c in_X3 30 (by decide) x3fl_30 (bW_ref x3fk_30) hd kk
theorem x3aA_30 {d : gD} : hasA (bW d 3 FK3 a s) (a (30 + 1)) (d.2.1 0, 6, .inl (s.2.1 30)) := bW_A x3fk_30 (by decide)
theorem x3pA_30 {d : gD} {i : Nat} {v : Int32} : putA (bW d 3 FK3 a s) (a (30 + 1)) (d.2.1 0, 6, .inl (s.2.1 30)) (d.2.1 0, 6, .inl (upd (s.2.1 30) i v)) (bW d 3 FK3 a (bA s 30 i v)) := bW_putA x3fk_30 (by decide)
theorem x3fk_31 : FK3[31]? = some (0, 0) := rfl
theorem x3fl_31 : Cond.fieldLink RX3 184 (TX3 31).1 (TX3 31).2.1 (TX3 31).2.2.1 ∈ lw_all := q1298
theorem x3gi_31 (C : Cx Γ cc RX3 fr lo) (hd : decode cc pc = .ok (.getfield 184, 3)) (kk : Go Γ k n (bW Γ.d 3 FK3 a s) (pc + 3) lv (.int (s.1 31) :: st)) : Go Γ k n (bW Γ.d 3 FK3 a s) pc lv (.ref (a 0) :: st) := go_getfield C bW_O x3c in_X3 31 (by decide) x3fl_31 (bW_int x3fk_31) hd kk
theorem x3pi_31 (C : Cx Γ cc RX3 fr lo) {v : Int32} (hd : decode cc pc = .ok (.putfield 184, 3)) (kk : Go Γ k n (bW Γ.d 3 FK3 a (bI s 31 v)) (pc + 3) lv st) : Go Γ k n (bW Γ.d 3 FK3 a s) pc lv (.int v :: .ref (a 0) :: st) := go_putfield (v := .int v) (ty := .int) C 31 (bW_putI x3fk_31) x3c in_X3 tyX3 tyX3_ok nmX3 (by decide) x3fl_31 rfl rfl rfl rfl (by rw [bFs_len, x3len]; decide) hd kk
theorem x3fk_32 : FK3[32]? = some (0, 0) := rfl
theorem x3fl_32 : Cond.fieldLink RX3 215 (TX3 32).1 (TX3 32).2.1 (TX3 32).2.2.1 ∈ lw_all := q1299
theorem x3gi_32 (C : Cx Γ cc RX3 fr lo) (hd : decode cc pc = .ok (.getfield 215, 3)) (kk : Go Γ k n (bW Γ.d 3 FK3 a s) (pc + 3) lv (.int (s.1 32) :: st)) : Go Γ k n (bW Γ.d 3 FK3 a s) pc lv (.ref (a 0) :: st) := go_getfield C bW_O x3c in_X3 32 (by decide) x3fl_32 (bW_int x3fk_32) hd kk
theorem x3pi_32 (C : Cx Γ cc RX3 fr lo) {v : Int32} (hd : decode cc pc = .ok (.putfield 215, 3)) (kk : Go Γ k n (bW Γ.d 3 FK3 a (bI s 32 v)) (pc + 3) lv st) : Go Γ k n (bW Γ.d 3 FK3 a s) pc lv (.int v :: .ref (a 0) :: st) := go_putfield (v := .int v) (ty := .int) C 32 (bW_putI x3fk_32) x3c in_X3 tyX3 tyX3_ok nmX3 (by decide) x3fl_32 rfl rfl rfl rfl (by rw [bFs_len, x3len]; decide) hd kk
theorem x3fk_33 : FK3[33]? = some (0, 0) := rfl
theorem x3fl_33 : Cond.fieldLink RX3 212 (TX3 33).1 (TX3 33).2.1 (TX3 33).2.2.1 ∈ lw_all := q1300
theorem x3gi_33 (C : Cx Γ cc RX3 fr lo) (hd : decode cc pc = .ok (.getfield 212, 3)) (kk : Go Γ k n (bW Γ.d 3 FK3 a s) (pc + 3) lv (.int (s.1 33) :: st)) : Go Γ k n (bW Γ.d 3 FK3 a s) pc lv (.ref (a 0) :: st) := go_getfield C bW_O x3c in_X3 33 (by decide) x3fl_33 (bW_int x3fk_33) hd kk
theorem x3pi_33 (C : Cx Γ cc RX3 fr lo) {v : Int32} (hd : decode cc pc = .ok (.putfield 212, 3)) (kk : Go Γ k n (bW Γ.d 3 FK3 a (bI s 33 v)) (pc + 3) lv st) : Go Γ k n (bW Γ.d 3 FK3 a s) pc lv (.int v :: .ref (a 0) :: st) := go_putfield (v := .int v) (ty := .int) C 33 (bW_putI x3fk_33) x3c in_X3 tyX3 tyX3_ok nmX3 (by decide) x3fl_33 rfl rfl rfl rfl (by rw [bFs_len, x3len]; decide) hd kk
theorem x3fk_34 : FK3[34]? = some (0, 0) := rfl
theorem x3fl_34 : Cond.fieldLink RX3 242 (TX3 34).1 (TX3 34).2.1 (TX3 34).2.2.1 ∈ lw_all := q1301
theorem x3gi_34 (C : Cx Γ cc RX3 fr lo) (hd : decode cc pc = .ok (.getfield 242, 3)) (kk : Go Γ k n (bW Γ.d 3 FK3 a s) (pc + 3) lv (.int (s.1 34) :: st)) : Go Γ k n (bW Γ.d 3 FK3 a s) pc lv (.ref (a 0) :: st) := go_getfield C bW_O x3c in_X3 34 (by decide) x3fl_34 (bW_int x3fk_34) hd kk
theorem x3pi_34 (C : Cx Γ cc RX3 fr lo) {v : Int32} (hd : decode cc pc = .ok (.putfield 242, 3)) (kk : Go Γ k n (bW Γ.d 3 FK3 a (bI s 34 v)) (pc + 3) lv st) : Go Γ k n (bW Γ.d 3 FK3 a s) pc lv (.int v :: .ref (a 0) :: st) := go_putfield (v := .int v) (ty := .int) C 34 (bW_putI x3fk_34) x3c in_X3 tyX3 tyX3_ok nmX3 (by decide) x3fl_34 rfl rfl rfl rfl (by rw [bFs_len, x3len]; decide) hd kk
theorem x3fk_35 : FK3[35]? = some (0, 0) := rfl
theorem x3fl_35 : Cond.fieldLink RX3 372 (TX3 35).1 (TX3 35).2.1 (TX3 35).2.2.1 ∈ lw_all := q1302
theorem x3gi_35 (C : Cx Γ cc RX3 fr lo) (hd : decode cc pc = .ok (.getfield 372, 3)) (kk : Go Γ k n (bW Γ.d 3 FK3 a s) (pc + 3) lv (.int (s.1 35) :: st)) : Go Γ k n (bW Γ.d 3 FK3 a s) pc lv (.ref (a 0) :: st) := go_getfield C bW_O x3c in_X3 35 (by decide) x3fl_35 (bW_int x3fk_35) hd kk
theorem x3pi_35 (C : Cx Γ cc RX3 fr lo) {v : Int32} (hd : decode cc pc = .ok (.putfield 372, 3)) (kk : Go Γ k n (bW Γ.d 3 FK3 a (bI s 35 v)) (pc + 3) lv st) : Go Γ k n (bW Γ.d 3 FK3 a s) pc lv (.int v :: .ref (a 0) :: st) := go_putfield (v := .int v) (ty := .int) C 35 (bW_putI x3fk_35) x3c in_X3 tyX3 tyX3_ok nmX3 (by decide) x3fl_35 rfl rfl rfl rfl (by rw [bFs_len, x3len]; decide) hd kk
theorem x3fk_36 : FK3[36]? = some (0, 0) := rfl
theorem x3fl_36 : Cond.fieldLink RX3 245 (TX3 36).1 (TX3 36).2.1 (TX3 36).2.2.1 ∈ lw_all := q1303
theorem x3gi_36 (C : Cx Γ cc RX3 fr lo) (hd : decode cc pc = .ok (.getfield 245, 3)) (kk : Go Γ k n (bW Γ.d 3 FK3 a s) (pc + 3) lv (.int (s.1 36) :: st)) : Go Γ k n (bW Γ.d 3 FK3 a s) pc lv (.ref (a 0) :: st) := go_getfield C bW_O x3c in_X3 36 (by decide) x3fl_36 (bW_int x3fk_36) hd kk
theorem x3pi_36 (C : Cx Γ cc RX3 fr lo) {v : Int32} (hd : decode cc pc = .ok (.putfield 245, 3)) (kk : Go Γ k n (bW Γ.d 3 FK3 a (bI s 36 v)) (pc + 3) lv st) : Go Γ k n (bW Γ.d 3 FK3 a s) pc lv (.int v :: .ref (a 0) :: st) := go_putfield (v := .int v) (ty := .int) C 36 (bW_putI x3fk_36) x3c in_X3 tyX3 tyX3_ok nmX3 (by decide) x3fl_36 rfl rfl rfl rfl (by rw [bFs_len, x3len]; decide) hd kk
theorem x3fk_37 : FK3[37]? = some (0, 0) := rfl
theorem x3fl_37 : Cond.fieldLink RX3 286 (TX3 37).1 (TX3 37).2.1 (TX3 37).2.2.1 ∈ lw_all := q1304
theorem x3gi_37 (C : Cx Γ cc RX3 fr lo) (hd : decode cc pc = .ok (.getfield 286, 3)) (kk : Go Γ k n (bW Γ.d 3 FK3 a s) (pc + 3) lv (.int (s.1 37) :: st)) : Go Γ k n (bW Γ.d 3 FK3 a s) pc lv (.ref (a 0) :: st) := go_getfield C bW_O x3c in_X3 37 (by decide) x3fl_37 (bW_int x3fk_37) hd kk
theorem x3pi_37 (C : Cx Γ cc RX3 fr lo) {v : Int32} (hd : decode cc pc = .ok (.putfield 286, 3)) (kk : Go Γ k n (bW Γ.d 3 FK3 a (bI s 37 v)) (pc + 3) lv st) : Go Γ k n (bW Γ.d 3 FK3 a s) pc lv (.int v :: .ref (a 0) :: st) := go_putfield (v := .int v) (ty := .int) C 37 (bW_putI x3fk_37) x3c in_X3 tyX3 tyX3_ok nmX3 (by decide) x3fl_37 rfl rfl rfl rfl (by rw [bFs_len, x3len]; decide) hd kk
theorem x3fk_38 : FK3[38]? = some (0, 0) := rfl
theorem x3fl_38 : Cond.fieldLink RX3 248 (TX3 38).1 (TX3 38).2.1 (TX3 38).2.2.1 ∈ lw_all := q1305
theorem x3gi_38 (C : Cx Γ cc RX3 fr lo) (hd : decode cc pc = .ok (.getfield 248, 3)) (kk : Go Γ k n (bW Γ.d 3 FK3 a s) (pc + 3) lv (.int (s.1 38) :: st)) : Go Γ k n (bW Γ.d 3 FK3 a s) pc lv (.ref (a 0) :: st) := go_getfield C bW_O x3c in_X3 38 (by decide) x3fl_38 (bW_int x3fk_38) hd kk
theorem x3pi_38 (C : Cx Γ cc RX3 fr lo) {v : Int32} (hd : decode cc pc = .ok (.putfield 248, 3)) (kk : Go Γ k n (bW Γ.d 3 FK3 a (bI s 38 v)) (pc + 3) lv st) : Go Γ k n (bW Γ.d 3 FK3 a s) pc lv (.int v :: .ref (a 0) :: st) := go_putfield (v := .int v) (ty := .int) C 38 (bW_putI x3fk_38) x3c in_X3 tyX3 tyX3_ok nmX3 (by decide) x3fl_38 rfl rfl rfl rfl (by rw [bFs_len, x3len]; decide) hd kk
theorem x3fk_39 : FK3[39]? = some (0, 0) := rfl
theorem x3fl_39 : Cond.fieldLink RX3 283 (TX3 39).1 (TX3 39).2.1 (TX3 39).2.2.1 ∈ lw_all := q1306
theorem x3gi_39 (C : Cx Γ cc RX3 fr lo) (hd : decode cc pc = .ok (.getfield 283, 3)) (kk : Go Γ k n (bW Γ.d 3 FK3 a s) (pc + 3) lv (.int (s.1 39) :: st)) : Go Γ k n (bW Γ.d 3 FK3 a s) pc lv (.ref (a 0) :: st) := go_getfield C bW_O x3c in_X3 39 (by decide) x3fl_39 (bW_int x3fk_39) hd kk
theorem x3pi_39 (C : Cx Γ cc RX3 fr lo) {v : Int32} (hd : decode cc pc = .ok (.putfield 283, 3)) (kk : Go Γ k n (bW Γ.d 3 FK3 a (bI s 39 v)) (pc + 3) lv st) : Go Γ k n (bW Γ.d 3 FK3 a s) pc lv (.int v :: .ref (a 0) :: st) := go_putfield (v := .int v) (ty := .int) C 39 (bW_putI x3fk_39) x3c in_X3 tyX3 tyX3_ok nmX3 (by decide) x3fl_39 rfl rfl rfl rfl (by rw [bFs_len, x3len]; decide) hd kk
theorem x3fk_40 : FK3[40]? = some (0, 0) := rfl
theorem x3fl_40 : Cond.fieldLink RX3 100 (TX3 40).1 (TX3 40).2.1 (TX3 40).2.2.1 ∈ lw_all := q1307
theorem x3gi_40 (C : Cx Γ cc RX3 fr lo) (hd : decode cc pc = .ok (.getfield 100, 3)) (kk : Go Γ k n (bW Γ.d 3 FK3 a s) (pc + 3) lv (.int (s.1 40) :: st)) : Go Γ k n (bW Γ.d 3 FK3 a s) pc lv (.ref (a 0) :: st) := go_getfield C bW_O x3c in_X3 40 (by decide) x3fl_40 (bW_int x3fk_40) hd kk
theorem x3pi_40 (C : Cx Γ cc RX3 fr lo) {v : Int32} (hd : decode cc pc = .ok (.putfield 100, 3)) (kk : Go Γ k n (bW Γ.d 3 FK3 a (bI s 40 v)) (pc + 3) lv st) : Go Γ k n (bW Γ.d 3 FK3 a s) pc lv (.int v :: .ref (a 0) :: st) := go_putfield (v := .int v) (ty := .int) C 40 (bW_putI x3fk_40) x3c in_X3 tyX3 tyX3_ok nmX3 (by decide) x3fl_40 rfl rfl rfl rfl (by rw [bFs_len, x3len]; decide) hd kk
theorem x3fk_41 : FK3[41]? = some (2, 400) := rfl
theorem x3fl_41 : Cond.fieldLink RX3 104 (TX3 41).1 (TX3 41).2.1 (TX3 41).2.2.1 ∈ lw_all := q1308
theorem x3gr_41 (C : Cx Γ cc RX3 fr lo) (hd : decode cc pc = .ok (.getfield 104, 3)) (kk : Go Γ k n (bW Γ.d 3 FK3 a s) (pc + 3) lv (.ref (a (41 + 1)) :: st)) : Go Γ k n (bW Γ.d 3 FK3 a s) pc lv (.ref (a 0) :: st) := go_getfield C bW_O x3c in_X3 41 (by decide) x3fl_41 (bW_ref x3fk_41) hd kk
theorem x3aA_41 {d : gD} : hasA (bW d 3 FK3 a s) (a (41 + 1)) (d.2.1 1, 400, .inl (s.2.1 41)) := bW_A x3fk_41 (by decide)
theorem x3pA_41 {d : gD} {i : Nat} {v : Int32} : putA (bW d 3 FK3 a s) (a (41 + 1)) (d.2.1 1, 400, .inl (s.2.1 41)) (d.2.1 1, 400, .inl (upd (s.2.1 41) i v)) (bW d 3 FK3 a (bA s 41 i v)) := bW_putA x3fk_41 (by decide)
theorem x3fk_42 : FK3[42]? = some (1, 1800) := rfl
theorem x3fl_42 : Cond.fieldLink RX3 108 (TX3 42).1 (TX3 42).2.1 (TX3 42).2.2.1 ∈ lw_all := q1309
theorem x3gr_42 (C : Cx Γ cc RX3 fr lo) (hd : decode cc pc = .ok (.getfield 108, 3)) (kk : Go Γ k n (bW Γ.d 3 FK3 a s) (pc + 3) lv (.ref (a (42 + 1)) :: st)) : Go Γ k n (bW Γ.d 3 FK3 a s) pc lv (.ref (a 0) :: st) := go_getfield C bW_O x3c in_X3 42 (by decide) x3fl_42 (bW_ref x3fk_42) hd kk
theorem x3aA_42 {d : gD} : hasA (bW d 3 FK3 a s) (a (42 + 1)) (d.2.1 0, 1800, .inl (s.2.1 42)) := bW_A x3fk_42 (by decide)
theorem x3pA_42 {d : gD} {i : Nat} {v : Int32} : putA (bW d 3 FK3 a s) (a (42 + 1)) (d.2.1 0, 1800, .inl (s.2.1 42)) (d.2.1 0, 1800, .inl (upd (s.2.1 42) i v)) (bW d 3 FK3 a (bA s 42 i v)) := bW_putA x3fk_42 (by decide)
theorem x3fk_43 : FK3[43]? = some (1, 1800) := rfl
theorem x3fl_43 : Cond.fieldLink RX3 111 (TX3 43).1 (TX3 43).2.1 (TX3 43).2.2.1 ∈ lw_all := q1310
theorem x3gr_43 (C : Cx Γ cc RX3 fr lo) (hd : decode cc pc = .ok (.getfield 111, 3)) (kk : Go Γ k n (bW Γ.d 3 FK3 a s) (pc + 3) lv (.ref (a (43 + 1)) :: st)) : Go Γ k n (bW Γ.d 3 FK3 a s) pc lv (.ref (a 0) :: st) := go_getfield C bW_O x3c in_X3 43 (by decide) x3fl_43 (bW_ref x3fk_43) hd kk
theorem x3aA_43 {d : gD} : hasA (bW d 3 FK3 a s) (a (43 + 1)) (d.2.1 0, 1800, .inl (s.2.1 43)) := bW_A x3fk_43 (by decide)
theorem x3pA_43 {d : gD} {i : Nat} {v : Int32} : putA (bW d 3 FK3 a s) (a (43 + 1)) (d.2.1 0, 1800, .inl (s.2.1 43)) (d.2.1 0, 1800, .inl (upd (s.2.1 43) i v)) (bW d 3 FK3 a (bA s 43 i v)) := bW_putA x3fk_43 (by decide)
theorem x3fk_44 : FK3[44]? = some (1, 6) := rfl
theorem x3fl_44 : Cond.fieldLink RX3 114 (TX3 44).1 (TX3 44).2.1 (TX3 44).2.2.1 ∈ lw_all := q1311
theorem x3gr_44 (C : Cx Γ cc RX3 fr lo) (hd : decode cc pc = .ok (.getfield 114, 3)) (kk : Go Γ k n (bW Γ.d 3 FK3 a s) (pc + 3) lv (.ref (a (44 + 1)) :: st)) : Go Γ k n (bW Γ.d 3 FK3 a s) pc lv (.ref (a 0) :: st) := go_getfield C bW_O x3c in_X3 44 (by decide) x3fl_44 (bW_ref x3fk_44) hd kk
theorem x3aA_44 {d : gD} : hasA (bW d 3 FK3 a s) (a (44 + 1)) (d.2.1 0, 6, .inl (s.2.1 44)) := bW_A x3fk_44 (by decide)
theorem x3pA_44 {d : gD} {i : Nat} {v : Int32} : putA (bW d 3 FK3 a s) (a (44 + 1)) (d.2.1 0, 6, .inl (s.2.1 44)) (d.2.1 0, 6, .inl (upd (s.2.1 44) i v)) (bW d 3 FK3 a (bA s 44 i v)) := bW_putA x3fk_44 (by decide)
theorem x3fk_45 : FK3[45]? = some (1, 72) := rfl
theorem x3fl_45 : Cond.fieldLink RX3 117 (TX3 45).1 (TX3 45).2.1 (TX3 45).2.2.1 ∈ lw_all := q1312
theorem x3gr_45 (C : Cx Γ cc RX3 fr lo) (hd : decode cc pc = .ok (.getfield 117, 3)) (kk : Go Γ k n (bW Γ.d 3 FK3 a s) (pc + 3) lv (.ref (a (45 + 1)) :: st)) : Go Γ k n (bW Γ.d 3 FK3 a s) pc lv (.ref (a 0) :: st) := go_getfield C bW_O x3c in_X3 45 (by decide) x3fl_45 (bW_ref x3fk_45) hd kk
theorem x3aA_45 {d : gD} : hasA (bW d 3 FK3 a s) (a (45 + 1)) (d.2.1 0, 72, .inl (s.2.1 45)) := bW_A x3fk_45 (by decide)
theorem x3pA_45 {d : gD} {i : Nat} {v : Int32} : putA (bW d 3 FK3 a s) (a (45 + 1)) (d.2.1 0, 72, .inl (s.2.1 45)) (d.2.1 0, 72, .inl (upd (s.2.1 45) i v)) (bW d 3 FK3 a (bA s 45 i v)) := bW_putA x3fk_45 (by decide)
theorem x3fk_46 : FK3[46]? = some (1, 72) := rfl
theorem x3fl_46 : Cond.fieldLink RX3 120 (TX3 46).1 (TX3 46).2.1 (TX3 46).2.2.1 ∈ lw_all := q1313
theorem x3gr_46 (C : Cx Γ cc RX3 fr lo) (hd : decode cc pc = .ok (.getfield 120, 3)) (kk : Go Γ k n (bW Γ.d 3 FK3 a s) (pc + 3) lv (.ref (a (46 + 1)) :: st)) : Go Γ k n (bW Γ.d 3 FK3 a s) pc lv (.ref (a 0) :: st) := go_getfield C bW_O x3c in_X3 46 (by decide) x3fl_46 (bW_ref x3fk_46) hd kk
theorem x3aA_46 {d : gD} : hasA (bW d 3 FK3 a s) (a (46 + 1)) (d.2.1 0, 72, .inl (s.2.1 46)) := bW_A x3fk_46 (by decide)
theorem x3pA_46 {d : gD} {i : Nat} {v : Int32} : putA (bW d 3 FK3 a s) (a (46 + 1)) (d.2.1 0, 72, .inl (s.2.1 46)) (d.2.1 0, 72, .inl (upd (s.2.1 46) i v)) (bW d 3 FK3 a (bA s 46 i v)) := bW_putA x3fk_46 (by decide)
theorem x3fk_47 : FK3[47]? = some (1, 72) := rfl
theorem x3fl_47 : Cond.fieldLink RX3 123 (TX3 47).1 (TX3 47).2.1 (TX3 47).2.2.1 ∈ lw_all := q1314
theorem x3gr_47 (C : Cx Γ cc RX3 fr lo) (hd : decode cc pc = .ok (.getfield 123, 3)) (kk : Go Γ k n (bW Γ.d 3 FK3 a s) (pc + 3) lv (.ref (a (47 + 1)) :: st)) : Go Γ k n (bW Γ.d 3 FK3 a s) pc lv (.ref (a 0) :: st) := go_getfield C bW_O x3c in_X3 47 (by decide) x3fl_47 (bW_ref x3fk_47) hd kk
theorem x3aA_47 {d : gD} : hasA (bW d 3 FK3 a s) (a (47 + 1)) (d.2.1 0, 72, .inl (s.2.1 47)) := bW_A x3fk_47 (by decide)
theorem x3pA_47 {d : gD} {i : Nat} {v : Int32} : putA (bW d 3 FK3 a s) (a (47 + 1)) (d.2.1 0, 72, .inl (s.2.1 47)) (d.2.1 0, 72, .inl (upd (s.2.1 47) i v)) (bW d 3 FK3 a (bA s 47 i v)) := bW_putA x3fk_47 (by decide)
theorem x3fk_48 : FK3[48]? = some (1, 402) := rfl
theorem x3fl_48 : Cond.fieldLink RX3 126 (TX3 48).1 (TX3 48).2.1 (TX3 48).2.2.1 ∈ lw_all := q1315
theorem x3gr_48 (C : Cx Γ cc RX3 fr lo) (hd : decode cc pc = .ok (.getfield 126, 3)) (kk : Go Γ k n (bW Γ.d 3 FK3 a s) (pc + 3) lv (.ref (a (48 + 1)) :: st)) : Go Γ k n (bW Γ.d 3 FK3 a s) pc lv (.ref (a 0) :: st) := go_getfield C bW_O x3c in_X3 48 (by decide) x3fl_48 (bW_ref x3fk_48) hd kk
theorem x3aA_48 {d : gD} : hasA (bW d 3 FK3 a s) (a (48 + 1)) (d.2.1 0, 402, .inl (s.2.1 48)) := bW_A x3fk_48 (by decide)
theorem x3pA_48 {d : gD} {i : Nat} {v : Int32} : putA (bW d 3 FK3 a s) (a (48 + 1)) (d.2.1 0, 402, .inl (s.2.1 48)) (d.2.1 0, 402, .inl (upd (s.2.1 48) i v)) (bW d 3 FK3 a (bA s 48 i v)) := bW_putA x3fk_48 (by decide)
theorem x3fk_49 : FK3[49]? = some (4, 12) := rfl
theorem x3fl_49 : Cond.fieldLink RX3 129 (TX3 49).1 (TX3 49).2.1 (TX3 49).2.2.1 ∈ lw_all := q1316
theorem x3gr_49 (C : Cx Γ cc RX3 fr lo) (hd : decode cc pc = .ok (.getfield 129, 3)) (kk : Go Γ k n (bW Γ.d 3 FK3 a s) (pc + 3) lv (.ref (a (49 + 1)) :: st)) : Go Γ k n (bW Γ.d 3 FK3 a s) pc lv (.ref (a 0) :: st) := go_getfield C bW_O x3c in_X3 49 (by decide) x3fl_49 (bW_ref x3fk_49) hd kk
theorem x3aA_49 {d : gD} : hasA (bW d 3 FK3 a s) (a (49 + 1)) (d.2.1 3, 12, .inr (.inl (s.2.2 49))) := bW_L x3fk_49
theorem x3pA_49 {d : gD} {i : Nat} {v : Int64} : putA (bW d 3 FK3 a s) (a (49 + 1)) (d.2.1 3, 12, .inr (.inl (s.2.2 49))) (d.2.1 3, 12, .inr (.inl (vp_updL (s.2.2 49) i v))) (bW d 3 FK3 a (bL s 49 i v)) := bW_putL x3fk_49
theorem x3fk_50 : FK3[50]? = some (4, 300) := rfl
theorem x3fl_50 : Cond.fieldLink RX3 133 (TX3 50).1 (TX3 50).2.1 (TX3 50).2.2.1 ∈ lw_all := q1317
theorem x3gr_50 (C : Cx Γ cc RX3 fr lo) (hd : decode cc pc = .ok (.getfield 133, 3)) (kk : Go Γ k n (bW Γ.d 3 FK3 a s) (pc + 3) lv (.ref (a (50 + 1)) :: st)) : Go Γ k n (bW Γ.d 3 FK3 a s) pc lv (.ref (a 0) :: st) := go_getfield C bW_O x3c in_X3 50 (by decide) x3fl_50 (bW_ref x3fk_50) hd kk
theorem x3aA_50 {d : gD} : hasA (bW d 3 FK3 a s) (a (50 + 1)) (d.2.1 3, 300, .inr (.inl (s.2.2 50))) := bW_L x3fk_50
theorem x3pA_50 {d : gD} {i : Nat} {v : Int64} : putA (bW d 3 FK3 a s) (a (50 + 1)) (d.2.1 3, 300, .inr (.inl (s.2.2 50))) (d.2.1 3, 300, .inr (.inl (vp_updL (s.2.2 50) i v))) (bW d 3 FK3 a (bL s 50 i v)) := bW_putL x3fk_50
theorem x3fk_51 : FK3[51]? = some (0, 0) := rfl
theorem x3fl_51 : Cond.fieldLink RX3 463 (TX3 51).1 (TX3 51).2.1 (TX3 51).2.2.1 ∈ lw_all := q1318
theorem x3gi_51 (C : Cx Γ cc RX3 fr lo) (hd : decode cc pc = .ok (.getfield 463, 3)) (kk : Go Γ k n (bW Γ.d 3 FK3 a s) (pc + 3) lv (.int (s.1 51) :: st)) : Go Γ k n (bW Γ.d 3 FK3 a s) pc lv (.ref (a 0) :: st) := go_getfield C bW_O x3c in_X3 51 (by decide) x3fl_51 (bW_int x3fk_51) hd kk
theorem x3pi_51 (C : Cx Γ cc RX3 fr lo) {v : Int32} (hd : decode cc pc = .ok (.putfield 463, 3)) (kk : Go Γ k n (bW Γ.d 3 FK3 a (bI s 51 v)) (pc + 3) lv st) : Go Γ k n (bW Γ.d 3 FK3 a s) pc lv (.int v :: .ref (a 0) :: st) := go_putfield (v := .int v) (ty := .int) C 51 (bW_putI x3fk_51) x3c in_X3 tyX3 tyX3_ok nmX3 (by decide) x3fl_51 rfl rfl rfl rfl (by rw [bFs_len, x3len]; decide) hd kk
theorem x3fk_52 : FK3[52]? = some (0, 0) := rfl
theorem x3fl_52 : Cond.fieldLink RX3 447 (TX3 52).1 (TX3 52).2.1 (TX3 52).2.2.1 ∈ lw_all := q1319
theorem x3gi_52 (C : Cx Γ cc RX3 fr lo) (hd : decode cc pc = .ok (.getfield 447, 3)) (kk : Go Γ k n (bW Γ.d 3 FK3 a s) (pc + 3) lv (.int (s.1 52) :: st)) : Go Γ k n (bW Γ.d 3 FK3 a s) pc lv (.ref (a 0) :: st) := go_getfield C bW_O x3c in_X3 52 (by decide) x3fl_52 (bW_int x3fk_52) hd kk
theorem x3pi_52 (C : Cx Γ cc RX3 fr lo) {v : Int32} (hd : decode cc pc = .ok (.putfield 447, 3)) (kk : Go Γ k n (bW Γ.d 3 FK3 a (bI s 52 v)) (pc + 3) lv st) : Go Γ k n (bW Γ.d 3 FK3 a s) pc lv (.int v :: .ref (a 0) :: st) := go_putfield (v := .int v) (ty := .int) C 52 (bW_putI x3fk_52) x3c in_X3 tyX3 tyX3_ok nmX3 (by decide) x3fl_52 rfl rfl rfl rfl (by rw [bFs_len, x3len]; decide) hd kk
theorem x3fk_53 : FK3[53]? = some (1, 1540) := rfl
theorem x3fl_53 : Cond.fieldLink RX3 136 (TX3 53).1 (TX3 53).2.1 (TX3 53).2.2.1 ∈ lw_all := q1320
theorem x3gr_53 (C : Cx Γ cc RX3 fr lo) (hd : decode cc pc = .ok (.getfield 136, 3)) (kk : Go Γ k n (bW Γ.d 3 FK3 a s) (pc + 3) lv (.ref (a (53 + 1)) :: st)) : Go Γ k n (bW Γ.d 3 FK3 a s) pc lv (.ref (a 0) :: st) := go_getfield C bW_O x3c in_X3 53 (by decide) x3fl_53 (bW_ref x3fk_53) hd kk
theorem x3aA_53 {d : gD} : hasA (bW d 3 FK3 a s) (a (53 + 1)) (d.2.1 0, 1540, .inl (s.2.1 53)) := bW_A x3fk_53 (by decide)
theorem x3pA_53 {d : gD} {i : Nat} {v : Int32} : putA (bW d 3 FK3 a s) (a (53 + 1)) (d.2.1 0, 1540, .inl (s.2.1 53)) (d.2.1 0, 1540, .inl (upd (s.2.1 53) i v)) (bW d 3 FK3 a (bA s 53 i v)) := bW_putA x3fk_53 (by decide)
theorem x3fk_54 : FK3[54]? = some (1, 1) := rfl
theorem x3fl_54 : Cond.fieldLink RX3 139 (TX3 54).1 (TX3 54).2.1 (TX3 54).2.2.1 ∈ lw_all := q1321
theorem x3gr_54 (C : Cx Γ cc RX3 fr lo) (hd : decode cc pc = .ok (.getfield 139, 3)) (kk : Go Γ k n (bW Γ.d 3 FK3 a s) (pc + 3) lv (.ref (a (54 + 1)) :: st)) : Go Γ k n (bW Γ.d 3 FK3 a s) pc lv (.ref (a 0) :: st) := go_getfield C bW_O x3c in_X3 54 (by decide) x3fl_54 (bW_ref x3fk_54) hd kk
theorem x3aA_54 {d : gD} : hasA (bW d 3 FK3 a s) (a (54 + 1)) (d.2.1 0, 1, .inl (s.2.1 54)) := bW_A x3fk_54 (by decide)
theorem x3pA_54 {d : gD} {i : Nat} {v : Int32} : putA (bW d 3 FK3 a s) (a (54 + 1)) (d.2.1 0, 1, .inl (s.2.1 54)) (d.2.1 0, 1, .inl (upd (s.2.1 54) i v)) (bW d 3 FK3 a (bA s 54 i v)) := bW_putA x3fk_54 (by decide)
theorem x3fk_55 : FK3[55]? = some (0, 0) := rfl
theorem x3fl_55 : Cond.fieldLink RX3 359 (TX3 55).1 (TX3 55).2.1 (TX3 55).2.2.1 ∈ lw_all := q1322
theorem x3gi_55 (C : Cx Γ cc RX3 fr lo) (hd : decode cc pc = .ok (.getfield 359, 3)) (kk : Go Γ k n (bW Γ.d 3 FK3 a s) (pc + 3) lv (.int (s.1 55) :: st)) : Go Γ k n (bW Γ.d 3 FK3 a s) pc lv (.ref (a 0) :: st) := go_getfield C bW_O x3c in_X3 55 (by decide) x3fl_55 (bW_int x3fk_55) hd kk
theorem x3pi_55 (C : Cx Γ cc RX3 fr lo) {v : Int32} (hd : decode cc pc = .ok (.putfield 359, 3)) (kk : Go Γ k n (bW Γ.d 3 FK3 a (bI s 55 v)) (pc + 3) lv st) : Go Γ k n (bW Γ.d 3 FK3 a s) pc lv (.int v :: .ref (a 0) :: st) := go_putfield (v := .int v) (ty := .int) C 55 (bW_putI x3fk_55) x3c in_X3 tyX3 tyX3_ok nmX3 (by decide) x3fl_55 rfl rfl rfl rfl (by rw [bFs_len, x3len]; decide) hd kk
theorem x3fk_56 : FK3[56]? = some (0, 0) := rfl
theorem x3fl_56 : Cond.fieldLink RX3 473 (TX3 56).1 (TX3 56).2.1 (TX3 56).2.2.1 ∈ lw_all := q1323
theorem x3gi_56 (C : Cx Γ cc RX3 fr lo) (hd : decode cc pc = .ok (.getfield 473, 3)) (kk : Go Γ k n (bW Γ.d 3 FK3 a s) (pc + 3) lv (.int (s.1 56) :: st)) : Go Γ k n (bW Γ.d 3 FK3 a s) pc lv (.ref (a 0) :: st) := go_getfield C bW_O x3c in_X3 56 (by decide) x3fl_56 (bW_int x3fk_56) hd kk
theorem x3pi_56 (C : Cx Γ cc RX3 fr lo) {v : Int32} (hd : decode cc pc = .ok (.putfield 473, 3)) (kk : Go Γ k n (bW Γ.d 3 FK3 a (bI s 56 v)) (pc + 3) lv st) : Go Γ k n (bW Γ.d 3 FK3 a s) pc lv (.int v :: .ref (a 0) :: st) := go_putfield (v := .int v) (ty := .int) C 56 (bW_putI x3fk_56) x3c in_X3 tyX3 tyX3_ok nmX3 (by decide) x3fl_56 rfl rfl rfl rfl (by rw [bFs_len, x3len]; decide) hd kk
theorem x3fk_57 : FK3[57]? = some (0, 0) := rfl
theorem x3fl_57 : Cond.fieldLink RX3 469 (TX3 57).1 (TX3 57).2.1 (TX3 57).2.2.1 ∈ lw_all := q1324
theorem x3gi_57 (C : Cx Γ cc RX3 fr lo) (hd : decode cc pc = .ok (.getfield 469, 3)) (kk : Go Γ k n (bW Γ.d 3 FK3 a s) (pc + 3) lv (.int (s.1 57) :: st)) : Go Γ k n (bW Γ.d 3 FK3 a s) pc lv (.ref (a 0) :: st) := go_getfield C bW_O x3c in_X3 57 (by decide) x3fl_57 (bW_int x3fk_57) hd kk
theorem x3pz_57 (C : Cx Γ cc RX3 fr lo) {v : Int32} (hd : decode cc pc = .ok (.putfield 469, 3)) (hz : isB v = true) (kk : Go Γ k n (bW Γ.d 3 FK3 a (bI s 57 v)) (pc + 3) lv st) : Go Γ k n (bW Γ.d 3 FK3 a s) pc lv (.int v :: .ref (a 0) :: st) := go_putfield (v := .int v) (ty := .boolean) C 57 (bW_putI x3fk_57) x3c in_X3 tyX3 tyX3_ok nmX3 (by decide) x3fl_57 rfl rfl (isB_n hz) (isB_f hz) (by rw [bFs_len, x3len]; decide) hd kk
theorem x3fk_58 : FK3[58]? = some (1, 9) := rfl
theorem x3fl_58 : Cond.fieldLink RX3 142 (TX3 58).1 (TX3 58).2.1 (TX3 58).2.2.1 ∈ lw_all := q1325
theorem x3gr_58 (C : Cx Γ cc RX3 fr lo) (hd : decode cc pc = .ok (.getfield 142, 3)) (kk : Go Γ k n (bW Γ.d 3 FK3 a s) (pc + 3) lv (.ref (a (58 + 1)) :: st)) : Go Γ k n (bW Γ.d 3 FK3 a s) pc lv (.ref (a 0) :: st) := go_getfield C bW_O x3c in_X3 58 (by decide) x3fl_58 (bW_ref x3fk_58) hd kk
theorem x3aA_58 {d : gD} : hasA (bW d 3 FK3 a s) (a (58 + 1)) (d.2.1 0, 9, .inl (s.2.1 58)) := bW_A x3fk_58 (by decide)
theorem x3pA_58 {d : gD} {i : Nat} {v : Int32} : putA (bW d 3 FK3 a s) (a (58 + 1)) (d.2.1 0, 9, .inl (s.2.1 58)) (d.2.1 0, 9, .inl (upd (s.2.1 58) i v)) (bW d 3 FK3 a (bA s 58 i v)) := bW_putA x3fk_58 (by decide)
theorem x3fk_59 : FK3[59]? = some (1, 8) := rfl
theorem x3fl_59 : Cond.fieldLink RX3 145 (TX3 59).1 (TX3 59).2.1 (TX3 59).2.2.1 ∈ lw_all := q1326
theorem x3gr_59 (C : Cx Γ cc RX3 fr lo) (hd : decode cc pc = .ok (.getfield 145, 3)) (kk : Go Γ k n (bW Γ.d 3 FK3 a s) (pc + 3) lv (.ref (a (59 + 1)) :: st)) : Go Γ k n (bW Γ.d 3 FK3 a s) pc lv (.ref (a 0) :: st) := go_getfield C bW_O x3c in_X3 59 (by decide) x3fl_59 (bW_ref x3fk_59) hd kk
theorem x3aA_59 {d : gD} : hasA (bW d 3 FK3 a s) (a (59 + 1)) (d.2.1 0, 8, .inl (s.2.1 59)) := bW_A x3fk_59 (by decide)
theorem x3pA_59 {d : gD} {i : Nat} {v : Int32} : putA (bW d 3 FK3 a s) (a (59 + 1)) (d.2.1 0, 8, .inl (s.2.1 59)) (d.2.1 0, 8, .inl (upd (s.2.1 59) i v)) (bW d 3 FK3 a (bA s 59 i v)) := bW_putA x3fk_59 (by decide)
theorem x3fk_60 : FK3[60]? = some (1, 7) := rfl
theorem x3fl_60 : Cond.fieldLink RX3 148 (TX3 60).1 (TX3 60).2.1 (TX3 60).2.2.1 ∈ lw_all := q1327
theorem x3gr_60 (C : Cx Γ cc RX3 fr lo) (hd : decode cc pc = .ok (.getfield 148, 3)) (kk : Go Γ k n (bW Γ.d 3 FK3 a s) (pc + 3) lv (.ref (a (60 + 1)) :: st)) : Go Γ k n (bW Γ.d 3 FK3 a s) pc lv (.ref (a 0) :: st) := go_getfield C bW_O x3c in_X3 60 (by decide) x3fl_60 (bW_ref x3fk_60) hd kk
theorem x3aA_60 {d : gD} : hasA (bW d 3 FK3 a s) (a (60 + 1)) (d.2.1 0, 7, .inl (s.2.1 60)) := bW_A x3fk_60 (by decide)
theorem x3pA_60 {d : gD} {i : Nat} {v : Int32} : putA (bW d 3 FK3 a s) (a (60 + 1)) (d.2.1 0, 7, .inl (s.2.1 60)) (d.2.1 0, 7, .inl (upd (s.2.1 60) i v)) (bW d 3 FK3 a (bA s 60 i v)) := bW_putA x3fk_60 (by decide)
theorem x3fk_61 : FK3[61]? = some (0, 0) := rfl
theorem x3fl_61 : Cond.fieldLink RX3 533 (TX3 61).1 (TX3 61).2.1 (TX3 61).2.2.1 ∈ lw_all := q1328
theorem x3gi_61 (C : Cx Γ cc RX3 fr lo) (hd : decode cc pc = .ok (.getfield 533, 3)) (kk : Go Γ k n (bW Γ.d 3 FK3 a s) (pc + 3) lv (.int (s.1 61) :: st)) : Go Γ k n (bW Γ.d 3 FK3 a s) pc lv (.ref (a 0) :: st) := go_getfield C bW_O x3c in_X3 61 (by decide) x3fl_61 (bW_int x3fk_61) hd kk
theorem x3pi_61 (C : Cx Γ cc RX3 fr lo) {v : Int32} (hd : decode cc pc = .ok (.putfield 533, 3)) (kk : Go Γ k n (bW Γ.d 3 FK3 a (bI s 61 v)) (pc + 3) lv st) : Go Γ k n (bW Γ.d 3 FK3 a s) pc lv (.int v :: .ref (a 0) :: st) := go_putfield (v := .int v) (ty := .int) C 61 (bW_putI x3fk_61) x3c in_X3 tyX3 tyX3_ok nmX3 (by decide) x3fl_61 rfl rfl rfl rfl (by rw [bFs_len, x3len]; decide) hd kk
theorem x3fk_62 : FK3[62]? = some (0, 0) := rfl
theorem x3fl_62 : Cond.fieldLink RX3 536 (TX3 62).1 (TX3 62).2.1 (TX3 62).2.2.1 ∈ lw_all := q1329
theorem x3gi_62 (C : Cx Γ cc RX3 fr lo) (hd : decode cc pc = .ok (.getfield 536, 3)) (kk : Go Γ k n (bW Γ.d 3 FK3 a s) (pc + 3) lv (.int (s.1 62) :: st)) : Go Γ k n (bW Γ.d 3 FK3 a s) pc lv (.ref (a 0) :: st) := go_getfield C bW_O x3c in_X3 62 (by decide) x3fl_62 (bW_int x3fk_62) hd kk
theorem x3pi_62 (C : Cx Γ cc RX3 fr lo) {v : Int32} (hd : decode cc pc = .ok (.putfield 536, 3)) (kk : Go Γ k n (bW Γ.d 3 FK3 a (bI s 62 v)) (pc + 3) lv st) : Go Γ k n (bW Γ.d 3 FK3 a s) pc lv (.int v :: .ref (a 0) :: st) := go_putfield (v := .int v) (ty := .int) C 62 (bW_putI x3fk_62) x3c in_X3 tyX3 tyX3_ok nmX3 (by decide) x3fl_62 rfl rfl rfl rfl (by rw [bFs_len, x3len]; decide) hd kk
theorem x3fk_63 : FK3[63]? = some (1, 9) := rfl
theorem x3fl_63 : Cond.fieldLink RX3 151 (TX3 63).1 (TX3 63).2.1 (TX3 63).2.2.1 ∈ lw_all := q1330
theorem x3gr_63 (C : Cx Γ cc RX3 fr lo) (hd : decode cc pc = .ok (.getfield 151, 3)) (kk : Go Γ k n (bW Γ.d 3 FK3 a s) (pc + 3) lv (.ref (a (63 + 1)) :: st)) : Go Γ k n (bW Γ.d 3 FK3 a s) pc lv (.ref (a 0) :: st) := go_getfield C bW_O x3c in_X3 63 (by decide) x3fl_63 (bW_ref x3fk_63) hd kk
theorem x3aA_63 {d : gD} : hasA (bW d 3 FK3 a s) (a (63 + 1)) (d.2.1 0, 9, .inl (s.2.1 63)) := bW_A x3fk_63 (by decide)
theorem x3pA_63 {d : gD} {i : Nat} {v : Int32} : putA (bW d 3 FK3 a s) (a (63 + 1)) (d.2.1 0, 9, .inl (s.2.1 63)) (d.2.1 0, 9, .inl (upd (s.2.1 63) i v)) (bW d 3 FK3 a (bA s 63 i v)) := bW_putA x3fk_63 (by decide)
theorem x3fk_64 : FK3[64]? = some (1, 8) := rfl
theorem x3fl_64 : Cond.fieldLink RX3 154 (TX3 64).1 (TX3 64).2.1 (TX3 64).2.2.1 ∈ lw_all := q1331
theorem x3gr_64 (C : Cx Γ cc RX3 fr lo) (hd : decode cc pc = .ok (.getfield 154, 3)) (kk : Go Γ k n (bW Γ.d 3 FK3 a s) (pc + 3) lv (.ref (a (64 + 1)) :: st)) : Go Γ k n (bW Γ.d 3 FK3 a s) pc lv (.ref (a 0) :: st) := go_getfield C bW_O x3c in_X3 64 (by decide) x3fl_64 (bW_ref x3fk_64) hd kk
theorem x3aA_64 {d : gD} : hasA (bW d 3 FK3 a s) (a (64 + 1)) (d.2.1 0, 8, .inl (s.2.1 64)) := bW_A x3fk_64 (by decide)
theorem x3pA_64 {d : gD} {i : Nat} {v : Int32} : putA (bW d 3 FK3 a s) (a (64 + 1)) (d.2.1 0, 8, .inl (s.2.1 64)) (d.2.1 0, 8, .inl (upd (s.2.1 64) i v)) (bW d 3 FK3 a (bA s 64 i v)) := bW_putA x3fk_64 (by decide)
theorem x3fk_65 : FK3[65]? = some (1, 8) := rfl
theorem x3fl_65 : Cond.fieldLink RX3 157 (TX3 65).1 (TX3 65).2.1 (TX3 65).2.2.1 ∈ lw_all := q1332
theorem x3gr_65 (C : Cx Γ cc RX3 fr lo) (hd : decode cc pc = .ok (.getfield 157, 3)) (kk : Go Γ k n (bW Γ.d 3 FK3 a s) (pc + 3) lv (.ref (a (65 + 1)) :: st)) : Go Γ k n (bW Γ.d 3 FK3 a s) pc lv (.ref (a 0) :: st) := go_getfield C bW_O x3c in_X3 65 (by decide) x3fl_65 (bW_ref x3fk_65) hd kk
theorem x3aA_65 {d : gD} : hasA (bW d 3 FK3 a s) (a (65 + 1)) (d.2.1 0, 8, .inl (s.2.1 65)) := bW_A x3fk_65 (by decide)
theorem x3pA_65 {d : gD} {i : Nat} {v : Int32} : putA (bW d 3 FK3 a s) (a (65 + 1)) (d.2.1 0, 8, .inl (s.2.1 65)) (d.2.1 0, 8, .inl (upd (s.2.1 65) i v)) (bW d 3 FK3 a (bA s 65 i v)) := bW_putA x3fk_65 (by decide)
theorem x3fk_66 : FK3[66]? = some (0, 0) := rfl
theorem x3fl_66 : Cond.fieldLink RX3 557 (TX3 66).1 (TX3 66).2.1 (TX3 66).2.2.1 ∈ lw_all := q1333
theorem x3gi_66 (C : Cx Γ cc RX3 fr lo) (hd : decode cc pc = .ok (.getfield 557, 3)) (kk : Go Γ k n (bW Γ.d 3 FK3 a s) (pc + 3) lv (.int (s.1 66) :: st)) : Go Γ k n (bW Γ.d 3 FK3 a s) pc lv (.ref (a 0) :: st) := go_getfield C bW_O x3c in_X3 66 (by decide) x3fl_66 (bW_int x3fk_66) hd kk
theorem x3pi_66 (C : Cx Γ cc RX3 fr lo) {v : Int32} (hd : decode cc pc = .ok (.putfield 557, 3)) (kk : Go Γ k n (bW Γ.d 3 FK3 a (bI s 66 v)) (pc + 3) lv st) : Go Γ k n (bW Γ.d 3 FK3 a s) pc lv (.int v :: .ref (a 0) :: st) := go_putfield (v := .int v) (ty := .int) C 66 (bW_putI x3fk_66) x3c in_X3 tyX3 tyX3_ok nmX3 (by decide) x3fl_66 rfl rfl rfl rfl (by rw [bFs_len, x3len]; decide) hd kk
theorem x3fk_67 : FK3[67]? = some (1, 8) := rfl
theorem x3fl_67 : Cond.fieldLink RX3 160 (TX3 67).1 (TX3 67).2.1 (TX3 67).2.2.1 ∈ lw_all := q1334
theorem x3gr_67 (C : Cx Γ cc RX3 fr lo) (hd : decode cc pc = .ok (.getfield 160, 3)) (kk : Go Γ k n (bW Γ.d 3 FK3 a s) (pc + 3) lv (.ref (a (67 + 1)) :: st)) : Go Γ k n (bW Γ.d 3 FK3 a s) pc lv (.ref (a 0) :: st) := go_getfield C bW_O x3c in_X3 67 (by decide) x3fl_67 (bW_ref x3fk_67) hd kk
theorem x3aA_67 {d : gD} : hasA (bW d 3 FK3 a s) (a (67 + 1)) (d.2.1 0, 8, .inl (s.2.1 67)) := bW_A x3fk_67 (by decide)
theorem x3pA_67 {d : gD} {i : Nat} {v : Int32} : putA (bW d 3 FK3 a s) (a (67 + 1)) (d.2.1 0, 8, .inl (s.2.1 67)) (d.2.1 0, 8, .inl (upd (s.2.1 67) i v)) (bW d 3 FK3 a (bA s 67 i v)) := bW_putA x3fk_67 (by decide)
theorem x3fk_68 : FK3[68]? = some (3, 256) := rfl
theorem x3fl_68 : Cond.fieldLink RX3 163 (TX3 68).1 (TX3 68).2.1 (TX3 68).2.2.1 ∈ lw_all := q1335
theorem x3gr_68 (C : Cx Γ cc RX3 fr lo) (hd : decode cc pc = .ok (.getfield 163, 3)) (kk : Go Γ k n (bW Γ.d 3 FK3 a s) (pc + 3) lv (.ref (a (68 + 1)) :: st)) : Go Γ k n (bW Γ.d 3 FK3 a s) pc lv (.ref (a 0) :: st) := go_getfield C bW_O x3c in_X3 68 (by decide) x3fl_68 (bW_ref x3fk_68) hd kk
theorem x3aA_68 {d : gD} : hasA (bW d 3 FK3 a s) (a (68 + 1)) (d.2.1 2, 256, .inl (s.2.1 68)) := bW_A x3fk_68 (by decide)
theorem x3pA_68 {d : gD} {i : Nat} {v : Int32} : putA (bW d 3 FK3 a s) (a (68 + 1)) (d.2.1 2, 256, .inl (s.2.1 68)) (d.2.1 2, 256, .inl (upd (s.2.1 68) i v)) (bW d 3 FK3 a (bA s 68 i v)) := bW_putA x3fk_68 (by decide)
theorem x3fk_69 : FK3[69]? = some (1, 9500) := rfl
theorem x3fl_69 : Cond.fieldLink RX3 167 (TX3 69).1 (TX3 69).2.1 (TX3 69).2.2.1 ∈ lw_all := q1336
theorem x3gr_69 (C : Cx Γ cc RX3 fr lo) (hd : decode cc pc = .ok (.getfield 167, 3)) (kk : Go Γ k n (bW Γ.d 3 FK3 a s) (pc + 3) lv (.ref (a (69 + 1)) :: st)) : Go Γ k n (bW Γ.d 3 FK3 a s) pc lv (.ref (a 0) :: st) := go_getfield C bW_O x3c in_X3 69 (by decide) x3fl_69 (bW_ref x3fk_69) hd kk
theorem x3aA_69 {d : gD} : hasA (bW d 3 FK3 a s) (a (69 + 1)) (d.2.1 0, 9500, .inl (s.2.1 69)) := bW_A x3fk_69 (by decide)
theorem x3pA_69 {d : gD} {i : Nat} {v : Int32} : putA (bW d 3 FK3 a s) (a (69 + 1)) (d.2.1 0, 9500, .inl (s.2.1 69)) (d.2.1 0, 9500, .inl (upd (s.2.1 69) i v)) (bW d 3 FK3 a (bA s 69 i v)) := bW_putA x3fk_69 (by decide)
theorem x3fk_70 : FK3[70]? = some (3, 4) := rfl
theorem x3fl_70 : Cond.fieldLink RX3 170 (TX3 70).1 (TX3 70).2.1 (TX3 70).2.2.1 ∈ lw_all := q1337
theorem x3gr_70 (C : Cx Γ cc RX3 fr lo) (hd : decode cc pc = .ok (.getfield 170, 3)) (kk : Go Γ k n (bW Γ.d 3 FK3 a s) (pc + 3) lv (.ref (a (70 + 1)) :: st)) : Go Γ k n (bW Γ.d 3 FK3 a s) pc lv (.ref (a 0) :: st) := go_getfield C bW_O x3c in_X3 70 (by decide) x3fl_70 (bW_ref x3fk_70) hd kk
theorem x3aA_70 {d : gD} : hasA (bW d 3 FK3 a s) (a (70 + 1)) (d.2.1 2, 4, .inl (s.2.1 70)) := bW_A x3fk_70 (by decide)
theorem x3pA_70 {d : gD} {i : Nat} {v : Int32} : putA (bW d 3 FK3 a s) (a (70 + 1)) (d.2.1 2, 4, .inl (s.2.1 70)) (d.2.1 2, 4, .inl (upd (s.2.1 70) i v)) (bW d 3 FK3 a (bA s 70 i v)) := bW_putA x3fk_70 (by decide)
theorem x3fk_71 : FK3[71]? = some (0, 0) := rfl
theorem x3fl_71 : Cond.fieldLink RX3 612 (TX3 71).1 (TX3 71).2.1 (TX3 71).2.2.1 ∈ lw_all := q1338
theorem x3gi_71 (C : Cx Γ cc RX3 fr lo) (hd : decode cc pc = .ok (.getfield 612, 3)) (kk : Go Γ k n (bW Γ.d 3 FK3 a s) (pc + 3) lv (.int (s.1 71) :: st)) : Go Γ k n (bW Γ.d 3 FK3 a s) pc lv (.ref (a 0) :: st) := go_getfield C bW_O x3c in_X3 71 (by decide) x3fl_71 (bW_int x3fk_71) hd kk
theorem x3pi_71 (C : Cx Γ cc RX3 fr lo) {v : Int32} (hd : decode cc pc = .ok (.putfield 612, 3)) (kk : Go Γ k n (bW Γ.d 3 FK3 a (bI s 71 v)) (pc + 3) lv st) : Go Γ k n (bW Γ.d 3 FK3 a s) pc lv (.int v :: .ref (a 0) :: st) := go_putfield (v := .int v) (ty := .int) C 71 (bW_putI x3fk_71) x3c in_X3 tyX3 tyX3_ok nmX3 (by decide) x3fl_71 rfl rfl rfl rfl (by rw [bFs_len, x3len]; decide) hd kk
theorem x3fk_72 : FK3[72]? = some (0, 0) := rfl
theorem x3fl_72 : Cond.fieldLink RX3 609 (TX3 72).1 (TX3 72).2.1 (TX3 72).2.2.1 ∈ lw_all := q1339
theorem x3gi_72 (C : Cx Γ cc RX3 fr lo) (hd : decode cc pc = .ok (.getfield 609, 3)) (kk : Go Γ k n (bW Γ.d 3 FK3 a s) (pc + 3) lv (.int (s.1 72) :: st)) : Go Γ k n (bW Γ.d 3 FK3 a s) pc lv (.ref (a 0) :: st) := go_getfield C bW_O x3c in_X3 72 (by decide) x3fl_72 (bW_int x3fk_72) hd kk
theorem x3pz_72 (C : Cx Γ cc RX3 fr lo) {v : Int32} (hd : decode cc pc = .ok (.putfield 609, 3)) (hz : isB v = true) (kk : Go Γ k n (bW Γ.d 3 FK3 a (bI s 72 v)) (pc + 3) lv st) : Go Γ k n (bW Γ.d 3 FK3 a s) pc lv (.int v :: .ref (a 0) :: st) := go_putfield (v := .int v) (ty := .boolean) C 72 (bW_putI x3fk_72) x3c in_X3 tyX3 tyX3_ok nmX3 (by decide) x3fl_72 rfl rfl (isB_n hz) (isB_f hz) (by rw [bFs_len, x3len]; decide) hd kk
end X3R
theorem x3pd_init : yX3_init.cls = RX3 ∧ yX3_init.cls ≠ "java/lang/invoke/MethodHandle" ∧ yX3_init.cls ≠ "java/lang/invoke/VarHandle" ∧ (parseMethodDescriptor yX3_init.desc).map (fun d => d.parameters.length) = some 0 := by decide +kernel
theorem x3pd_feed : yX3_feed.cls = RX3 ∧ yX3_feed.cls ≠ "java/lang/invoke/MethodHandle" ∧ yX3_feed.cls ≠ "java/lang/invoke/VarHandle" ∧ (parseMethodDescriptor yX3_feed.desc).map (fun d => d.parameters.length) = some 5 := by decide +kernel
theorem x3pd_put : yX3_put.cls = RX3 ∧ yX3_put.cls ≠ "java/lang/invoke/MethodHandle" ∧ yX3_put.cls ≠ "java/lang/invoke/VarHandle" ∧ (parseMethodDescriptor yX3_put.desc).map (fun d => d.parameters.length) = some 1 := by decide +kernel
theorem x3pd_end : yX3_end.cls = RX3 ∧ yX3_end.cls ≠ "java/lang/invoke/MethodHandle" ∧ yX3_end.cls ≠ "java/lang/invoke/VarHandle" ∧ (parseMethodDescriptor yX3_end.desc).map (fun d => d.parameters.length) = some 1 := by decide +kernel
theorem x3pd_river : yX3_river.cls = RX3 ∧ yX3_river.cls ≠ "java/lang/invoke/MethodHandle" ∧ yX3_river.cls ≠ "java/lang/invoke/VarHandle" ∧ (parseMethodDescriptor yX3_river.desc).map (fun d => d.parameters.length) = some 0 := by decide +kernel
theorem x3pd_readsAll : yX3_readsAll.cls = RX3 ∧ yX3_readsAll.cls ≠ "java/lang/invoke/MethodHandle" ∧ yX3_readsAll.cls ≠ "java/lang/invoke/VarHandle" ∧ (parseMethodDescriptor yX3_readsAll.desc).map (fun d => d.parameters.length) = some 0 := by decide +kernel
theorem x3pd_starts : yX3_starts.cls = RX3 ∧ yX3_starts.cls ≠ "java/lang/invoke/MethodHandle" ∧ yX3_starts.cls ≠ "java/lang/invoke/VarHandle" ∧ (parseMethodDescriptor yX3_starts.desc).map (fun d => d.parameters.length) = some 0 := by decide +kernel
theorem x3pd_riverClause : yX3_riverClause.cls = RX3 ∧ yX3_riverClause.cls ≠ "java/lang/invoke/MethodHandle" ∧ yX3_riverClause.cls ≠ "java/lang/invoke/VarHandle" ∧ (parseMethodDescriptor yX3_riverClause.desc).map (fun d => d.parameters.length) = some 1 := by decide +kernel
theorem x3pd_blanks : yX3_blanks.cls = RX3 ∧ yX3_blanks.cls ≠ "java/lang/invoke/MethodHandle" ∧ yX3_blanks.cls ≠ "java/lang/invoke/VarHandle" ∧ (parseMethodDescriptor yX3_blanks.desc).map (fun d => d.parameters.length) = some 0 := by decide +kernel
theorem x3pd_sign : yX3_sign.cls = RX3 ∧ yX3_sign.cls ≠ "java/lang/invoke/MethodHandle" ∧ yX3_sign.cls ≠ "java/lang/invoke/VarHandle" ∧ (parseMethodDescriptor yX3_sign.desc).map (fun d => d.parameters.length) = some 0 := by decide +kernel
theorem x3pd_riverWord : yX3_riverWord.cls ≠ "java/lang/invoke/MethodHandle" ∧ yX3_riverWord.cls ≠ "java/lang/invoke/VarHandle" ∧ (parseMethodDescriptor yX3_riverWord.desc).map (fun d => d.parameters.length) = some 1 := by decide +kernel
theorem x3pd_stood : yX3_stood.cls = RX3 ∧ yX3_stood.cls ≠ "java/lang/invoke/MethodHandle" ∧ yX3_stood.cls ≠ "java/lang/invoke/VarHandle" ∧ (parseMethodDescriptor yX3_stood.desc).map (fun d => d.parameters.length) = some 1 := by decide +kernel
theorem x3pd_fails : yX3_fails.cls = RX3 ∧ yX3_fails.cls ≠ "java/lang/invoke/MethodHandle" ∧ yX3_fails.cls ≠ "java/lang/invoke/VarHandle" ∧ (parseMethodDescriptor yX3_fails.desc).map (fun d => d.parameters.length) = some 2 := by decide +kernel
theorem x3pd_isFull : yX3_isFull.cls = RX3 ∧ yX3_isFull.cls ≠ "java/lang/invoke/MethodHandle" ∧ yX3_isFull.cls ≠ "java/lang/invoke/VarHandle" ∧ (parseMethodDescriptor yX3_isFull.desc).map (fun d => d.parameters.length) = some 2 := by decide +kernel
theorem x3pd_riverPart : yX3_riverPart.cls = RX3 ∧ yX3_riverPart.cls ≠ "java/lang/invoke/MethodHandle" ∧ yX3_riverPart.cls ≠ "java/lang/invoke/VarHandle" ∧ (parseMethodDescriptor yX3_riverPart.desc).map (fun d => d.parameters.length) = some 1 := by decide +kernel
theorem x3pd_amount : yX3_amount.cls = RX3 ∧ yX3_amount.cls ≠ "java/lang/invoke/MethodHandle" ∧ yX3_amount.cls ≠ "java/lang/invoke/VarHandle" ∧ (parseMethodDescriptor yX3_amount.desc).map (fun d => d.parameters.length) = some 2 := by decide +kernel
theorem x3pd_digits : yX3_digits.cls = RX3 ∧ yX3_digits.cls ≠ "java/lang/invoke/MethodHandle" ∧ yX3_digits.cls ≠ "java/lang/invoke/VarHandle" ∧ (parseMethodDescriptor yX3_digits.desc).map (fun d => d.parameters.length) = some 1 := by decide +kernel
theorem x3pd_isDigit : yX3_isDigit.cls = RX3 ∧ yX3_isDigit.cls ≠ "java/lang/invoke/MethodHandle" ∧ yX3_isDigit.cls ≠ "java/lang/invoke/VarHandle" ∧ (parseMethodDescriptor yX3_isDigit.desc).map (fun d => d.parameters.length) = some 0 := by decide +kernel
theorem x3pd_in : yX3_in.cls ≠ "java/lang/invoke/MethodHandle" ∧ yX3_in.cls ≠ "java/lang/invoke/VarHandle" ∧ (parseMethodDescriptor yX3_in.desc).map (fun d => d.parameters.length) = some 3 := by decide +kernel
theorem x3pd_readsBound : yX3_readsBound.cls = RX3 ∧ yX3_readsBound.cls ≠ "java/lang/invoke/MethodHandle" ∧ yX3_readsBound.cls ≠ "java/lang/invoke/VarHandle" ∧ (parseMethodDescriptor yX3_readsBound.desc).map (fun d => d.parameters.length) = some 0 := by decide +kernel
theorem x3pd_isNewBound : yX3_isNewBound.cls = RX3 ∧ yX3_isNewBound.cls ≠ "java/lang/invoke/MethodHandle" ∧ yX3_isNewBound.cls ≠ "java/lang/invoke/VarHandle" ∧ (parseMethodDescriptor yX3_isNewBound.desc).map (fun d => d.parameters.length) = some 2 := by decide +kernel
theorem x3pd_readsRapid : yX3_readsRapid.cls = RX3 ∧ yX3_readsRapid.cls ≠ "java/lang/invoke/MethodHandle" ∧ yX3_readsRapid.cls ≠ "java/lang/invoke/VarHandle" ∧ (parseMethodDescriptor yX3_readsRapid.desc).map (fun d => d.parameters.length) = some 0 := by decide +kernel
theorem x3pd_goesOn : yX3_goesOn.cls = RX3 ∧ yX3_goesOn.cls ≠ "java/lang/invoke/MethodHandle" ∧ yX3_goesOn.cls ≠ "java/lang/invoke/VarHandle" ∧ (parseMethodDescriptor yX3_goesOn.desc).map (fun d => d.parameters.length) = some 0 := by decide +kernel
theorem x3pd_copies : yX3_copies.cls ≠ "java/lang/invoke/MethodHandle" ∧ yX3_copies.cls ≠ "java/lang/invoke/VarHandle" ∧ (parseMethodDescriptor yX3_copies.desc).map (fun d => d.parameters.length) = some 2 := by decide +kernel
theorem x3pd_rule : yX3_rule.cls = RX3 ∧ yX3_rule.cls ≠ "java/lang/invoke/MethodHandle" ∧ yX3_rule.cls ≠ "java/lang/invoke/VarHandle" ∧ (parseMethodDescriptor yX3_rule.desc).map (fun d => d.parameters.length) = some 0 := by decide +kernel
theorem x3pd_ruleClause : yX3_ruleClause.cls = RX3 ∧ yX3_ruleClause.cls ≠ "java/lang/invoke/MethodHandle" ∧ yX3_ruleClause.cls ≠ "java/lang/invoke/VarHandle" ∧ (parseMethodDescriptor yX3_ruleClause.desc).map (fun d => d.parameters.length) = some 1 := by decide +kernel
theorem x3pd_sum : yX3_sum.cls = RX3 ∧ yX3_sum.cls ≠ "java/lang/invoke/MethodHandle" ∧ yX3_sum.cls ≠ "java/lang/invoke/VarHandle" ∧ (parseMethodDescriptor yX3_sum.desc).map (fun d => d.parameters.length) = some 0 := by decide +kernel
theorem x3pd_term : yX3_term.cls = RX3 ∧ yX3_term.cls ≠ "java/lang/invoke/MethodHandle" ∧ yX3_term.cls ≠ "java/lang/invoke/VarHandle" ∧ (parseMethodDescriptor yX3_term.desc).map (fun d => d.parameters.length) = some 0 := by decide +kernel
theorem x3pd_value : yX3_value.cls = RX3 ∧ yX3_value.cls ≠ "java/lang/invoke/MethodHandle" ∧ yX3_value.cls ≠ "java/lang/invoke/VarHandle" ∧ (parseMethodDescriptor yX3_value.desc).map (fun d => d.parameters.length) = some 0 := by decide +kernel
theorem x3pd_isCounted : yX3_isCounted.cls = RX3 ∧ yX3_isCounted.cls ≠ "java/lang/invoke/MethodHandle" ∧ yX3_isCounted.cls ≠ "java/lang/invoke/VarHandle" ∧ (parseMethodDescriptor yX3_isCounted.desc).map (fun d => d.parameters.length) = some 1 := by decide +kernel
theorem x3pd_entry : yX3_entry.cls = RX3 ∧ yX3_entry.cls ≠ "java/lang/invoke/MethodHandle" ∧ yX3_entry.cls ≠ "java/lang/invoke/VarHandle" ∧ (parseMethodDescriptor yX3_entry.desc).map (fun d => d.parameters.length) = some 2 := by decide +kernel
theorem x3pd_wordOf : yX3_wordOf.cls ≠ "java/lang/invoke/MethodHandle" ∧ yX3_wordOf.cls ≠ "java/lang/invoke/VarHandle" ∧ (parseMethodDescriptor yX3_wordOf.desc).map (fun d => d.parameters.length) = some 1 := by decide +kernel
theorem x3pd_takes : yX3_takes.cls = RX3 ∧ yX3_takes.cls ≠ "java/lang/invoke/MethodHandle" ∧ yX3_takes.cls ≠ "java/lang/invoke/VarHandle" ∧ (parseMethodDescriptor yX3_takes.desc).map (fun d => d.parameters.length) = some 1 := by decide +kernel
theorem x3pd_test : yX3_test.cls = RX3 ∧ yX3_test.cls ≠ "java/lang/invoke/MethodHandle" ∧ yX3_test.cls ≠ "java/lang/invoke/VarHandle" ∧ (parseMethodDescriptor yX3_test.desc).map (fun d => d.parameters.length) = some 0 := by decide +kernel
theorem x3pd_fact : yX3_fact.cls = RX3 ∧ yX3_fact.cls ≠ "java/lang/invoke/MethodHandle" ∧ yX3_fact.cls ≠ "java/lang/invoke/VarHandle" ∧ (parseMethodDescriptor yX3_fact.desc).map (fun d => d.parameters.length) = some 0 := by decide +kernel
theorem x3pd_opens : yX3_opens.cls = RX3 ∧ yX3_opens.cls ≠ "java/lang/invoke/MethodHandle" ∧ yX3_opens.cls ≠ "java/lang/invoke/VarHandle" ∧ (parseMethodDescriptor yX3_opens.desc).map (fun d => d.parameters.length) = some 1 := by decide +kernel
theorem x3pd_compared : yX3_compared.cls = RX3 ∧ yX3_compared.cls ≠ "java/lang/invoke/MethodHandle" ∧ yX3_compared.cls ≠ "java/lang/invoke/VarHandle" ∧ (parseMethodDescriptor yX3_compared.desc).map (fun d => d.parameters.length) = some 0 := by decide +kernel
theorem x3pd_answers : yX3_answers.cls = RX3 ∧ yX3_answers.cls ≠ "java/lang/invoke/MethodHandle" ∧ yX3_answers.cls ≠ "java/lang/invoke/VarHandle" ∧ (parseMethodDescriptor yX3_answers.desc).map (fun d => d.parameters.length) = some 1 := by decide +kernel
theorem x3pd_top : yX3_top.cls = RX3 ∧ yX3_top.cls ≠ "java/lang/invoke/MethodHandle" ∧ yX3_top.cls ≠ "java/lang/invoke/VarHandle" ∧ (parseMethodDescriptor yX3_top.desc).map (fun d => d.parameters.length) = some 0 := by decide +kernel
theorem x3pd_owner : yX3_owner.cls = RX3 ∧ yX3_owner.cls ≠ "java/lang/invoke/MethodHandle" ∧ yX3_owner.cls ≠ "java/lang/invoke/VarHandle" ∧ (parseMethodDescriptor yX3_owner.desc).map (fun d => d.parameters.length) = some 2 := by decide +kernel
theorem x3pd_isOwner : yX3_isOwner.cls = RX3 ∧ yX3_isOwner.cls ≠ "java/lang/invoke/MethodHandle" ∧ yX3_isOwner.cls ≠ "java/lang/invoke/VarHandle" ∧ (parseMethodDescriptor yX3_isOwner.desc).map (fun d => d.parameters.length) = some 1 := by decide +kernel
theorem x3pd_allRopes : yX3_allRopes.cls = RX3 ∧ yX3_allRopes.cls ≠ "java/lang/invoke/MethodHandle" ∧ yX3_allRopes.cls ≠ "java/lang/invoke/VarHandle" ∧ (parseMethodDescriptor yX3_allRopes.desc).map (fun d => d.parameters.length) = some 0 := by decide +kernel
theorem x3pd_riddenBy : yX3_riddenBy.cls = RX3 ∧ yX3_riddenBy.cls ≠ "java/lang/invoke/MethodHandle" ∧ yX3_riddenBy.cls ≠ "java/lang/invoke/VarHandle" ∧ (parseMethodDescriptor yX3_riddenBy.desc).map (fun d => d.parameters.length) = some 2 := by decide +kernel
theorem x3pd_afloat : yX3_afloat.cls = RX3 ∧ yX3_afloat.cls ≠ "java/lang/invoke/MethodHandle" ∧ yX3_afloat.cls ≠ "java/lang/invoke/VarHandle" ∧ (parseMethodDescriptor yX3_afloat.desc).map (fun d => d.parameters.length) = some 0 := by decide +kernel
theorem x3pd_has : yX3_has.cls ≠ "java/lang/invoke/MethodHandle" ∧ yX3_has.cls ≠ "java/lang/invoke/VarHandle" ∧ (parseMethodDescriptor yX3_has.desc).map (fun d => d.parameters.length) = some 2 := by decide +kernel
theorem x3pd_hangsWith : yX3_hangsWith.cls = RX3 ∧ yX3_hangsWith.cls ≠ "java/lang/invoke/MethodHandle" ∧ yX3_hangsWith.cls ≠ "java/lang/invoke/VarHandle" ∧ (parseMethodDescriptor yX3_hangsWith.desc).map (fun d => d.parameters.length) = some 3 := by decide +kernel
theorem x3pd_least : yX3_least.cls ≠ "java/lang/invoke/MethodHandle" ∧ yX3_least.cls ≠ "java/lang/invoke/VarHandle" ∧ (parseMethodDescriptor yX3_least.desc).map (fun d => d.parameters.length) = some 1 := by decide +kernel
theorem x3pd_thing : yX3_thing.cls = RX3 ∧ yX3_thing.cls ≠ "java/lang/invoke/MethodHandle" ∧ yX3_thing.cls ≠ "java/lang/invoke/VarHandle" ∧ (parseMethodDescriptor yX3_thing.desc).map (fun d => d.parameters.length) = some 2 := by decide +kernel
theorem x3pd_isThing : yX3_isThing.cls = RX3 ∧ yX3_isThing.cls ≠ "java/lang/invoke/MethodHandle" ∧ yX3_isThing.cls ≠ "java/lang/invoke/VarHandle" ∧ (parseMethodDescriptor yX3_isThing.desc).map (fun d => d.parameters.length) = some 1 := by decide +kernel
theorem x3pd_pieceOf : yX3_pieceOf.cls = RX3 ∧ yX3_pieceOf.cls ≠ "java/lang/invoke/MethodHandle" ∧ yX3_pieceOf.cls ≠ "java/lang/invoke/VarHandle" ∧ (parseMethodDescriptor yX3_pieceOf.desc).map (fun d => d.parameters.length) = some 1 := by decide +kernel
theorem x3pd_rope : yX3_rope.cls = RX3 ∧ yX3_rope.cls ≠ "java/lang/invoke/MethodHandle" ∧ yX3_rope.cls ≠ "java/lang/invoke/VarHandle" ∧ (parseMethodDescriptor yX3_rope.desc).map (fun d => d.parameters.length) = some 2 := by decide +kernel
theorem x3pd_isRope : yX3_isRope.cls = RX3 ∧ yX3_isRope.cls ≠ "java/lang/invoke/MethodHandle" ∧ yX3_isRope.cls ≠ "java/lang/invoke/VarHandle" ∧ (parseMethodDescriptor yX3_isRope.desc).map (fun d => d.parameters.length) = some 1 := by decide +kernel
theorem x3pd_rapid : yX3_rapid.cls = RX3 ∧ yX3_rapid.cls ≠ "java/lang/invoke/MethodHandle" ∧ yX3_rapid.cls ≠ "java/lang/invoke/VarHandle" ∧ (parseMethodDescriptor yX3_rapid.desc).map (fun d => d.parameters.length) = some 1 := by decide +kernel
theorem x3pd_isRiver : yX3_isRiver.cls = RX3 ∧ yX3_isRiver.cls ≠ "java/lang/invoke/MethodHandle" ∧ yX3_isRiver.cls ≠ "java/lang/invoke/VarHandle" ∧ (parseMethodDescriptor yX3_isRiver.desc).map (fun d => d.parameters.length) = some 0 := by decide +kernel
theorem x3pd_forceAt : yX3_forceAt.cls = RX3 ∧ yX3_forceAt.cls ≠ "java/lang/invoke/MethodHandle" ∧ yX3_forceAt.cls ≠ "java/lang/invoke/VarHandle" ∧ (parseMethodDescriptor yX3_forceAt.desc).map (fun d => d.parameters.length) = some 1 := by decide +kernel
theorem x3pd_margin : yX3_margin.cls = RX3 ∧ yX3_margin.cls ≠ "java/lang/invoke/MethodHandle" ∧ yX3_margin.cls ≠ "java/lang/invoke/VarHandle" ∧ (parseMethodDescriptor yX3_margin.desc).map (fun d => d.parameters.length) = some 1 := by decide +kernel
theorem x3pd_isAfloat : yX3_isAfloat.cls = RX3 ∧ yX3_isAfloat.cls ≠ "java/lang/invoke/MethodHandle" ∧ yX3_isAfloat.cls ≠ "java/lang/invoke/VarHandle" ∧ (parseMethodDescriptor yX3_isAfloat.desc).map (fun d => d.parameters.length) = some 1 := by decide +kernel
theorem x3pd_marginOf : yX3_marginOf.cls = RX3 ∧ yX3_marginOf.cls ≠ "java/lang/invoke/MethodHandle" ∧ yX3_marginOf.cls ≠ "java/lang/invoke/VarHandle" ∧ (parseMethodDescriptor yX3_marginOf.desc).map (fun d => d.parameters.length) = some 2 := by decide +kernel
theorem x3pd_floatOf : yX3_floatOf.cls = RX3 ∧ yX3_floatOf.cls ≠ "java/lang/invoke/MethodHandle" ∧ yX3_floatOf.cls ≠ "java/lang/invoke/VarHandle" ∧ (parseMethodDescriptor yX3_floatOf.desc).map (fun d => d.parameters.length) = some 1 := by decide +kernel
theorem x3pd_weightOf : yX3_weightOf.cls = RX3 ∧ yX3_weightOf.cls ≠ "java/lang/invoke/MethodHandle" ∧ yX3_weightOf.cls ≠ "java/lang/invoke/VarHandle" ∧ (parseMethodDescriptor yX3_weightOf.desc).map (fun d => d.parameters.length) = some 1 := by decide +kernel
theorem x3pd_ridersOf : yX3_ridersOf.cls = RX3 ∧ yX3_ridersOf.cls ≠ "java/lang/invoke/MethodHandle" ∧ yX3_ridersOf.cls ≠ "java/lang/invoke/VarHandle" ∧ (parseMethodDescriptor yX3_ridersOf.desc).map (fun d => d.parameters.length) = some 2 := by decide +kernel
theorem x3pd_undo : yX3_undo.cls = RX3 ∧ yX3_undo.cls ≠ "java/lang/invoke/MethodHandle" ∧ yX3_undo.cls ≠ "java/lang/invoke/VarHandle" ∧ (parseMethodDescriptor yX3_undo.desc).map (fun d => d.parameters.length) = some 0 := by decide +kernel
theorem x3pd_movesAll : yX3_movesAll.cls = RX3 ∧ yX3_movesAll.cls ≠ "java/lang/invoke/MethodHandle" ∧ yX3_movesAll.cls ≠ "java/lang/invoke/VarHandle" ∧ (parseMethodDescriptor yX3_movesAll.desc).map (fun d => d.parameters.length) = some 2 := by decide +kernel
theorem x3pd_moves : yX3_moves.cls = RX3 ∧ yX3_moves.cls ≠ "java/lang/invoke/MethodHandle" ∧ yX3_moves.cls ≠ "java/lang/invoke/VarHandle" ∧ (parseMethodDescriptor yX3_moves.desc).map (fun d => d.parameters.length) = some 1 := by decide +kernel
theorem x3pd_movesRow : yX3_movesRow.cls = RX3 ∧ yX3_movesRow.cls ≠ "java/lang/invoke/MethodHandle" ∧ yX3_movesRow.cls ≠ "java/lang/invoke/VarHandle" ∧ (parseMethodDescriptor yX3_movesRow.desc).map (fun d => d.parameters.length) = some 1 := by decide +kernel
theorem x3pd_mile : yX3_mile.cls = RX3 ∧ yX3_mile.cls ≠ "java/lang/invoke/MethodHandle" ∧ yX3_mile.cls ≠ "java/lang/invoke/VarHandle" ∧ (parseMethodDescriptor yX3_mile.desc).map (fun d => d.parameters.length) = some 0 := by decide +kernel
theorem x3pd_milesLeft : yX3_milesLeft.cls = RX3 ∧ yX3_milesLeft.cls ≠ "java/lang/invoke/MethodHandle" ∧ yX3_milesLeft.cls ≠ "java/lang/invoke/VarHandle" ∧ (parseMethodDescriptor yX3_milesLeft.desc).map (fun d => d.parameters.length) = some 0 := by decide +kernel
theorem x3pd_keepsAct : yX3_keepsAct.cls = RX3 ∧ yX3_keepsAct.cls ≠ "java/lang/invoke/MethodHandle" ∧ yX3_keepsAct.cls ≠ "java/lang/invoke/VarHandle" ∧ (parseMethodDescriptor yX3_keepsAct.desc).map (fun d => d.parameters.length) = some 0 := by decide +kernel
theorem x3pd_goesMile : yX3_goesMile.cls = RX3 ∧ yX3_goesMile.cls ≠ "java/lang/invoke/MethodHandle" ∧ yX3_goesMile.cls ≠ "java/lang/invoke/VarHandle" ∧ (parseMethodDescriptor yX3_goesMile.desc).map (fun d => d.parameters.length) = some 0 := by decide +kernel
theorem x3pd_mileBy : yX3_mileBy.cls = RX3 ∧ yX3_mileBy.cls ≠ "java/lang/invoke/MethodHandle" ∧ yX3_mileBy.cls ≠ "java/lang/invoke/VarHandle" ∧ (parseMethodDescriptor yX3_mileBy.desc).map (fun d => d.parameters.length) = some 1 := by decide +kernel
theorem x3pd_ropeGoes : yX3_ropeGoes.cls = RX3 ∧ yX3_ropeGoes.cls ≠ "java/lang/invoke/MethodHandle" ∧ yX3_ropeGoes.cls ≠ "java/lang/invoke/VarHandle" ∧ (parseMethodDescriptor yX3_ropeGoes.desc).map (fun d => d.parameters.length) = some 1 := by decide +kernel
theorem x3pd_lands : yX3_lands.cls = RX3 ∧ yX3_lands.cls ≠ "java/lang/invoke/MethodHandle" ∧ yX3_lands.cls ≠ "java/lang/invoke/VarHandle" ∧ (parseMethodDescriptor yX3_lands.desc).map (fun d => d.parameters.length) = some 0 := by decide +kernel
theorem x3pd_ropesGoOf : yX3_ropesGoOf.cls = RX3 ∧ yX3_ropesGoOf.cls ≠ "java/lang/invoke/MethodHandle" ∧ yX3_ropesGoOf.cls ≠ "java/lang/invoke/VarHandle" ∧ (parseMethodDescriptor yX3_ropesGoOf.desc).map (fun d => d.parameters.length) = some 2 := by decide +kernel
theorem x3pd_bits : yX3_bits.cls ≠ "java/lang/invoke/MethodHandle" ∧ yX3_bits.cls ≠ "java/lang/invoke/VarHandle" ∧ (parseMethodDescriptor yX3_bits.desc).map (fun d => d.parameters.length) = some 1 := by decide +kernel
theorem x3pd_sinking : yX3_sinking.cls = RX3 ∧ yX3_sinking.cls ≠ "java/lang/invoke/MethodHandle" ∧ yX3_sinking.cls ≠ "java/lang/invoke/VarHandle" ∧ (parseMethodDescriptor yX3_sinking.desc).map (fun d => d.parameters.length) = some 1 := by decide +kernel
theorem x3pd_bind : yX3_bind.cls = RX3 ∧ yX3_bind.cls ≠ "java/lang/invoke/MethodHandle" ∧ yX3_bind.cls ≠ "java/lang/invoke/VarHandle" ∧ (parseMethodDescriptor yX3_bind.desc).map (fun d => d.parameters.length) = some 3 := by decide +kernel
theorem x3pd_canBind : yX3_canBind.cls = RX3 ∧ yX3_canBind.cls ≠ "java/lang/invoke/MethodHandle" ∧ yX3_canBind.cls ≠ "java/lang/invoke/VarHandle" ∧ (parseMethodDescriptor yX3_canBind.desc).map (fun d => d.parameters.length) = some 3 := by decide +kernel
theorem x3pd_isBound : yX3_isBound.cls = RX3 ∧ yX3_isBound.cls ≠ "java/lang/invoke/MethodHandle" ∧ yX3_isBound.cls ≠ "java/lang/invoke/VarHandle" ∧ (parseMethodDescriptor yX3_isBound.desc).map (fun d => d.parameters.length) = some 2 := by decide +kernel
theorem x3pd_binds : yX3_binds.cls = RX3 ∧ yX3_binds.cls ≠ "java/lang/invoke/MethodHandle" ∧ yX3_binds.cls ≠ "java/lang/invoke/VarHandle" ∧ (parseMethodDescriptor yX3_binds.desc).map (fun d => d.parameters.length) = some 3 := by decide +kernel
theorem x3pd_cut : yX3_cut.cls = RX3 ∧ yX3_cut.cls ≠ "java/lang/invoke/MethodHandle" ∧ yX3_cut.cls ≠ "java/lang/invoke/VarHandle" ∧ (parseMethodDescriptor yX3_cut.desc).map (fun d => d.parameters.length) = some 1 := by decide +kernel
theorem x3pd_saw : yX3_saw.cls = RX3 ∧ yX3_saw.cls ≠ "java/lang/invoke/MethodHandle" ∧ yX3_saw.cls ≠ "java/lang/invoke/VarHandle" ∧ (parseMethodDescriptor yX3_saw.desc).map (fun d => d.parameters.length) = some 1 := by decide +kernel
theorem x3pd_push : yX3_push.cls = RX3 ∧ yX3_push.cls ≠ "java/lang/invoke/MethodHandle" ∧ yX3_push.cls ≠ "java/lang/invoke/VarHandle" ∧ (parseMethodDescriptor yX3_push.desc).map (fun d => d.parameters.length) = some 2 := by decide +kernel
theorem x3pd_run : yX3_run.cls = RX3 ∧ yX3_run.cls ≠ "java/lang/invoke/MethodHandle" ∧ yX3_run.cls ≠ "java/lang/invoke/VarHandle" ∧ (parseMethodDescriptor yX3_run.desc).map (fun d => d.parameters.length) = some 3 := by decide +kernel
theorem x3pd_isRule : yX3_isRule.cls = RX3 ∧ yX3_isRule.cls ≠ "java/lang/invoke/MethodHandle" ∧ yX3_isRule.cls ≠ "java/lang/invoke/VarHandle" ∧ (parseMethodDescriptor yX3_isRule.desc).map (fun d => d.parameters.length) = some 1 := by decide +kernel
theorem x3pd_tiesBy : yX3_tiesBy.cls = RX3 ∧ yX3_tiesBy.cls ≠ "java/lang/invoke/MethodHandle" ∧ yX3_tiesBy.cls ≠ "java/lang/invoke/VarHandle" ∧ (parseMethodDescriptor yX3_tiesBy.desc).map (fun d => d.parameters.length) = some 2 := by decide +kernel
theorem x3pd_asks : yX3_asks.cls = RX3 ∧ yX3_asks.cls ≠ "java/lang/invoke/MethodHandle" ∧ yX3_asks.cls ≠ "java/lang/invoke/VarHandle" ∧ (parseMethodDescriptor yX3_asks.desc).map (fun d => d.parameters.length) = some 2 := by decide +kernel
theorem x3pd_wanted : yX3_wanted.cls = RX3 ∧ yX3_wanted.cls ≠ "java/lang/invoke/MethodHandle" ∧ yX3_wanted.cls ≠ "java/lang/invoke/VarHandle" ∧ (parseMethodDescriptor yX3_wanted.desc).map (fun d => d.parameters.length) = some 1 := by decide +kernel
theorem x3pd_answer : yX3_answer.cls = RX3 ∧ yX3_answer.cls ≠ "java/lang/invoke/MethodHandle" ∧ yX3_answer.cls ≠ "java/lang/invoke/VarHandle" ∧ (parseMethodDescriptor yX3_answer.desc).map (fun d => d.parameters.length) = some 3 := by decide +kernel
theorem x3pd_both : yX3_both.cls ≠ "java/lang/invoke/MethodHandle" ∧ yX3_both.cls ≠ "java/lang/invoke/VarHandle" ∧ (parseMethodDescriptor yX3_both.desc).map (fun d => d.parameters.length) = some 3 := by decide +kernel
theorem x3pd_truth : yX3_truth.cls ≠ "java/lang/invoke/MethodHandle" ∧ yX3_truth.cls ≠ "java/lang/invoke/VarHandle" ∧ (parseMethodDescriptor yX3_truth.desc).map (fun d => d.parameters.length) = some 1 := by decide +kernel
theorem x3pd_ahead : yX3_ahead.cls = RX3 ∧ yX3_ahead.cls ≠ "java/lang/invoke/MethodHandle" ∧ yX3_ahead.cls ≠ "java/lang/invoke/VarHandle" ∧ (parseMethodDescriptor yX3_ahead.desc).map (fun d => d.parameters.length) = some 2 := by decide +kernel
theorem x3pd_keepsAll : yX3_keepsAll.cls = RX3 ∧ yX3_keepsAll.cls ≠ "java/lang/invoke/MethodHandle" ∧ yX3_keepsAll.cls ≠ "java/lang/invoke/VarHandle" ∧ (parseMethodDescriptor yX3_keepsAll.desc).map (fun d => d.parameters.length) = some 0 := by decide +kernel
theorem x3pd_carriesAll : yX3_carriesAll.cls = RX3 ∧ yX3_carriesAll.cls ≠ "java/lang/invoke/MethodHandle" ∧ yX3_carriesAll.cls ≠ "java/lang/invoke/VarHandle" ∧ (parseMethodDescriptor yX3_carriesAll.desc).map (fun d => d.parameters.length) = some 2 := by decide +kernel
theorem x3pd_carryRow : yX3_carryRow.cls = RX3 ∧ yX3_carryRow.cls ≠ "java/lang/invoke/MethodHandle" ∧ yX3_carryRow.cls ≠ "java/lang/invoke/VarHandle" ∧ (parseMethodDescriptor yX3_carryRow.desc).map (fun d => d.parameters.length) = some 1 := by decide +kernel
theorem x3pd_thingsAt : yX3_thingsAt.cls = RX3 ∧ yX3_thingsAt.cls ≠ "java/lang/invoke/MethodHandle" ∧ yX3_thingsAt.cls ≠ "java/lang/invoke/VarHandle" ∧ (parseMethodDescriptor yX3_thingsAt.desc).map (fun d => d.parameters.length) = some 1 := by decide +kernel
theorem x3pd_laysBack : yX3_laysBack.cls = RX3 ∧ yX3_laysBack.cls ≠ "java/lang/invoke/MethodHandle" ∧ yX3_laysBack.cls ≠ "java/lang/invoke/VarHandle" ∧ (parseMethodDescriptor yX3_laysBack.desc).map (fun d => d.parameters.length) = some 0 := by decide +kernel
theorem x3pd_sinks : yX3_sinks.cls = RX3 ∧ yX3_sinks.cls ≠ "java/lang/invoke/MethodHandle" ∧ yX3_sinks.cls ≠ "java/lang/invoke/VarHandle" ∧ (parseMethodDescriptor yX3_sinks.desc).map (fun d => d.parameters.length) = some 1 := by decide +kernel
theorem x3pd_bearers : yX3_bearers.cls = RX3 ∧ yX3_bearers.cls ≠ "java/lang/invoke/MethodHandle" ∧ yX3_bearers.cls ≠ "java/lang/invoke/VarHandle" ∧ (parseMethodDescriptor yX3_bearers.desc).map (fun d => d.parameters.length) = some 2 := by decide +kernel
theorem x3pd_isBorne : yX3_isBorne.cls = RX3 ∧ yX3_isBorne.cls ≠ "java/lang/invoke/MethodHandle" ∧ yX3_isBorne.cls ≠ "java/lang/invoke/VarHandle" ∧ (parseMethodDescriptor yX3_isBorne.desc).map (fun d => d.parameters.length) = some 1 := by decide +kernel
theorem x3pd_plan : yX3_plan.cls = RX3 ∧ yX3_plan.cls ≠ "java/lang/invoke/MethodHandle" ∧ yX3_plan.cls ≠ "java/lang/invoke/VarHandle" ∧ (parseMethodDescriptor yX3_plan.desc).map (fun d => d.parameters.length) = some 1 := by decide +kernel
theorem x3pd_findsRows : yX3_findsRows.cls = RX3 ∧ yX3_findsRows.cls ≠ "java/lang/invoke/MethodHandle" ∧ yX3_findsRows.cls ≠ "java/lang/invoke/VarHandle" ∧ (parseMethodDescriptor yX3_findsRows.desc).map (fun d => d.parameters.length) = some 1 := by decide +kernel
theorem x3pd_laysLater : yX3_laysLater.cls = RX3 ∧ yX3_laysLater.cls ≠ "java/lang/invoke/MethodHandle" ∧ yX3_laysLater.cls ≠ "java/lang/invoke/VarHandle" ∧ (parseMethodDescriptor yX3_laysLater.desc).map (fun d => d.parameters.length) = some 1 := by decide +kernel
theorem x3pd_takesRow : yX3_takesRow.cls = RX3 ∧ yX3_takesRow.cls ≠ "java/lang/invoke/MethodHandle" ∧ yX3_takesRow.cls ≠ "java/lang/invoke/VarHandle" ∧ (parseMethodDescriptor yX3_takesRow.desc).map (fun d => d.parameters.length) = some 1 := by decide +kernel
theorem x3pd_areTogether : yX3_areTogether.cls = RX3 ∧ yX3_areTogether.cls ≠ "java/lang/invoke/MethodHandle" ∧ yX3_areTogether.cls ≠ "java/lang/invoke/VarHandle" ∧ (parseMethodDescriptor yX3_areTogether.desc).map (fun d => d.parameters.length) = some 1 := by decide +kernel
theorem x3pd_sawn : yX3_sawn.cls = RX3 ∧ yX3_sawn.cls ≠ "java/lang/invoke/MethodHandle" ∧ yX3_sawn.cls ≠ "java/lang/invoke/VarHandle" ∧ (parseMethodDescriptor yX3_sawn.desc).map (fun d => d.parameters.length) = some 2 := by decide +kernel
theorem x3pd_locks : yX3_locks.cls = RX3 ∧ yX3_locks.cls ≠ "java/lang/invoke/MethodHandle" ∧ yX3_locks.cls ≠ "java/lang/invoke/VarHandle" ∧ (parseMethodDescriptor yX3_locks.desc).map (fun d => d.parameters.length) = some 2 := by decide +kernel
theorem x3pd_findsLocks : yX3_findsLocks.cls = RX3 ∧ yX3_findsLocks.cls ≠ "java/lang/invoke/MethodHandle" ∧ yX3_findsLocks.cls ≠ "java/lang/invoke/VarHandle" ∧ (parseMethodDescriptor yX3_findsLocks.desc).map (fun d => d.parameters.length) = some 1 := by decide +kernel
theorem x3pd_locksUsed : yX3_locksUsed.cls = RX3 ∧ yX3_locksUsed.cls ≠ "java/lang/invoke/MethodHandle" ∧ yX3_locksUsed.cls ≠ "java/lang/invoke/VarHandle" ∧ (parseMethodDescriptor yX3_locksUsed.desc).map (fun d => d.parameters.length) = some 1 := by decide +kernel
theorem x3pd_loadOf : yX3_loadOf.cls = RX3 ∧ yX3_loadOf.cls ≠ "java/lang/invoke/MethodHandle" ∧ yX3_loadOf.cls ≠ "java/lang/invoke/VarHandle" ∧ (parseMethodDescriptor yX3_loadOf.desc).map (fun d => d.parameters.length) = some 2 := by decide +kernel
theorem x3pd_delta : yX3_delta.cls = RX3 ∧ yX3_delta.cls ≠ "java/lang/invoke/MethodHandle" ∧ yX3_delta.cls ≠ "java/lang/invoke/VarHandle" ∧ (parseMethodDescriptor yX3_delta.desc).map (fun d => d.parameters.length) = some 1 := by decide +kernel
theorem x3pd_ropeBetween : yX3_ropeBetween.cls = RX3 ∧ yX3_ropeBetween.cls ≠ "java/lang/invoke/MethodHandle" ∧ yX3_ropeBetween.cls ≠ "java/lang/invoke/VarHandle" ∧ (parseMethodDescriptor yX3_ropeBetween.desc).map (fun d => d.parameters.length) = some 2 := by decide +kernel
theorem x3pd_weak : yX3_weak.cls = RX3 ∧ yX3_weak.cls ≠ "java/lang/invoke/MethodHandle" ∧ yX3_weak.cls ≠ "java/lang/invoke/VarHandle" ∧ (parseMethodDescriptor yX3_weak.desc).map (fun d => d.parameters.length) = some 1 := by decide +kernel
theorem x3pd_isWeakThing : yX3_isWeakThing.cls = RX3 ∧ yX3_isWeakThing.cls ≠ "java/lang/invoke/MethodHandle" ∧ yX3_isWeakThing.cls ≠ "java/lang/invoke/VarHandle" ∧ (parseMethodDescriptor yX3_isWeakThing.desc).map (fun d => d.parameters.length) = some 1 := by decide +kernel
theorem x3pd_offer : yX3_offer.cls = RX3 ∧ yX3_offer.cls ≠ "java/lang/invoke/MethodHandle" ∧ yX3_offer.cls ≠ "java/lang/invoke/VarHandle" ∧ (parseMethodDescriptor yX3_offer.desc).map (fun d => d.parameters.length) = some 3 := by decide +kernel
theorem x3pd_take : yX3_take.cls = RX3 ∧ yX3_take.cls ≠ "java/lang/invoke/MethodHandle" ∧ yX3_take.cls ≠ "java/lang/invoke/VarHandle" ∧ (parseMethodDescriptor yX3_take.desc).map (fun d => d.parameters.length) = some 2 := by decide +kernel
theorem x3pd_milesWith : yX3_milesWith.cls = RX3 ∧ yX3_milesWith.cls ≠ "java/lang/invoke/MethodHandle" ∧ yX3_milesWith.cls ≠ "java/lang/invoke/VarHandle" ∧ (parseMethodDescriptor yX3_milesWith.desc).map (fun d => d.parameters.length) = some 2 := by decide +kernel
theorem x3pd_soaked : yX3_soaked.cls ≠ "java/lang/invoke/MethodHandle" ∧ yX3_soaked.cls ≠ "java/lang/invoke/VarHandle" ∧ (parseMethodDescriptor yX3_soaked.desc).map (fun d => d.parameters.length) = some 3 := by decide +kernel
theorem x3pd_game : yX3_game.cls = RX3 ∧ yX3_game.cls ≠ "java/lang/invoke/MethodHandle" ∧ yX3_game.cls ≠ "java/lang/invoke/VarHandle" ∧ (parseMethodDescriptor yX3_game.desc).map (fun d => d.parameters.length) = some 2 := by decide +kernel
theorem x3pd_winningFrom : yX3_winningFrom.cls = RX3 ∧ yX3_winningFrom.cls ≠ "java/lang/invoke/MethodHandle" ∧ yX3_winningFrom.cls ≠ "java/lang/invoke/VarHandle" ∧ (parseMethodDescriptor yX3_winningFrom.desc).map (fun d => d.parameters.length) = some 1 := by decide +kernel
theorem x3pd_seed : yX3_seed.cls = RX3 ∧ yX3_seed.cls ≠ "java/lang/invoke/MethodHandle" ∧ yX3_seed.cls ≠ "java/lang/invoke/VarHandle" ∧ (parseMethodDescriptor yX3_seed.desc).map (fun d => d.parameters.length) = some 1 := by decide +kernel
theorem x3pd_drawn : yX3_drawn.cls = RX3 ∧ yX3_drawn.cls ≠ "java/lang/invoke/MethodHandle" ∧ yX3_drawn.cls ≠ "java/lang/invoke/VarHandle" ∧ (parseMethodDescriptor yX3_drawn.desc).map (fun d => d.parameters.length) = some 3 := by decide +kernel
theorem x3pd_draws : yX3_draws.cls = RX3 ∧ yX3_draws.cls ≠ "java/lang/invoke/MethodHandle" ∧ yX3_draws.cls ≠ "java/lang/invoke/VarHandle" ∧ (parseMethodDescriptor yX3_draws.desc).map (fun d => d.parameters.length) = some 1 := by decide +kernel
theorem x3pd_count : yX3_count.cls = RX3 ∧ yX3_count.cls ≠ "java/lang/invoke/MethodHandle" ∧ yX3_count.cls ≠ "java/lang/invoke/VarHandle" ∧ (parseMethodDescriptor yX3_count.desc).map (fun d => d.parameters.length) = some 1 := by decide +kernel
theorem x3pd_pieces : yX3_pieces.cls = RX3 ∧ yX3_pieces.cls ≠ "java/lang/invoke/MethodHandle" ∧ yX3_pieces.cls ≠ "java/lang/invoke/VarHandle" ∧ (parseMethodDescriptor yX3_pieces.desc).map (fun d => d.parameters.length) = some 0 := by decide +kernel
theorem x3pd_image : yX3_image.cls = RX3 ∧ yX3_image.cls ≠ "java/lang/invoke/MethodHandle" ∧ yX3_image.cls ≠ "java/lang/invoke/VarHandle" ∧ (parseMethodDescriptor yX3_image.desc).map (fun d => d.parameters.length) = some 1 := by decide +kernel
theorem x3pd_back : yX3_back.cls = RX3 ∧ yX3_back.cls ≠ "java/lang/invoke/MethodHandle" ∧ yX3_back.cls ≠ "java/lang/invoke/VarHandle" ∧ (parseMethodDescriptor yX3_back.desc).map (fun d => d.parameters.length) = some 1 := by decide +kernel

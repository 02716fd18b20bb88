/-! the raft's functions, printed by gen/raft.py out of the bytecode -/
set_option maxRecDepth 100000
set_option maxHeartbeats 4000000
def g0_four_3 (v1 : Int32) : ((Nat → Bl) × Int32 → Option (Nat → Bl)) → (Nat → Bl) × Int32 → Option (Nat → Bl) := fun K3 s => match s with
  | (s0, v2) =>
    (if v2 < 0 then
 (some s0)
 else
 (chk (inB ((s0 0).1 8) 400) (ltv (upX (upX s0 0 (bA (s0 0) 7 (((s0 0).1 8)).toNatClampNeg (vp_nar .byte ((v1 >>> (v2 &&& 31))).toInt8.toInt32))) 0 (bI ((upX s0 0 (bA (s0 0) 7 (((s0 0).1 8)).toNatClampNeg (vp_nar .byte ((v1 >>> (v2 &&& 31))).toInt8.toInt32))) 0) 8 ((((upX s0 0 (bA (s0 0) 7 (((s0 0).1 8)).toNatClampNeg (vp_nar .byte ((v1 >>> (v2 &&& 31))).toInt8.toInt32))) 0).1 8) + (1 : Int32)))) (fun s1 =>
 (K3 (s1, (v2 + (-8 : Int32))))))))
def f0_four (s0 : (Nat → Bl)) (v1 : Int32) : Option (Nat → Bl) :=
    (loop (g0_four_3 v1) FU (s0, (24 : Int32)))
def f0_feed (s0 : (Nat → Bl)) (v1 : Int32) (v2 : Int32) (v3 : Int32) (v4 : Int32) (v5 : Int32) : Option (Int32 × (Nat → Bl)) :=
    (if (((s0 0).1 8) + (20 : Int32)) ≤ (400 : Int32) then
 (bnd (f0_four s0 v1) (fun s1 =>
 (bnd (f0_four s1 v2) (fun s2 =>
 (bnd (f0_four s2 v3) (fun s3 =>
 (bnd (f0_four s3 v4) (fun s4 =>
 (bnd (f0_four s4 v5) (fun s5 =>
 (some (((s5 0).1 8), s5))))))))))))
 else
 (some ((-1 : Int32), s0)))
def f0_end (s0 : (Nat → Bl)) (v1 : Int32) : Option (Int32 × (Nat → Bl)) :=
    (if v1 < 0 then
 (some ((-1 : Int32), s0))
 else
 (if v1 ≤ ((s0 0).1 8) then
 (some (v1, (upX s0 0 (bI (s0 0) 8 v1))))
 else
 (some ((-1 : Int32), s0))))
def f0_isOwner (s0 : (Nat → Bl)) (v1 : Int32) : Option Int32 :=
    (if (s0 0).1 0 = 0 then
 (some (0 : Int32))
 else
 (if v1 < 0 then
 (some (0 : Int32))
 else
 (chk (decide (¬ (s0 0).1 0 = 0)) (if ((s0 1).1 1) ≤ v1 then
 (some (0 : Int32))
 else
 (some (1 : Int32))))))
def f0_owner (s0 : (Nat → Bl)) (v1 : Int32) (v2 : Int32) : Option (Int32 × (Nat → Bl)) :=
    (bnd (f0_isOwner s0 v1) (fun r1 =>
 (if r1 = 0 then
 (some ((-1 : Int32), s0))
 else
 (if v2 = (0 : Int32) then
 (chk (decide (¬ (s0 0).1 0 = 0)) (chk (inB v1 6) (some (((s0 1).2.1 9 (v1).toNatClampNeg), s0))))
 else
 (if v2 = (1 : Int32) then
 (chk (decide (¬ (s0 0).1 0 = 0)) (chk (inB v1 6) (some (((s0 1).2.1 10 (v1).toNatClampNeg), s0))))
 else
 (if v2 = (2 : Int32) then
 (chk (decide (¬ (s0 0).1 0 = 0)) (chk (inB v1 6) (some (((s0 1).2.1 11 (v1).toNatClampNeg), s0))))
 else
 (if v2 = (3 : Int32) then
 (chk (decide (¬ (s0 0).1 0 = 0)) (chk (decide (¬ (s0 0).1 0 = 0)) (bnd (f1_allRopes (s0 1)) (fun r6 =>
 (bnd (f1_parts (s0 1) r6) (fun s7 =>
 (chk (decide (¬ ((upX s0 1 s7) 0).1 0 = 0)) (bnd (f1_rides ((upX s0 1 s7) 1) v1) (fun r8 =>
 (some (r8, (upX s0 1 s7))))))))))))
 else
 (some ((-1 : Int32), s0)))))))))
def f0_isThing (s0 : (Nat → Bl)) (v1 : Int32) : Option Int32 :=
    (if (s0 0).1 0 = 0 then
 (some (0 : Int32))
 else
 (if v1 < 0 then
 (some (0 : Int32))
 else
 (chk (decide (¬ (s0 0).1 0 = 0)) (if ((s0 1).1 2) ≤ v1 then
 (some (0 : Int32))
 else
 (some (1 : Int32))))))
def f0_isAfloat (s0 : (Nat → Bl)) (v1 : Int32) : Option Int32 :=
    (if (s0 0).1 0 = 0 then
 (some (0 : Int32))
 else
 (chk (decide (¬ (s0 0).1 0 = 0)) (bnd (f1_isAfloat (s0 1) v1) (fun r1 =>
 (if r1 = 0 then
 (some (0 : Int32))
 else
 (some (1 : Int32)))))))
def f0_thing (s0 : (Nat → Bl)) (v1 : Int32) (v2 : Int32) : Option Int32 :=
    (bnd (f0_isThing s0 v1) (fun r1 =>
 (if r1 = 0 then
 (some (-1 : Int32))
 else
 (if v2 = (0 : Int32) then
 (chk (decide (¬ (s0 0).1 0 = 0)) (chk (inB v1 8) (some ((s0 1).2.1 12 (v1).toNatClampNeg))))
 else
 (if v2 = (1 : Int32) then
 (chk (decide (¬ (s0 0).1 0 = 0)) (chk (inB v1 8) (some ((s0 1).2.1 13 (v1).toNatClampNeg))))
 else
 (if v2 = (2 : Int32) then
 (chk (decide (¬ (s0 0).1 0 = 0)) (chk (inB v1 8) (some ((s0 1).2.1 14 (v1).toNatClampNeg))))
 else
 (if v2 = (3 : Int32) then
 (chk (decide (¬ (s0 0).1 0 = 0)) (chk (inB v1 8) (some ((s0 1).2.1 15 (v1).toNatClampNeg))))
 else
 (if v2 = (4 : Int32) then
 (chk (decide (¬ (s0 0).1 0 = 0)) (chk (inB v1 8) (some ((s0 1).2.1 16 (v1).toNatClampNeg))))
 else
 (if v2 = (5 : Int32) then
 (bnd (f0_isAfloat s0 v1) (fun r8 =>
 (if r8 = 0 then
 (some (0 : Int32))
 else
 (chk (decide (¬ (s0 0).1 0 = 0)) (bnd (f1_pieceOf (s0 1) v1) (fun r9 =>
 (some r9)))))))
 else
 (some (-1 : Int32)))))))))))
def f0_isRope (s0 : (Nat → Bl)) (v1 : Int32) : Option Int32 :=
    (if (s0 0).1 0 = 0 then
 (some (0 : Int32))
 else
 (if v1 < 0 then
 (some (0 : Int32))
 else
 (chk (decide (¬ (s0 0).1 0 = 0)) (if ((s0 1).1 5) ≤ v1 then
 (some (0 : Int32))
 else
 (some (1 : Int32))))))
def f0_rope (s0 : (Nat → Bl)) (v1 : Int32) (v2 : Int32) : Option Int32 :=
    (bnd (f0_isRope s0 v1) (fun r1 =>
 (if r1 = 0 then
 (some (-1 : Int32))
 else
 (if v2 = (0 : Int32) then
 (chk (decide (¬ (s0 0).1 0 = 0)) (chk (inB v1 12) (some ((s0 1).2.1 18 (v1).toNatClampNeg))))
 else
 (if v2 = (1 : Int32) then
 (chk (decide (¬ (s0 0).1 0 = 0)) (chk (inB v1 12) (some ((s0 1).2.1 19 (v1).toNatClampNeg))))
 else
 (if v2 = (2 : Int32) then
 (chk (decide (¬ (s0 0).1 0 = 0)) (chk (inB v1 12) (some ((s0 1).2.1 20 (v1).toNatClampNeg))))
 else
 (some (-1 : Int32))))))))
def f0_rapid (s0 : (Nat → Bl)) (v1 : Int32) : Option Int32 :=
    (if (s0 0).1 0 = 0 then
 (some (-1 : Int32))
 else
 (chk (decide (¬ (s0 0).1 0 = 0)) (bnd (f0_in (v1).toInt64 (0 : Int64) (((s0 1).1 0)).toInt64) (fun r1 =>
 (if r1 = 0 then
 (some (-1 : Int32))
 else
 (chk (decide (¬ (s0 0).1 0 = 0)) (bnd (f1_forceAt (s0 1) v1) (fun r2 =>
 (some r2)))))))))
def f0_margin (s0 : (Nat → Bl)) (v1 : Int32) : Option (Int32 × (Nat → Bl)) :=
    (bnd (f0_isAfloat s0 v1) (fun r1 =>
 (if r1 = 0 then
 (some ((-10000 : Int32), s0))
 else
 (chk (decide (¬ (s0 0).1 0 = 0)) (bnd2 (f1_marginOf (s0 1) v1) (fun r2 s2 =>
 (some (r2, (upX s0 1 s2)))))))))
def f0_undo (s0 : (Nat → Bl)) : Option (Int32 × (Nat → Bl)) :=
    (if (s0 0).1 0 = 0 then
 (some ((-2 : Int32), s0))
 else
 (chk (decide (¬ (s0 0).1 0 = 0)) (if ((s0 1).1 7) = 0 then
 (some ((-2 : Int32), s0))
 else
 (chk (decide (¬ (s0 0).1 0 = 0)) (chk (decide (¬ ((upX s0 1 (bI (s0 1) 7 (((s0 1).1 7) - (1 : Int32)))) 0).1 0 = 0)) (chk (decide (¬ ((upX s0 1 (bI (s0 1) 7 (((s0 1).1 7) - (1 : Int32)))) 0).1 0 = 0)) (bnd (f1_takes ((upX s0 1 (bI (s0 1) 7 (((s0 1).1 7) - (1 : Int32)))) 1) (((upX s0 1 (bI (s0 1) 7 (((s0 1).1 7) - (1 : Int32)))) 1).1 7)) (fun s1 =>
 (chk (decide (¬ ((upX (upX s0 1 (bI (s0 1) 7 (((s0 1).1 7) - (1 : Int32)))) 1 s1) 0).1 0 = 0)) (some ((((upX (upX s0 1 (bI (s0 1) 7 (((s0 1).1 7) - (1 : Int32)))) 1 s1) 1).1 7), (upX (upX s0 1 (bI (s0 1) 7 (((s0 1).1 7) - (1 : Int32)))) 1 s1))))))))))))
def f0_keepsAct (s0 : (Nat → Bl)) : Option (Nat → Bl) :=
    (chk (decide (¬ (s0 0).1 0 = 0)) (if ((s0 1).1 7) = (20 : Int32) then
 (chk (decide (¬ (s0 0).1 0 = 0)) (chk (decide (¬ (s0 0).1 0 = 0)) (chk (decide (¬ ((upX s0 1 (bS (s0 1) 24 (va_cpy ((s0 1).2.1 24) ((s0 1).2.1 24) 77 0 1463))) 0).1 0 = 0)) (ltv (upX (upX s0 1 (bS (s0 1) 24 (va_cpy ((s0 1).2.1 24) ((s0 1).2.1 24) 77 0 1463))) 1 (bI ((upX s0 1 (bS (s0 1) 24 (va_cpy ((s0 1).2.1 24) ((s0 1).2.1 24) 77 0 1463))) 1) 7 ((((upX s0 1 (bS (s0 1) 24 (va_cpy ((s0 1).2.1 24) ((s0 1).2.1 24) 77 0 1463))) 1).1 7) - (1 : Int32)))) (fun s2 =>
 (chk (decide (¬ (s2 0).1 0 = 0)) (chk (decide (¬ (s2 0).1 0 = 0)) (bnd (f1_lays (s2 1) ((s2 1).1 7)) (fun s3 =>
 (chk (decide (¬ ((upX s2 1 s3) 0).1 0 = 0)) (some (upX (upX s2 1 s3) 1 (bI ((upX s2 1 s3) 1) 7 ((((upX s2 1 s3) 1).1 7) + (1 : Int32)))))))))))))))
 else
 (chk (decide (¬ (s0 0).1 0 = 0)) (chk (decide (¬ (s0 0).1 0 = 0)) (bnd (f1_lays (s0 1) ((s0 1).1 7)) (fun s1 =>
 (chk (decide (¬ ((upX s0 1 s1) 0).1 0 = 0)) (some (upX (upX s0 1 s1) 1 (bI ((upX s0 1 s1) 1) 7 ((((upX s0 1 s1) 1).1 7) + (1 : Int32))))))))))))
def f0_mile (s0 : (Nat → Bl)) : Option (Int32 × (Nat → Bl)) :=
    (if (s0 0).1 0 = 0 then
 (some ((-1 : Int32), s0))
 else
 (chk (decide (¬ (s0 0).1 0 = 0)) (chk (decide (¬ (s0 0).1 0 = 0)) (if ((s0 1).1 6) = ((s0 1).1 0) then
 (some ((-1 : Int32), s0))
 else
 (bnd (f0_keepsAct s0) (fun s1 =>
 (chk (decide (¬ (s1 0).1 0 = 0)) (bnd2 (f1_goesOn (s1 1)) (fun r2 s2 =>
 (some (r2, (upX s1 1 s2))))))))))))
def f0_bind (s0 : (Nat → Bl)) (v1 : Int32) (v2 : Int32) (v3 : Int32) : Option (Int32 × (Nat → Bl)) :=
    (bnd (f0_isAfloat s0 v1) (fun r1 =>
 (if r1 = 0 then
 (some ((-1 : Int32), s0))
 else
 (bnd (f0_isAfloat s0 v2) (fun r2 =>
 (if r2 = 0 then
 (some ((-1 : Int32), s0))
 else
 (if v1 = v2 then
 (some ((-1 : Int32), s0))
 else
 (bnd (f0_in (v3).toInt64 (1 : Int64) (9 : Int64)) (fun r3 =>
 (if r3 = 0 then
 (some ((-1 : Int32), s0))
 else
 (chk (decide (¬ (s0 0).1 0 = 0)) (bnd (f1_ropeOf (s0 1) v1 v2) (fun r4 =>
 (if r4 = (-1 : Int32) then
 (chk (decide (¬ (s0 0).1 0 = 0)) (if ((s0 1).1 4) < v3 then
 (some ((-1 : Int32), s0))
 else
 (chk (decide (¬ (s0 0).1 0 = 0)) (if ((s0 1).1 5) = (12 : Int32) then
 (some ((-1 : Int32), s0))
 else
 (bnd (f0_keepsAct s0) (fun s5 =>
 (chk (decide (¬ (s5 0).1 0 = 0)) (bnd (f1_binds (s5 1) v1 v2 v3) (fun s6 =>
 (chk (decide (¬ ((upX s5 1 s6) 0).1 0 = 0)) (chk (decide (¬ ((upX (upX s5 1 s6) 1 (bI ((upX s5 1 s6) 1) 4 ((((upX s5 1 s6) 1).1 4) - v3))) 0).1 0 = 0)) (some (((((upX (upX s5 1 s6) 1 (bI ((upX s5 1 s6) 1) 4 ((((upX s5 1 s6) 1).1 4) - v3))) 1).1 5) - (1 : Int32)), (upX (upX s5 1 s6) 1 (bI ((upX s5 1 s6) 1) 4 ((((upX s5 1 s6) 1).1 4) - v3))))))))))))))))
 else
 (some ((-1 : Int32), s0))))))))))))))))
def f0_cut (s0 : (Nat → Bl)) (v1 : Int32) : Option (Int32 × (Nat → Bl)) :=
    (bnd (f0_isRope s0 v1) (fun r1 =>
 (if r1 = 0 then
 (some ((-1 : Int32), s0))
 else
 (bnd (f0_keepsAct s0) (fun s2 =>
 (chk (decide (¬ (s2 0).1 0 = 0)) (chk (decide (¬ (s2 0).1 0 = 0)) (bnd2 (f1_loses (s2 1) ((1 : Int32) <<< (v1 &&& 31))) (fun r3 s3 =>
 (chk (decide (¬ ((upX (upX s2 1 s3) 1 (bI ((upX s2 1 s3) 1) 4 (((s2 1).1 4) + r3))) 0).1 0 = 0)) (some ((((upX (upX s2 1 s3) 1 (bI ((upX s2 1 s3) 1) 4 (((s2 1).1 4) + r3))) 1).1 4), (upX (upX s2 1 s3) 1 (bI ((upX s2 1 s3) 1) 4 (((s2 1).1 4) + r3)))))))))))))))
def f0_saw (s0 : (Nat → Bl)) (v1 : Int32) : Option (Int32 × (Nat → Bl)) :=
    (bnd (f0_isAfloat s0 v1) (fun r1 =>
 (if r1 = 0 then
 (some ((-1 : Int32), s0))
 else
 (bnd (f0_keepsAct s0) (fun s2 =>
 (chk (decide (¬ (s2 0).1 0 = 0)) (bnd (f1_ropesAt (s2 1) ((1 : Int32) <<< (v1 &&& 31))) (fun r3 =>
 (chk (decide (¬ (s2 0).1 0 = 0)) (bnd2 (f1_loses (s2 1) r3) (fun r4 s4 =>
 (bnd (fJ8_bitCount r3) (fun r5 =>
 (some (r5, (upX s2 1 s4))))))))))))))))
def f0_push (s0 : (Nat → Bl)) (v1 : Int32) (v2 : Int32) : Option (Int32 × (Nat → Bl)) :=
    (bnd (f0_isAfloat s0 v1) (fun r1 =>
 (if r1 = 0 then
 (some ((-1 : Int32), s0))
 else
 (bnd (f0_isOwner s0 v2) (fun r2 =>
 (if r2 = 0 then
 (some ((-1 : Int32), s0))
 else
 (chk (decide (¬ (s0 0).1 0 = 0)) (chk (inB v1 8) (if ((s0 1).2.1 12 (v1).toNatClampNeg) = v2 then
 (some ((-1 : Int32), s0))
 else
 (bnd (f0_keepsAct s0) (fun s3 =>
 (chk (decide (¬ (s3 0).1 0 = 0)) (chk (inB v1 8) (chk (decide (¬ (s3 0).1 0 = 0)) (chk (inB v1 8) (some (((s3 1).2.1 12 (v1).toNatClampNeg), (upX s3 1 (bA (s3 1) 12 (v1).toNatClampNeg v2)))))))))))))))))))
def g0_thingsIn_4 (s0 : (Nat → Bl)) (v1 : Int32) : (Int32 × Int32 → Option Int32) → Int32 × Int32 → Option Int32 := fun K4 s => match s with
  | (v2, v3) =>
    (if ((s0 2).1 2) ≤ v3 then
 (some v2)
 else
 (chk (inB v3 8) (if ((s0 2).2.1 16 (v3).toNatClampNeg) = v1 then
 (K4 ((v2 ||| ((1 : Int32) <<< (v3 &&& 31))), (v3 + (1 : Int32))))
 else
 (K4 ((v2 ||| (0 : Int32)), (v3 + (1 : Int32)))))))
def f0_thingsIn (s0 : (Nat → Bl)) (v1 : Int32) : Option Int32 :=
    (loop (g0_thingsIn_4 s0 v1) FU ((0 : Int32), (0 : Int32)))
def g0_ahead_95 (s0 : (Nat → Bl)) : (Int32 × Int32 → Option (Int32 × (Nat → Bl))) → Int32 × Int32 → Option (Int32 × (Nat → Bl)) := fun K95 s => match s with
  | (v4, v5) =>
    (if ((s0 2).1 1) ≤ v5 then
 (some (v4, s0))
 else
 (chk (inB v5 6) (if ((s0 2).2.1 11 (v5).toNatClampNeg) = (2 : Int32) then
 (K95 ((v4 ||| ((1 : Int32) <<< (v5 &&& 31))), (v5 + (1 : Int32))))
 else
 (K95 ((v4 ||| (0 : Int32)), (v5 + (1 : Int32)))))))
def g0_ahead_61 (v1 : Int32) (v2 : Int32) : ((Nat → Bl) × Int32 → Option (Int32 × (Nat → Bl))) → (Nat → Bl) × Int32 → Option (Int32 × (Nat → Bl)) := fun K61 s => match s with
  | (s0, v4) =>
    (if v1 ≤ v4 then
 (if (3 : Int32) ≤ v2 then
 (loop (g0_ahead_95 s0) FU ((0 : Int32), (0 : Int32)))
 else
 (bnd (f0_thingsIn s0 v2) (fun r4 =>
 (some (r4, s0)))))
 else
 (bnd2 (f1_goesOn (s0 2)) (fun r5 s5 =>
 (K61 ((upX s0 2 s5), (v4 + (1 : Int32)))))))
def f0_ahead (s0 : (Nat → Bl)) (v1 : Int32) (v2 : Int32) : Option (Int32 × (Nat → Bl)) :=
    (if (s0 0).1 0 = 0 then
 (some ((-1 : Int32), s0))
 else
 (chk (decide (¬ (s0 0).1 0 = 0)) (chk (decide (¬ (s0 0).1 0 = 0)) (bnd (f0_in (v1).toInt64 (0 : Int64) ((((s0 1).1 0) - ((s0 1).1 6))).toInt64) (fun r1 =>
 (if r1 = 0 then
 (some ((-1 : Int32), s0))
 else
 (bnd (f0_in (v2).toInt64 (0 : Int64) (3 : Int64)) (fun r2 =>
 (if r2 = 0 then
 (some ((-1 : Int32), s0))
 else
 (chk (decide (¬ (s0 0).1 0 = 0)) (bnd (f1_copies (s0 2) (s0 1)) (fun s3 =>
 (loop (g0_ahead_61 v1 v2) FU ((upX s0 2 s3), (0 : Int32)))))))))))))))
def g0_sinks_22 (v1 : Int32) : ((Nat → Bl) → Option (Int32 × (Nat → Bl))) → (Nat → Bl) → Option (Int32 × (Nat → Bl)) := fun K22 s0 =>
    (chk (inB v1 8) (if ((s0 2).2.1 16 (v1).toNatClampNeg) = 0 then
 (if ((s0 2).1 0) ≤ ((s0 2).1 6) then
 (chk (inB v1 8) (if ((s0 2).2.1 16 (v1).toNatClampNeg) = (2 : Int32) then
 (chk (inB v1 8) (some (((s0 2).2.1 17 (v1).toNatClampNeg), s0)))
 else
 (some ((-2 : Int32), s0))))
 else
 (bnd2 (f1_goesOn (s0 2)) (fun r3 s3 =>
 (K22 (upX s0 2 s3)))))
 else
 (chk (inB v1 8) (if ((s0 2).2.1 16 (v1).toNatClampNeg) = (2 : Int32) then
 (chk (inB v1 8) (some (((s0 2).2.1 17 (v1).toNatClampNeg), s0)))
 else
 (some ((-2 : Int32), s0))))))
def f0_sinks (s0 : (Nat → Bl)) (v1 : Int32) : Option (Int32 × (Nat → Bl)) :=
    (bnd (f0_isThing s0 v1) (fun r1 =>
 (if r1 = 0 then
 (some ((-1 : Int32), s0))
 else
 (chk (decide (¬ (s0 0).1 0 = 0)) (bnd (f1_copies (s0 2) (s0 1)) (fun s2 =>
 (loop (g0_sinks_22 v1) FU (upX s0 2 s2))))))))
def f0_areAfloat (s0 : (Nat → Bl)) (v1 : Int32) : Option Int32 :=
    (if (s0 0).1 0 = 0 then
 (some (0 : Int32))
 else
 (if v1 < 0 then
 (some (0 : Int32))
 else
 (chk (decide (¬ (s0 0).1 0 = 0)) (bnd (f1_afloat (s0 1)) (fun r1 =>
 (if (v1 &&& (r1 ^^^ (-1 : Int32))) = 0 then
 (some (1 : Int32))
 else
 (some (0 : Int32))))))))
def g0_bearers_77 (s0 : (Nat → Bl)) (K39 : Int32 × Int32 → Option Int32) (v1 : Int32) (v2 : Int32) (v3 : Int32) (v4 : Int32) (v5 : Int32) : Option Int32 :=
    (chk (decide (¬ (s0 0).1 0 = 0)) (bnd (f1_bearsOf (s0 1) (v1 ||| v5)) (fun r5 =>
 (if r5 < 0 then
 (K39 (v4, (v5 + (1 : Int32))))
 else
 (K39 (v5, (v5 + (1 : Int32))))))))
def g0_bearers_39 (s0 : (Nat → Bl)) (v1 : Int32) (v2 : Int32) (v3 : Int32) : (Int32 × Int32 → Option Int32) → Int32 × Int32 → Option Int32 := fun K39 s => match s with
  | (v4, v5) =>
    (if v3 < v5 then
 (if v4 = (-2 : Int32) then
 (some v4)
 else
 (if v2 = (1 : Int32) then
 (some v4)
 else
 (bnd (fJ8_bitCount v4) (fun r4 =>
 (some r4)))))
 else
 (if (v5 &&& (v3 ^^^ (-1 : Int32))) = 0 then
 (if v4 = (-2 : Int32) then
 (g0_bearers_77 s0 K39 v1 v2 v3 v4 v5)
 else
 (bnd (fJ8_bitCount v5) (fun r6 =>
 (bnd (fJ8_bitCount v4) (fun r7 =>
 (if r6 < r7 then
 (g0_bearers_77 s0 K39 v1 v2 v3 v4 v5)
 else
 (K39 (v4, (v5 + (1 : Int32))))))))))
 else
 (K39 (v4, (v5 + (1 : Int32))))))
def f0_bearers (s0 : (Nat → Bl)) (v1 : Int32) (v2 : Int32) : Option Int32 :=
    (bnd (f0_areAfloat s0 v1) (fun r1 =>
 (if r1 = 0 then
 (some (-1 : Int32))
 else
 (bnd (f0_in (v2).toInt64 (0 : Int64) (1 : Int64)) (fun r2 =>
 (if r2 = 0 then
 (some (-1 : Int32))
 else
 (chk (decide (¬ (s0 0).1 0 = 0)) (bnd (f1_afloat (s0 1)) (fun r3 =>
 (loop (g0_bearers_39 s0 v1 v2 (r3 &&& (v1 ^^^ (-1 : Int32)))) FU ((-2 : Int32), (0 : Int32))))))))))))
def g0_bearsThen_5 (s0 : (Nat → Bl)) (v1 : Int32) (v2 : Int32) : (Int32 × Int32 → Option Int32) → Int32 × Int32 → Option Int32 := fun K5 s => match s with
  | (v3, v4) =>
    (chk (decide (¬ (s0 0).1 0 = 0)) (if ((s0 1).1 2) ≤ v4 then
 (some v3)
 else
 (bnd (f0_has v1 v4) (fun r1 =>
 (if r1 = 0 then
 (K5 ((v3 + (0 : Int32)), (v4 + (1 : Int32))))
 else
 (chk (decide (¬ (s0 0).1 0 = 0)) (chk (inB v4 8) (chk (decide (¬ (s0 0).1 0 = 0)) (chk (inB v4 8) (chk (decide (¬ (s0 0).1 0 = 0)) (chk (inB v4 8) (ltv (v3 + ((if (0 : Int32) < (((s0 1).2.1 14 (v4).toNatClampNeg) - (v2 * ((s0 1).2.1 15 (v4).toNatClampNeg))) then (((s0 1).2.1 14 (v4).toNatClampNeg) - (v2 * ((s0 1).2.1 15 (v4).toNatClampNeg))) else (0 : Int32)) - ((s0 1).2.1 13 (v4).toNatClampNeg))) (fun y2 =>
 (K5 (y2, (v4 + (1 : Int32)))))))))))))))))
def f0_bearsThen (s0 : (Nat → Bl)) (v1 : Int32) (v2 : Int32) : Option Int32 :=
    (loop (g0_bearsThen_5 s0 v1 v2) FU ((0 : Int32), (0 : Int32)))
def g0_gathersTogether_188 (K22 : (Nat → Bl) × Int32 × Int32 → Option (Int32 × (Nat → Bl))) (s0 : (Nat → Bl)) (v1 : Int32) (v3 : Int32) (v5 : Int32) (z0 : Int32) (z1 : Int32) : Option (Int32 × (Nat → Bl)) :=
    (chk (inB ((s0 0).1 18) 6) (ltv (upX (upX s0 0 (bA (s0 0) 17 (((s0 0).1 18)).toNatClampNeg v5)) 0 (bI ((upX s0 0 (bA (s0 0) 17 (((s0 0).1 18)).toNatClampNeg v5)) 0) 18 ((((upX s0 0 (bA (s0 0) 17 (((s0 0).1 18)).toNatClampNeg v5)) 0).1 18) + (1 : Int32)))) (fun s3 =>
 (K22 (s3, (z1 &&& z0), (v3 + (1 : Int32)))))))
def g0_gathersTogether_126 (K22 : (Nat → Bl) × Int32 × Int32 → Option (Int32 × (Nat → Bl))) (K68 : Int32 × Int32 × Int32 → Option (Int32 × (Nat → Bl))) (s0 : (Nat → Bl)) (v1 : Int32) (v2 : Int32) (v3 : Int32) (v4 : Int32) (v5 : Int32) (v7 : Int32) (v8 : Int32) (z0 : Int32) (z1 : Int32) : Option (Int32 × (Nat → Bl)) :=
    (if v8 ≤ v4 then
 (K68 ((v5 ||| (0 : Int32)), (z1 ||| z0), (v7 + (1 : Int32))))
 else
 (K68 ((v5 ||| ((1 : Int32) <<< (v7 &&& 31))), (z1 ||| z0), (v7 + (1 : Int32)))))
def g0_gathersTogether_68 (s0 : (Nat → Bl)) (v1 : Int32) (v2 : Int32) (v3 : Int32) (v4 : Int32) (K22 : (Nat → Bl) × Int32 × Int32 → Option (Int32 × (Nat → Bl))) : (Int32 × Int32 × Int32 → Option (Int32 × (Nat → Bl))) → Int32 × Int32 × Int32 → Option (Int32 × (Nat → Bl)) := fun K68 s => match s with
  | (v5, v6, v7) =>
    (chk (decide (¬ (s0 0).1 0 = 0)) (if ((s0 1).1 2) ≤ v7 then
 (if v6 = 0 then
 (K22 (s0, v2, (v3 + (1 : Int32))))
 else
 (chk (decide (¬ (s0 0).1 0 = 0)) (bnd (f0_bearsThen s0 v5 (v4 - ((s0 1).1 6))) (fun r2 =>
 (if r2 < 0 then
 (g0_gathersTogether_188 K22 s0 v1 v3 v5 (0 : Int32) v2)
 else
 (g0_gathersTogether_188 K22 s0 v1 v3 v5 (1 : Int32) v2))))))
 else
 (bnd (f0_has v1 v7) (fun r4 =>
 (if r4 = 0 then
 (K68 (v5, v6, (v7 + (1 : Int32))))
 else
 (chk (decide (¬ (s0 0).1 0 = 0)) (chk (decide (¬ (s0 0).1 0 = 0)) (chk (inB v7 8) (chk (inB ((s0 1).2.1 12 (v7).toNatClampNeg) 6) (if ((s0 1).2.1 9 (((s0 1).2.1 12 (v7).toNatClampNeg)).toNatClampNeg) = v4 then
 (g0_gathersTogether_126 K22 K68 s0 v1 v2 v3 v4 v5 v7 ((s0 1).2.1 9 (((s0 1).2.1 12 (v7).toNatClampNeg)).toNatClampNeg) (1 : Int32) v6)
 else
 (g0_gathersTogether_126 K22 K68 s0 v1 v2 v3 v4 v5 v7 ((s0 1).2.1 9 (((s0 1).2.1 12 (v7).toNatClampNeg)).toNatClampNeg) (0 : Int32) v6)))))))))))
def g0_gathersTogether_22 (v1 : Int32) : ((Nat → Bl) × Int32 × Int32 → Option (Int32 × (Nat → Bl))) → (Nat → Bl) × Int32 × Int32 → Option (Int32 × (Nat → Bl)) := fun K22 s => match s with
  | (s0, v2, v3) =>
    (chk (decide (¬ (s0 0).1 0 = 0)) (if ((s0 1).1 1) ≤ v3 then
 (chk (isB v2) (some (v2, s0)))
 else
 (chk (decide (¬ (s0 0).1 0 = 0)) (chk (inB v3 6) (chk (decide (¬ (s0 0).1 0 = 0)) (if ((s0 1).1 6) < ((s0 1).2.1 9 (v3).toNatClampNeg) then
 (loop (g0_gathersTogether_68 s0 v1 v2 v3 ((s0 1).2.1 9 (v3).toNatClampNeg) K22) FU ((0 : Int32), (0 : Int32), (0 : Int32)))
 else
 (K22 (s0, v2, (v3 + (1 : Int32))))))))))
def f0_gathersTogether (s0 : (Nat → Bl)) (v1 : Int32) : Option (Int32 × (Nat → Bl)) :=
    (bnd (f0_bearsThen (upX s0 0 (bI (s0 0) 18 (0 : Int32))) v1 (0 : Int32)) (fun r1 =>
 (if r1 < 0 then
 (loop (g0_gathersTogether_22 v1) FU ((upX s0 0 (bI (s0 0) 18 (0 : Int32))), (0 : Int32), (0 : Int32)))
 else
 (loop (g0_gathersTogether_22 v1) FU ((upX s0 0 (bI (s0 0) 18 (0 : Int32))), (1 : Int32), (0 : Int32))))))
def g0_standTogether_7 (s0 : (Nat → Bl)) (v1 : Int32) : (Int32 × Int32 × Int32 → Option Int32) → Int32 × Int32 × Int32 → Option Int32 := fun K7 s => match s with
  | (v2, v3, v4) =>
    (if ((s0 0).1 19) ≤ v4 then
 (if v2 = (-1 : Int32) then
 (some (1 : Int32))
 else
 (bnd (fJ8_bitCount v1) (fun r1 =>
 (if ((v3 - v2) + (1 : Int32)) = r1 then
 (some (1 : Int32))
 else
 (some (0 : Int32))))))
 else
 (chk (inB v4 7) (bnd (f0_has v1 ((s0 0).2.1 15 (v4).toNatClampNeg)) (fun r2 =>
 (if r2 = 0 then
 (K7 (v2, v3, (v4 + (1 : Int32))))
 else
 (if v2 = (-1 : Int32) then
 (K7 (v4, v4, (v4 + (1 : Int32))))
 else
 (K7 (v2, v4, (v4 + (1 : Int32))))))))))
def f0_standTogether (s0 : (Nat → Bl)) (v1 : Int32) : Option Int32 :=
    (loop (g0_standTogether_7 s0 v1) FU ((-1 : Int32), (-1 : Int32), (0 : Int32)))
def g0_triesRows_69 (rec : (Nat → Bl) → Int32 → Int32 → Option (Nat → Bl)) (v1 : Int32) (v2 : Int32) : ((Nat → Bl) × Int32 → Option (Nat → Bl)) → (Nat → Bl) × Int32 → Option (Nat → Bl) := fun K69 s => match s with
  | (s0, v3) =>
    (chk (decide (¬ (s0 0).1 0 = 0)) (if ((s0 1).1 2) ≤ v3 then
 (some s0)
 else
 (bnd (f0_has v2 v3) (fun r1 =>
 (if r1 = 0 then
 (K69 (s0, (v3 + (1 : Int32))))
 else
 (chk (inB v1 7) (bnd (rec (upX s0 0 (bA (s0 0) 15 (v1).toNatClampNeg v3)) (v1 + (1 : Int32)) (v2 &&& (((1 : Int32) <<< (v3 &&& 31)) ^^^ (-1 : Int32)))) (fun s2 =>
 (K69 (s2, (v3 + (1 : Int32))))))))))))
def g0_triesRows_6 (s0 : (Nat → Bl)) (rec : (Nat → Bl) → Int32 → Int32 → Option (Nat → Bl)) : (Int32 → Option (Nat → Bl)) → Int32 → Option (Nat → Bl) := fun K6 v3 =>
    (if ((s0 0).1 18) ≤ v3 then
 (if ((s0 0).1 20) = 0 then
 (ltv (upX (upX s0 0 (bS (s0 0) 16 (va_cpy ((s0 0).2.1 15) ((s0 0).2.1 16) 0 0 7))) 0 (bI ((upX s0 0 (bS (s0 0) 16 (va_cpy ((s0 0).2.1 15) ((s0 0).2.1 16) 0 0 7))) 0) 20 ((((upX s0 0 (bS (s0 0) 16 (va_cpy ((s0 0).2.1 15) ((s0 0).2.1 16) 0 0 7))) 0).1 20) + (1 : Int32)))) (fun s3 =>
 (some s3)))
 else
 (some (upX s0 0 (bI (s0 0) 20 (((s0 0).1 20) + (1 : Int32))))))
 else
 (chk (inB v3 6) (bnd (f0_standTogether s0 ((s0 0).2.1 17 (v3).toNatClampNeg)) (fun r4 =>
 (if r4 = 0 then
 (some s0)
 else
 (K6 (v3 + (1 : Int32))))))))
def b0_triesRows (rec : (Nat → Bl) → Int32 → Int32 → Option (Nat → Bl)) (s0 : (Nat → Bl)) (v1 : Int32) (v2 : Int32) : Option (Nat → Bl) :=
    (if v2 = 0 then
 (loop (g0_triesRows_6 s0 rec) FU (0 : Int32))
 else
 (loop (g0_triesRows_69 rec v1 v2) FU (s0, (0 : Int32))))
def f0_triesRows : Nat → (Nat → Bl) → Int32 → Int32 → Option (Nat → Bl)
  | 0 => fun _ _ _ => none
  | n + 1 => b0_triesRows (f0_triesRows n)
def g0_plan_71 (s0 : (Nat → Bl)) (v1 : Int32) : Option (Int32 × (Nat → Bl)) :=
    (if v1 = (-1 : Int32) then
 (some (((s0 0).1 20), s0))
 else
 (if ((s0 0).1 20) = 0 then
 (some ((-2 : Int32), s0))
 else
 (if v1 < ((s0 0).1 19) then
 (chk (inB v1 7) (some (((s0 0).2.1 16 (v1).toNatClampNeg), s0)))
 else
 (some ((-2 : Int32), s0)))))
def f0_plan (s0 : (Nat → Bl)) (v1 : Int32) : Option (Int32 × (Nat → Bl)) :=
    (if (s0 0).1 0 = 0 then
 (some ((-4 : Int32), s0))
 else
 (bnd (f0_in (v1).toInt64 (-1 : Int64) (6 : Int64)) (fun r1 =>
 (if r1 = 0 then
 (some ((-4 : Int32), s0))
 else
 (chk (decide (¬ (s0 0).1 0 = 0)) (bnd (f1_afloat (s0 1)) (fun r2 =>
 (bnd (fJ8_bitCount r2) (fun r3 =>
 (if (((upX s0 0 (bI (s0 0) 19 r3)) 0).1 19) ≤ (7 : Int32) then
 (bnd2 (f0_gathersTogether (upX (upX s0 0 (bI (s0 0) 19 r3)) 0 (bI ((upX s0 0 (bI (s0 0) 19 r3)) 0) 20 (0 : Int32))) r2) (fun r4 s4 =>
 (if r4 = 0 then
 (g0_plan_71 s4 v1)
 else
 (bnd (f0_triesRows 20 s4 (0 : Int32) r2) (fun s5 =>
 (g0_plan_71 s5 v1))))))
 else
 (some ((-3 : Int32), (upX s0 0 (bI (s0 0) 19 r3))))))))))))))
def g0_sawn_31 (v1 : Int32) (v2 : Int32) : ((Nat → Bl) × Int32 × Int32 × Int32 → Option (Int32 × (Nat → Bl))) → (Nat → Bl) × Int32 × Int32 × Int32 → Option (Int32 × (Nat → Bl)) := fun K31 s => match s with
  | (s0, v3, v4, v5) =>
    (chk (decide (¬ (s0 0).1 0 = 0)) (bnd (f1_allRopes (s0 1)) (fun r3 =>
 (if r3 < v5 then
 (if v2 = (2 : Int32) then
 (some (v4, s0))
 else
 (if v3 = (-2 : Int32) then
 (some (v3, s0))
 else
 (if v2 = (1 : Int32) then
 (some (v3, s0))
 else
 (bnd (fJ8_bitCount v3) (fun r4 =>
 (some (r4, s0)))))))
 else
 (chk (decide (¬ (s0 0).1 0 = 0)) (chk (decide (¬ (s0 0).1 0 = 0)) (bnd (f1_allRopes (s0 1)) (fun r5 =>
 (bnd2 (f1_sinkingBy (s0 1) (r5 &&& (v5 ^^^ (-1 : Int32)))) (fun r6 s6 =>
 (if r6 = v1 then
 (if v3 = (-2 : Int32) then
 (K31 ((upX s0 1 s6), v5, (v4 + (1 : Int32)), (v5 + (1 : Int32))))
 else
 (bnd (fJ8_bitCount v5) (fun r7 =>
 (bnd (fJ8_bitCount v3) (fun r8 =>
 (if r8 ≤ r7 then
 (K31 ((upX s0 1 s6), v3, (v4 + (1 : Int32)), (v5 + (1 : Int32))))
 else
 (K31 ((upX s0 1 s6), v5, (v4 + (1 : Int32)), (v5 + (1 : Int32))))))))))
 else
 (K31 ((upX s0 1 s6), v3, v4, (v5 + (1 : Int32)))))))))))))))
def f0_sawn (s0 : (Nat → Bl)) (v1 : Int32) (v2 : Int32) : Option (Int32 × (Nat → Bl)) :=
    (bnd (f0_areAfloat s0 v1) (fun r1 =>
 (if r1 = 0 then
 (some ((-1 : Int32), s0))
 else
 (bnd (f0_in (v2).toInt64 (0 : Int64) (2 : Int64)) (fun r2 =>
 (if r2 = 0 then
 (some ((-1 : Int32), s0))
 else
 (loop (g0_sawn_31 v1 v2) FU (s0, (-2 : Int32), (0 : Int32), (0 : Int32)))))))))
def g0_triesLocks_104 (rec : (Nat → Bl) → Int32 → Int32 → Int32 → Option (Nat → Bl)) (K77 : (Nat → Bl) × Int32 → Option (Nat → Bl)) (s0 : (Nat → Bl)) (v1 : Int32) (v2 : Int32) (v3 : Int32) (v4 : Int32) : Option (Nat → Bl) :=
    (chk (inB v4 8) (chk (decide (¬ (s0 0).1 0 = 0)) (chk (inB v1 8) (if (((s0 0).2.1 23 (v4).toNatClampNeg) + ((s0 1).2.1 13 (v1).toNatClampNeg)) ≤ v3 then
 (chk (inB v4 8) (chk (decide (¬ (s0 0).1 0 = 0)) (chk (inB v1 8) (chk (inB v4 8) (chk (inB v1 8) (ltv (upX (upX s0 0 (bA (s0 0) 23 (v4).toNatClampNeg (((s0 0).2.1 23 (v4).toNatClampNeg) + ((s0 1).2.1 13 (v1).toNatClampNeg)))) 0 (bA ((upX s0 0 (bA (s0 0) 23 (v4).toNatClampNeg (((s0 0).2.1 23 (v4).toNatClampNeg) + ((s0 1).2.1 13 (v1).toNatClampNeg)))) 0) 21 (v1).toNatClampNeg v4)) (fun s2 =>
 (bnd (rec s2 (v1 + (1 : Int32)) (if v2 < (v4 + (1 : Int32)) then (v4 + (1 : Int32)) else v2) v3) (fun s3 =>
 (chk (inB v4 8) (chk (decide (¬ (s3 0).1 0 = 0)) (chk (inB v1 8) (chk (inB v4 8) (K77 ((upX s3 0 (bA (s3 0) 23 (v4).toNatClampNeg (((s3 0).2.1 23 (v4).toNatClampNeg) - ((s3 1).2.1 13 (v1).toNatClampNeg)))), (v4 + (1 : Int32)))))))))))))))))
 else
 (K77 (s0, (v4 + (1 : Int32))))))))
def g0_triesLocks_77 (rec : (Nat → Bl) → Int32 → Int32 → Int32 → Option (Nat → Bl)) (v1 : Int32) (v2 : Int32) (v3 : Int32) : ((Nat → Bl) × Int32 → Option (Nat → Bl)) → (Nat → Bl) × Int32 → Option (Nat → Bl) := fun K77 s => match s with
  | (s0, v4) =>
    (if v2 < v4 then
 (some s0)
 else
 (if (8 : Int32) ≤ v4 then
 (some s0)
 else
 (if v4 = v2 then
 (chk (inB v4 8) (g0_triesLocks_104 rec K77 (upX s0 0 (bA (s0 0) 23 (v4).toNatClampNeg (0 : Int32))) v1 v2 v3 v4))
 else
 (g0_triesLocks_104 rec K77 s0 v1 v2 v3 v4))))
def g0_triesLocks_17 (rec : (Nat → Bl) → Int32 → Int32 → Int32 → Option (Nat → Bl)) (s0 : (Nat → Bl)) (v1 : Int32) (v2 : Int32) (v3 : Int32) : Option (Nat → Bl) :=
    (chk (decide (¬ (s0 0).1 0 = 0)) (if v1 = ((s0 1).1 2) then
 (ltv (upX (upX s0 0 (bI (s0 0) 24 v2)) 0 (bS ((upX s0 0 (bI (s0 0) 24 v2)) 0) 22 (va_cpy (((upX s0 0 (bI (s0 0) 24 v2)) 0).2.1 21) (((upX s0 0 (bI (s0 0) 24 v2)) 0).2.1 22) 0 0 8))) (fun s5 =>
 (some s5)))
 else
 (chk (inB v1 8) (bnd (f0_isAfloat (upX s0 0 (bA (s0 0) 21 (v1).toNatClampNeg (-1 : Int32))) v1) (fun r1 =>
 (if r1 = 0 then
 (bnd (rec (upX s0 0 (bA (s0 0) 21 (v1).toNatClampNeg (-1 : Int32))) (v1 + (1 : Int32)) v2 v3) (fun s4 =>
 (some s4)))
 else
 (loop (g0_triesLocks_77 rec v1 v2 v3) FU ((upX s0 0 (bA (s0 0) 21 (v1).toNatClampNeg (-1 : Int32))), (0 : Int32)))))))))
def b0_triesLocks (rec : (Nat → Bl) → Int32 → Int32 → Int32 → Option (Nat → Bl)) (s0 : (Nat → Bl)) (v1 : Int32) (v2 : Int32) (v3 : Int32) : Option (Nat → Bl) :=
    (if ((s0 0).1 24) = (-1 : Int32) then
 (g0_triesLocks_17 rec s0 v1 v2 v3)
 else
 (if v2 < ((s0 0).1 24) then
 (g0_triesLocks_17 rec s0 v1 v2 v3)
 else
 (some s0)))
def f0_triesLocks : Nat → (Nat → Bl) → Int32 → Int32 → Int32 → Option (Nat → Bl)
  | 0 => fun _ _ _ _ => none
  | n + 1 => b0_triesLocks (f0_triesLocks n)
def f0_locks (s0 : (Nat → Bl)) (v1 : Int32) (v2 : Int32) : Option (Int32 × (Nat → Bl)) :=
    (if (s0 0).1 0 = 0 then
 (some ((-1 : Int32), s0))
 else
 (bnd (f0_in (v1).toInt64 (1 : Int64) (200 : Int64)) (fun r1 =>
 (if r1 = 0 then
 (some ((-1 : Int32), s0))
 else
 (bnd (f0_in (v2).toInt64 (0 : Int64) (8 : Int64)) (fun r2 =>
 (if r2 = 0 then
 (some ((-1 : Int32), s0))
 else
 (bnd (f0_triesLocks 20 (upX s0 0 (bI (s0 0) 24 (-1 : Int32))) (0 : Int32) (0 : Int32) v1) (fun s3 =>
 (if ((s3 0).1 24) = (-1 : Int32) then
 (some ((-2 : Int32), s3))
 else
 (if v2 = 0 then
 (some (((s3 0).1 24), s3))
 else
 (chk (decide (¬ (s3 0).1 0 = 0)) (if v2 ≤ ((s3 1).1 2) then
 (chk (inB (v2 - (1 : Int32)) 8) (some (((s3 0).2.1 22 ((v2 - (1 : Int32))).toNatClampNeg), s3)))
 else
 (some ((-1 : Int32), s3)))))))))))))))
def f0_lengthOf (s0 : (Nat → Bl)) (v1 : Int32) (v2 : Int32) : Option Int32 :=
    (chk (decide (¬ (s0 0).1 0 = 0)) (chk (inB v1 8) (chk (decide (¬ (s0 0).1 0 = 0)) (chk (inB v2 8) (some ((1 : Int32) + ((if 0 ≤ (((s0 1).2.1 13 (v1).toNatClampNeg) - ((s0 1).2.1 13 (v2).toNatClampNeg)) then (((s0 1).2.1 13 (v1).toNatClampNeg) - ((s0 1).2.1 13 (v2).toNatClampNeg)) else 0 - (((s0 1).2.1 13 (v1).toNatClampNeg) - ((s0 1).2.1 13 (v2).toNatClampNeg))) / (5 : Int32))))))))
def g0_joins_2 (v1 : Int32) (v2 : Int32) : ((Nat → Bl) × Int32 → Option (Nat → Bl)) → (Nat → Bl) × Int32 → Option (Nat → Bl) := fun K2 s => match s with
  | (s0, v3) =>
    (chk (decide (¬ (s0 0).1 0 = 0)) (if ((s0 1).1 2) ≤ v3 then
 (some s0)
 else
 (chk (inB v3 8) (if ((s0 0).2.1 25 (v3).toNatClampNeg) = v1 then
 (chk (inB v3 8) (K2 ((upX s0 0 (bA (s0 0) 25 (v3).toNatClampNeg v2)), (v3 + (1 : Int32)))))
 else
 (K2 (s0, (v3 + (1 : Int32))))))))
def f0_joins (s0 : (Nat → Bl)) (v1 : Int32) (v2 : Int32) : Option (Nat → Bl) :=
    (loop (g0_joins_2 v1 v2) FU (s0, (0 : Int32)))
def g0_delta_107 (v1 : Int32) (v4 : Int32) (v5 : Int32) (K79 : (Nat → Bl) × Int32 × Int32 × Int32 → Option (Int32 × (Nat → Bl))) (K89 : (Nat → Bl) × Int32 × Int32 × Int32 → Option (Int32 × (Nat → Bl))) : ((Nat → Bl) × Int32 × Int32 × Int32 → Option (Int32 × (Nat → Bl))) → (Nat → Bl) × Int32 × Int32 × Int32 → Option (Int32 × (Nat → Bl)) := fun K107 s => match s with
  | (s0, v2, v3, v6) =>
    (chk (decide (¬ (s0 0).1 0 = 0)) (if ((s0 1).1 2) ≤ v6 then
 (K89 (s0, v2, v3, (v5 + (1 : Int32))))
 else
 (bnd (f0_isAfloat s0 v5) (fun r2 =>
 (if r2 = 0 then
 (K107 (s0, v2, v3, (v6 + (1 : Int32))))
 else
 (bnd (f0_isAfloat s0 v6) (fun r3 =>
 (if r3 = 0 then
 (K107 (s0, v2, v3, (v6 + (1 : Int32))))
 else
 (chk (inB v5 8) (chk (inB v6 8) (if ((s0 0).2.1 25 (v5).toNatClampNeg) = ((s0 0).2.1 25 (v6).toNatClampNeg) then
 (K107 (s0, v2, v3, (v6 + (1 : Int32))))
 else
 (bnd (f0_lengthOf s0 v5 v6) (fun r4 =>
 (if r4 = v4 then
 (chk (inB v6 8) (chk (inB v5 8) (bnd (f0_joins s0 ((s0 0).2.1 25 (v6).toNatClampNeg) ((s0 0).2.1 25 (v5).toNatClampNeg)) (fun s5 =>
 (K107 (s5, (v2 + v4), (v3 + (1 : Int32)), (v6 + (1 : Int32))))))))
 else
 (K107 (s0, v2, v3, (v6 + (1 : Int32))))))))))))))))))
def g0_delta_89 (v1 : Int32) (v4 : Int32) (K79 : (Nat → Bl) × Int32 × Int32 × Int32 → Option (Int32 × (Nat → Bl))) : ((Nat → Bl) × Int32 × Int32 × Int32 → Option (Int32 × (Nat → Bl))) → (Nat → Bl) × Int32 × Int32 × Int32 → Option (Int32 × (Nat → Bl)) := fun K89 s => match s with
  | (s0, v2, v3, v5) =>
    (chk (decide (¬ (s0 0).1 0 = 0)) (if ((s0 1).1 2) ≤ v5 then
 (K79 (s0, v2, v3, (v4 + (1 : Int32))))
 else
 (loop (g0_delta_107 v1 v4 v5 K79 K89) FU (s0, v2, v3, (v5 + (1 : Int32))))))
def g0_delta_79 (v1 : Int32) : ((Nat → Bl) × Int32 × Int32 × Int32 → Option (Int32 × (Nat → Bl))) → (Nat → Bl) × Int32 × Int32 × Int32 → Option (Int32 × (Nat → Bl)) := fun K79 s => match s with
  | (s0, v2, v3, v4) =>
    (if (11 : Int32) < v4 then
 (if v1 = 0 then
 (some (v2, s0))
 else
 (some (v3, s0)))
 else
 (loop (g0_delta_89 v1 v4 K79) FU (s0, v2, v3, (0 : Int32))))
def g0_delta_26 (v1 : Int32) : ((Nat → Bl) × Int32 → Option (Int32 × (Nat → Bl))) → (Nat → Bl) × Int32 → Option (Int32 × (Nat → Bl)) := fun K26 s => match s with
  | (s0, v4) =>
    (chk (decide (¬ (s0 0).1 0 = 0)) (if ((s0 1).1 2) ≤ v4 then
 (loop (g0_delta_79 v1) FU (s0, (0 : Int32), (0 : Int32), (1 : Int32)))
 else
 (bnd (f0_isAfloat s0 v4) (fun r6 =>
 (if r6 = 0 then
 (chk (inB v4 8) (K26 ((upX s0 0 (bA (s0 0) 25 (v4).toNatClampNeg (-1 : Int32))), (v4 + (1 : Int32)))))
 else
 (chk (decide (¬ (s0 0).1 0 = 0)) (bnd (f1_pieceOf (s0 1) v4) (fun r7 =>
 (bnd (fJ8_numberOfTrailingZeros r7) (fun r8 =>
 (chk (inB v4 8) (K26 ((upX s0 0 (bA (s0 0) 25 (v4).toNatClampNeg r8)), (v4 + (1 : Int32)))))))))))))))
def f0_delta (s0 : (Nat → Bl)) (v1 : Int32) : Option (Int32 × (Nat → Bl)) :=
    (if (s0 0).1 0 = 0 then
 (some ((-1 : Int32), s0))
 else
 (bnd (f0_in (v1).toInt64 (0 : Int64) (1 : Int64)) (fun r1 =>
 (if r1 = 0 then
 (some ((-1 : Int32), s0))
 else
 (loop (g0_delta_26 v1) FU (s0, (0 : Int32)))))))
def f0_isWeakThing (s0 : (Nat → Bl)) (v1 : Int32) : Option Int32 :=
    (chk (decide (¬ (s0 0).1 0 = 0)) (bnd (f1_pieceOf (s0 1) v1) (fun r1 =>
 (if (r1 &&& (((1 : Int32) <<< (v1 &&& 31)) ^^^ (-1 : Int32))) = 0 then
 (some (0 : Int32))
 else
 (chk (decide (¬ (s0 0).1 0 = 0)) (bnd (f1_allRopes (s0 1)) (fun r2 =>
 (chk (decide (¬ (s0 0).1 0 = 0)) (bnd (f1_ropesAt (s0 1) ((1 : Int32) <<< (v1 &&& 31))) (fun r3 =>
 (chk (decide (¬ (s0 0).1 0 = 0)) (bnd (fJ8_numberOfTrailingZeros (r1 &&& (((1 : Int32) <<< (v1 &&& 31)) ^^^ (-1 : Int32)))) (fun r4 =>
 (bnd (f1_pieceBy (s0 1) r4 (r2 &&& (r3 ^^^ (-1 : Int32)))) (fun r5 =>
 (if r5 = (r1 &&& (((1 : Int32) <<< (v1 &&& 31)) ^^^ (-1 : Int32))) then
 (some (0 : Int32))
 else
 (some (1 : Int32))))))))))))))))))
def g0_weak_75 (s0 : (Nat → Bl)) : (Int32 × Int32 → Option Int32) → Int32 × Int32 → Option Int32 := fun K75 s => match s with
  | (v2, v3) =>
    (chk (decide (¬ (s0 0).1 0 = 0)) (if ((s0 1).1 5) ≤ v3 then
 (some v2)
 else
 (chk (decide (¬ (s0 0).1 0 = 0)) (chk (decide (¬ (s0 0).1 0 = 0)) (chk (inB v3 12) (chk (decide (¬ (s0 0).1 0 = 0)) (bnd (f1_allRopes (s0 1)) (fun r2 =>
 (bnd (f1_pieceBy (s0 1) ((s0 1).2.1 18 (v3).toNatClampNeg) (r2 &&& (((1 : Int32) <<< (v3 &&& 31)) ^^^ (-1 : Int32)))) (fun r3 =>
 (chk (decide (¬ (s0 0).1 0 = 0)) (chk (inB v3 12) (bnd (f0_has r3 ((s0 1).2.1 19 (v3).toNatClampNeg)) (fun r4 =>
 (if r4 = 0 then
 (K75 ((v2 ||| ((1 : Int32) <<< (v3 &&& 31))), (v3 + (1 : Int32))))
 else
 (K75 ((v2 ||| (0 : Int32)), (v3 + (1 : Int32)))))))))))))))))))
def g0_weak_28 (s0 : (Nat → Bl)) : (Int32 × Int32 → Option Int32) → Int32 × Int32 → Option Int32 := fun K28 s => match s with
  | (v2, v3) =>
    (chk (decide (¬ (s0 0).1 0 = 0)) (if ((s0 1).1 2) ≤ v3 then
 (some v2)
 else
 (bnd (f0_isAfloat s0 v3) (fun r5 =>
 (if r5 = 0 then
 (K28 ((v2 ||| (0 : Int32)), (v3 + (1 : Int32))))
 else
 (bnd (f0_isWeakThing s0 v3) (fun r6 =>
 (if r6 = 0 then
 (K28 ((v2 ||| (0 : Int32)), (v3 + (1 : Int32))))
 else
 (K28 ((v2 ||| ((1 : Int32) <<< (v3 &&& 31))), (v3 + (1 : Int32))))))))))))
def f0_weak (s0 : (Nat → Bl)) (v1 : Int32) : Option Int32 :=
    (if (s0 0).1 0 = 0 then
 (some (-1 : Int32))
 else
 (bnd (f0_in (v1).toInt64 (0 : Int64) (1 : Int64)) (fun r1 =>
 (if r1 = 0 then
 (some (-1 : Int32))
 else
 (if v1 = (1 : Int32) then
 (loop (g0_weak_28 s0) FU ((0 : Int32), (0 : Int32)))
 else
 (loop (g0_weak_75 s0) FU ((0 : Int32), (0 : Int32))))))))
def f0_offer (s0 : (Nat → Bl)) (v1 : Int32) (v2 : Int32) (v3 : Int32) : Option (Int32 × (Nat → Bl)) :=
    (if v1 = (-1 : Int32) then
 (if (s0 0).1 0 = 0 then
 (some ((0 : Int32), s0))
 else
 (chk (decide (¬ (s0 0).1 0 = 0)) (some ((0 : Int32), (upX s0 1 (bI (s0 1) 8 (0 : Int32)))))))
 else
 (if (s0 0).1 0 = 0 then
 (some ((-2 : Int32), s0))
 else
 (bnd (f0_in (v1).toInt64 (0 : Int64) (50 : Int64)) (fun r1 =>
 (if r1 = 0 then
 (some ((-2 : Int32), s0))
 else
 (bnd (f0_in (v2).toInt64 (0 : Int64) (99 : Int64)) (fun r2 =>
 (if r2 = 0 then
 (some ((-2 : Int32), s0))
 else
 (bnd (f0_in (v3).toInt64 (0 : Int64) (9 : Int64)) (fun r3 =>
 (if r3 = 0 then
 (some ((-2 : Int32), s0))
 else
 (chk (decide (¬ (s0 0).1 0 = 0)) (if ((s0 1).1 8) = (6 : Int32) then
 (some ((-2 : Int32), s0))
 else
 (chk (decide (¬ (s0 0).1 0 = 0)) (chk (decide (¬ (s0 0).1 0 = 0)) (chk (inB ((3 : Int32) * ((s0 1).1 8)) 18) (chk (decide (¬ ((upX s0 1 (bA (s0 1) 23 (((3 : Int32) * ((s0 1).1 8))).toNatClampNeg v1)) 0).1 0 = 0)) (chk (inB (((3 : Int32) * ((s0 1).1 8)) + (1 : Int32)) 18) (ltv (upX (upX s0 1 (bA (s0 1) 23 (((3 : Int32) * ((s0 1).1 8))).toNatClampNeg v1)) 1 (bA ((upX s0 1 (bA (s0 1) 23 (((3 : Int32) * ((s0 1).1 8))).toNatClampNeg v1)) 1) 23 ((((3 : Int32) * ((s0 1).1 8)) + (1 : Int32))).toNatClampNeg v2)) (fun s4 =>
 (chk (decide (¬ (s4 0).1 0 = 0)) (chk (inB (((3 : Int32) * ((s0 1).1 8)) + (2 : Int32)) 18) (chk (decide (¬ ((upX s4 1 (bA (s4 1) 23 ((((3 : Int32) * ((s0 1).1 8)) + (2 : Int32))).toNatClampNeg v3)) 0).1 0 = 0)) (ltv (upX (upX s4 1 (bA (s4 1) 23 ((((3 : Int32) * ((s0 1).1 8)) + (2 : Int32))).toNatClampNeg v3)) 1 (bI ((upX s4 1 (bA (s4 1) 23 ((((3 : Int32) * ((s0 1).1 8)) + (2 : Int32))).toNatClampNeg v3)) 1) 8 ((((upX s4 1 (bA (s4 1) 23 ((((3 : Int32) * ((s0 1).1 8)) + (2 : Int32))).toNatClampNeg v3)) 1).1 8) + (1 : Int32)))) (fun s5 =>
 (chk (decide (¬ (s5 0).1 0 = 0)) (some (((s5 1).1 8), s5))))))))))))))))))))))))))))
def g0_staysWith_3 (s0 : (Nat → Bl)) (v1 : Int32) (v2 : Int32) (v3 : Int32) : (Int32 → Option Int32) → Int32 → Option Int32 := fun K3 v4 =>
    (if (100 : Int32) ≤ v4 then
 (some (100 : Int32))
 else
 (bnd (f0_bearsThen s0 v1 v4) (fun r1 =>
 (if v3 = (-1 : Int32) then
 (if 0 ≤ (r1 - v2) then
 (K3 (v4 + (1 : Int32)))
 else
 (some v4))
 else
 (chk (decide (¬ (s0 0).1 0 = 0)) (chk (inB (((3 : Int32) * v3) + (1 : Int32)) 18) (chk (decide (¬ (s0 0).1 0 = 0)) (chk (inB (((3 : Int32) * v3) + (2 : Int32)) 18) (chk (decide (¬ (s0 0).1 0 = 0)) (chk (inB ((3 : Int32) * v3) 18) (ltv ((r1 - v2) + ((if (0 : Int32) < (((s0 1).2.1 23 ((((3 : Int32) * v3) + (1 : Int32))).toNatClampNeg) - (v4 * ((s0 1).2.1 23 ((((3 : Int32) * v3) + (2 : Int32))).toNatClampNeg))) then (((s0 1).2.1 23 ((((3 : Int32) * v3) + (1 : Int32))).toNatClampNeg) - (v4 * ((s0 1).2.1 23 ((((3 : Int32) * v3) + (2 : Int32))).toNatClampNeg))) else (0 : Int32)) - ((s0 1).2.1 23 (((3 : Int32) * v3)).toNatClampNeg))) (fun y2 =>
 (if 0 ≤ y2 then
 (K3 (v4 + (1 : Int32)))
 else
 (some v4))))))))))))))
def f0_staysWith (s0 : (Nat → Bl)) (v1 : Int32) (v2 : Int32) (v3 : Int32) : Option Int32 :=
    (loop (g0_staysWith_3 s0 v1 v2 v3) FU (0 : Int32))
def g0_take_70 (s0 : (Nat → Bl)) (v2 : Int32) (v3 : Int32) (v4 : Int32) : (Int32 × Int32 × Int32 → Option (Int32 × (Nat → Bl))) → Int32 × Int32 × Int32 → Option (Int32 × (Nat → Bl)) := fun K70 s => match s with
  | (v5, v6, v7) =>
    (chk (decide (¬ (s0 0).1 0 = 0)) (if ((s0 1).1 8) ≤ v7 then
 (if v2 = (1 : Int32) then
 (some (v6, s0))
 else
 (if v5 = (-1 : Int32) then
 (some ((-2 : Int32), s0))
 else
 (some (v5, s0))))
 else
 (bnd (f0_staysWith s0 v3 v4 v7) (fun r7 =>
 (if v6 < r7 then
 (K70 (v7, r7, (v7 + (1 : Int32))))
 else
 (K70 (v5, v6, (v7 + (1 : Int32)))))))))
def f0_take (s0 : (Nat → Bl)) (v1 : Int32) (v2 : Int32) : Option (Int32 × (Nat → Bl)) :=
    (bnd (f0_isAfloat s0 v1) (fun r1 =>
 (if r1 = 0 then
 (some ((-1 : Int32), s0))
 else
 (bnd (f0_in (v2).toInt64 (0 : Int64) (1 : Int64)) (fun r2 =>
 (if r2 = 0 then
 (some ((-1 : Int32), s0))
 else
 (chk (decide (¬ (s0 0).1 0 = 0)) (chk (decide (¬ (s0 0).1 0 = 0)) (bnd (f1_allRopes (s0 1)) (fun r3 =>
 (bnd (f1_parts (s0 1) r3) (fun s4 =>
 (chk (decide (¬ ((upX s0 1 s4) 0).1 0 = 0)) (chk (inB v1 8) (chk (decide (¬ ((upX s0 1 s4) 0).1 0 = 0)) (bnd (f1_ridersOf ((upX s0 1 s4) 1) (((upX s0 1 s4) 1).2.1 28 (v1).toNatClampNeg)) (fun r5 =>
 (bnd (f0_staysWith (upX s0 1 s4) (((upX s0 1 s4) 1).2.1 28 (v1).toNatClampNeg) r5 (-1 : Int32)) (fun r6 =>
 (loop (g0_take_70 (upX s0 1 s4) v2 (((upX s0 1 s4) 1).2.1 28 (v1).toNatClampNeg) r5) FU ((-1 : Int32), r6, (0 : Int32))))))))))))))))))))))
def f0_isWon (s0 : (Nat → Bl)) (v1 : Int32) (v2 : Int32) : Option Int32 :=
    (bnd (f0_has v1 v2) (fun r1 =>
 (if r1 = 0 then
 (some (0 : Int32))
 else
 (chk (decide (¬ (s0 0).1 0 = 0)) (bnd (f1_bearsOf (s0 1) (v1 &&& (((1 : Int32) <<< (v2 &&& 31)) ^^^ (-1 : Int32)))) (fun r2 =>
 (if r2 < 0 then
 (some (0 : Int32))
 else
 (chk (inB (v1 &&& (((1 : Int32) <<< (v2 &&& 31)) ^^^ (-1 : Int32))) 256) (if ((s0 0).2.1 26 ((v1 &&& (((1 : Int32) <<< (v2 &&& 31)) ^^^ (-1 : Int32)))).toNatClampNeg) = 0 then
 (some (1 : Int32))
 else
 (some (0 : Int32)))))))))))
def g0_game_122 (s0 : (Nat → Bl)) (v3 : Int32) : (Int32 → Option (Int32 × (Nat → Bl))) → Int32 → Option (Int32 × (Nat → Bl)) := fun K122 v4 =>
    (chk (decide (¬ (s0 0).1 0 = 0)) (if ((s0 1).1 2) ≤ v4 then
 (some ((-2 : Int32), s0))
 else
 (bnd (f0_isWon s0 v3 v4) (fun r4 =>
 (if r4 = 0 then
 (K122 (v4 + (1 : Int32)))
 else
 (some (v4, s0)))))))
def g0_game_49 (v2 : Int32) (v3 : Int32) (v4 : Int32) (K32 : (Nat → Bl) × Int32 → Option (Int32 × (Nat → Bl))) : ((Nat → Bl) × Int32 → Option (Int32 × (Nat → Bl))) → (Nat → Bl) × Int32 → Option (Int32 × (Nat → Bl)) := fun K49 s => match s with
  | (s0, v5) =>
    (chk (decide (¬ (s0 0).1 0 = 0)) (if ((s0 1).1 2) ≤ v5 then
 (K32 (s0, (v4 + (1 : Int32))))
 else
 (if (v4 &&& (v3 ^^^ (-1 : Int32))) = 0 then
 (chk (inB v4 256) (bnd (f0_isWon s0 v4 v5) (fun r5 =>
 (chk (inB v4 256) (K49 ((upX s0 0 (bA (s0 0) 26 (v4).toNatClampNeg (vp_nar .boolean (((s0 0).2.1 26 (v4).toNatClampNeg) ||| r5)))), (v5 + (1 : Int32))))))))
 else
 (K32 (s0, (v4 + (1 : Int32)))))))
def g0_game_32 (v2 : Int32) (v3 : Int32) : ((Nat → Bl) × Int32 → Option (Int32 × (Nat → Bl))) → (Nat → Bl) × Int32 → Option (Int32 × (Nat → Bl)) := fun K32 s => match s with
  | (s0, v4) =>
    (if v3 < v4 then
 (if v2 = 0 then
 (chk (inB v3 256) (if ((s0 0).2.1 26 (v3).toNatClampNeg) = 0 then
 (some ((0 : Int32), s0))
 else
 (some ((1 : Int32), s0))))
 else
 (loop (g0_game_122 s0 v3) FU (0 : Int32)))
 else
 (chk (inB v4 256) (loop (g0_game_49 v2 v3 v4 K32) FU ((upX s0 0 (bA (s0 0) 26 (v4).toNatClampNeg (vp_nar .boolean (0 : Int32)))), (0 : Int32)))))
def f0_game (s0 : (Nat → Bl)) (v1 : Int32) (v2 : Int32) : Option (Int32 × (Nat → Bl)) :=
    (bnd (f0_isAfloat s0 v1) (fun r1 =>
 (if r1 = 0 then
 (some ((-1 : Int32), s0))
 else
 (bnd (f0_in (v2).toInt64 (0 : Int64) (1 : Int64)) (fun r2 =>
 (if r2 = 0 then
 (some ((-1 : Int32), s0))
 else
 (chk (decide (¬ (s0 0).1 0 = 0)) (bnd (f1_pieceOf (s0 1) v1) (fun r3 =>
 (loop (g0_game_32 v2 r3) FU (s0, (0 : Int32))))))))))))
def f0_seed (s0 : (Nat → Bl)) (v1 : Int32) : Option (Int32 × (Nat → Bl)) :=
    (if 0 ≤ v1 then
 (some (((s0 0).1 5), (upX s0 0 (bI (s0 0) 5 v1))))
 else
 (some ((-1 : Int32), s0)))
def f0_draw (s0 : (Nat → Bl)) (v1 : Int32) : Option (Int32 × (Nat → Bl)) :=
    (ltv (upX s0 0 (bI (s0 0) 27 (((((((s0 0).1 27)).toInt64 * (1103515245 : Int64)) + (12345 : Int64)) - (((((s0 0).1 27)).toInt64 * (1103515245 : Int64)) + (12345 : Int64)) / (2147483648 : Int64) * (2147483648 : Int64))).toInt32)) (fun s1 =>
 (chk (decide (¬ v1 = 0)) (some (((((s1 0).1 27) / (65536 : Int32)) - (((s1 0).1 27) / (65536 : Int32)) / v1 * v1), s1)))))
def g0_drawn_115 (v1 : Int32) (v2 : Int32) (v3 : Int32) (v8 : Int32) (K96 : (Nat → Bl) × Int32 × Int32 × Int32 × Int32 → Option (Int32 × (Nat → Bl))) : ((Nat → Bl) × Int32 × Int32 × Int32 × Int32 → Option (Int32 × (Nat → Bl))) → (Nat → Bl) × Int32 × Int32 × Int32 × Int32 → Option (Int32 × (Nat → Bl)) := fun K115 s => match s with
  | (s0, v4, v5, v6, v9) =>
    (if v2 ≤ v9 then
 (K96 (s0, v4, v5, v6, (v8 + (1 : Int32))))
 else
 (bnd2 (f0_draw s0 (10 : Int32)) (fun r6 s6 =>
 (bnd (f1_forceAt (s6 2) (((s6 2).1 6) + (1 : Int32))) (fun r7 =>
 (bnd2 (f1_goes (s6 2) (if r6 < r7 then r7 else r6)) (fun r8 s8 =>
 (K115 ((upX s6 2 s8), (v4 + r8), (v5 + (((upX s6 2 s8) 2).1 26)), (v6 + (((upX s6 2 s8) 2).1 27)), (v9 + (1 : Int32)))))))))))
def g0_drawn_96 (v1 : Int32) (v2 : Int32) (v3 : Int32) : ((Nat → Bl) × Int32 × Int32 × Int32 × Int32 → Option (Int32 × (Nat → Bl))) → (Nat → Bl) × Int32 × Int32 × Int32 × Int32 → Option (Int32 × (Nat → Bl)) := fun K96 s => match s with
  | (s0, v4, v5, v6, v8) =>
    (if v1 ≤ v8 then
 (if v3 = 0 then
 (some (v4, s0))
 else
 (if v3 = (1 : Int32) then
 (some (v5, s0))
 else
 (some (v6, s0))))
 else
 (chk (decide (¬ (s0 0).1 0 = 0)) (bnd (f1_standsAs (s0 2) (s0 1)) (fun s5 =>
 (loop (g0_drawn_115 v1 v2 v3 v8 K96) FU ((upX s0 2 s5), v4, v5, v6, (0 : Int32)))))))
def f0_drawn (s0 : (Nat → Bl)) (v1 : Int32) (v2 : Int32) (v3 : Int32) : Option (Int32 × (Nat → Bl)) :=
    (if (s0 0).1 0 = 0 then
 (some ((-1 : Int32), s0))
 else
 (bnd (f0_in (v1).toInt64 (1 : Int64) (20 : Int64)) (fun r1 =>
 (if r1 = 0 then
 (some ((-1 : Int32), s0))
 else
 (chk (decide (¬ (s0 0).1 0 = 0)) (chk (decide (¬ (s0 0).1 0 = 0)) (bnd (f0_in (v2).toInt64 (1 : Int64) ((if (((s0 1).1 0) - ((s0 1).1 6)) < (60 : Int32) then (((s0 1).1 0) - ((s0 1).1 6)) else (60 : Int32))).toInt64) (fun r2 =>
 (if r2 = 0 then
 (some ((-1 : Int32), s0))
 else
 (bnd (f0_in (v3).toInt64 (0 : Int64) (2 : Int64)) (fun r3 =>
 (if r3 = 0 then
 (some ((-1 : Int32), s0))
 else
 (chk (decide (¬ ((upX s0 0 (bI (s0 0) 27 ((s0 0).1 5))) 0).1 0 = 0)) (bnd (f1_copies ((upX s0 0 (bI (s0 0) 27 ((s0 0).1 5))) 2) ((upX s0 0 (bI (s0 0) 27 ((s0 0).1 5))) 1)) (fun s4 =>
 (loop (g0_drawn_96 v1 v2 v3) FU ((upX (upX s0 0 (bI (s0 0) 27 ((s0 0).1 5))) 2 s4), (0 : Int32), (0 : Int32), (0 : Int32), (0 : Int32))))))))))))))))))
def g0_pieces_4 (s0 : (Nat → Bl)) : (Int32 × Int32 → Option Int32) → Int32 × Int32 → Option Int32 := fun K4 s => match s with
  | (v1, v2) =>
    (chk (decide (¬ (s0 0).1 0 = 0)) (if ((s0 1).1 2) ≤ v2 then
 (some v1)
 else
 (bnd (f0_isAfloat s0 v2) (fun r1 =>
 (if r1 = 0 then
 (K4 ((v1 + (0 : Int32)), (v2 + (1 : Int32))))
 else
 (chk (decide (¬ (s0 0).1 0 = 0)) (bnd (f1_pieceOf (s0 1) v2) (fun r2 =>
 (bnd (fJ8_numberOfTrailingZeros r2) (fun r3 =>
 (if r3 = v2 then
 (K4 ((v1 + (1 : Int32)), (v2 + (1 : Int32))))
 else
 (K4 ((v1 + (0 : Int32)), (v2 + (1 : Int32)))))))))))))))
def f0_pieces (s0 : (Nat → Bl)) : Option Int32 :=
    (loop (g0_pieces_4 s0) FU ((0 : Int32), (0 : Int32)))
def f0_count (s0 : (Nat → Bl)) (v1 : Int32) : Option Int32 :=
    (if v1 = (6 : Int32) then
 (some ((s0 0).1 13))
 else
 (if v1 = (12 : Int32) then
 (some ((s0 0).1 5))
 else
 (if v1 = (13 : Int32) then
 (some ((s0 0).1 8))
 else
 (bnd (f0_in (v1).toInt64 (0 : Int64) (13 : Int64)) (fun r4 =>
 (if r4 = 0 then
 (some (-1 : Int32))
 else
 (if (s0 0).1 0 = 0 then
 (some (0 : Int32))
 else
 (if v1 = (0 : Int32) then
 (chk (decide (¬ (s0 0).1 0 = 0)) (some ((s0 1).1 0)))
 else
 (if v1 = (1 : Int32) then
 (chk (decide (¬ (s0 0).1 0 = 0)) (some ((s0 1).1 4)))
 else
 (if v1 = (2 : Int32) then
 (chk (decide (¬ (s0 0).1 0 = 0)) (some ((s0 1).1 1)))
 else
 (if v1 = (3 : Int32) then
 (chk (decide (¬ (s0 0).1 0 = 0)) (some ((s0 1).1 2)))
 else
 (if v1 = (4 : Int32) then
 (chk (decide (¬ (s0 0).1 0 = 0)) (some ((s0 1).1 5)))
 else
 (if v1 = (5 : Int32) then
 (chk (decide (¬ (s0 0).1 0 = 0)) (some ((s0 1).1 3)))
 else
 (if v1 = (7 : Int32) then
 (chk (decide (¬ (s0 0).1 0 = 0)) (some ((s0 1).1 6)))
 else
 (if v1 = (8 : Int32) then
 (bnd (f0_pieces s0) (fun r13 =>
 (some r13)))
 else
 (if v1 = (9 : Int32) then
 (chk (decide (¬ (s0 0).1 0 = 0)) (bnd (f1_afloat (s0 1)) (fun r14 =>
 (some r14))))
 else
 (if v1 = (10 : Int32) then
 (chk (decide (¬ (s0 0).1 0 = 0)) (some ((s0 1).1 8)))
 else
 (chk (decide (¬ (s0 0).1 0 = 0)) (some ((s0 1).1 7))))))))))))))))))))
def f0_isRule (s0 : (Nat → Bl)) (v1 : Int32) : Option Int32 :=
    (if v1 < 0 then
 (some (0 : Int32))
 else
 (if ((s0 0).1 13) ≤ v1 then
 (some (0 : Int32))
 else
 (some (1 : Int32))))
def f0_faulted (s0 : (Nat → Bl)) : Option Int32 :=
    (some ((-2 : Int32) - (((1 : Int32) + ((8 : Int32) * ((s0 13).1 7))) + ((s0 13).1 6))))
def f0_ropesAtBoth (s0 : (Nat → Bl)) (v1 : Int32) (v2 : Int32) : Option Int32 :=
    (chk (decide (¬ (s0 0).1 0 = 0)) (bnd (f1_ropesAt (s0 1) (((1 : Int32) <<< (v1 &&& 31)) ||| ((1 : Int32) <<< (v2 &&& 31)))) (fun r1 =>
 (bnd (fJ8_bitCount r1) (fun r2 =>
 (some r2))))))
def g0_wordsOf_152 (s0 : (Nat → Bl)) (v1 : Int32) (v2 : Int32) (z0 : Int64) : Option (Nat → Bl) :=
    (bnd (f0_ropesAtBoth (upX s0 0 (bL (s0 0) 14 6 z0)) v1 v2) (fun r5 =>
 (chk (decide (¬ ((upX (upX s0 0 (bL (s0 0) 14 6 z0)) 0 (bL ((upX s0 0 (bL (s0 0) 14 6 z0)) 0) 14 7 (r5).toInt64)) 0).1 0 = 0)) (ltv (upX (upX (upX s0 0 (bL (s0 0) 14 6 z0)) 0 (bL ((upX s0 0 (bL (s0 0) 14 6 z0)) 0) 14 7 (r5).toInt64)) 0 (bL ((upX (upX s0 0 (bL (s0 0) 14 6 z0)) 0 (bL ((upX s0 0 (bL (s0 0) 14 6 z0)) 0) 14 7 (r5).toInt64)) 0) 14 8 ((((upX (upX s0 0 (bL (s0 0) 14 6 z0)) 0 (bL ((upX s0 0 (bL (s0 0) 14 6 z0)) 0) 14 7 (r5).toInt64)) 1).1 4)).toInt64)) (fun s6 =>
 (chk (decide (¬ (s6 0).1 0 = 0)) (chk (decide (¬ ((upX s6 0 (bL (s6 0) 14 9 (((s6 1).1 6)).toInt64)) 0).1 0 = 0)) (chk (decide (¬ ((upX s6 0 (bL (s6 0) 14 9 (((s6 1).1 6)).toInt64)) 0).1 0 = 0)) (chk (inB v1 8) (chk (inB (((upX s6 0 (bL (s6 0) 14 9 (((s6 1).1 6)).toInt64)) 1).2.1 12 (v1).toNatClampNeg) 6) (chk (decide (¬ ((upX s6 0 (bL (s6 0) 14 9 (((s6 1).1 6)).toInt64)) 0).1 0 = 0)) (chk (decide (¬ ((upX s6 0 (bL (s6 0) 14 9 (((s6 1).1 6)).toInt64)) 0).1 0 = 0)) (chk (inB v2 8) (chk (inB (((upX s6 0 (bL (s6 0) 14 9 (((s6 1).1 6)).toInt64)) 1).2.1 12 (v2).toNatClampNeg) 6) (ltv (upX (upX s6 0 (bL (s6 0) 14 9 (((s6 1).1 6)).toInt64)) 0 (bL ((upX s6 0 (bL (s6 0) 14 9 (((s6 1).1 6)).toInt64)) 0) 14 10 ((if (((upX s6 0 (bL (s6 0) 14 9 (((s6 1).1 6)).toInt64)) 1).2.1 9 ((((upX s6 0 (bL (s6 0) 14 9 (((s6 1).1 6)).toInt64)) 1).2.1 12 (v2).toNatClampNeg)).toNatClampNeg) < (((upX s6 0 (bL (s6 0) 14 9 (((s6 1).1 6)).toInt64)) 1).2.1 9 ((((upX s6 0 (bL (s6 0) 14 9 (((s6 1).1 6)).toInt64)) 1).2.1 12 (v1).toNatClampNeg)).toNatClampNeg) then (((upX s6 0 (bL (s6 0) 14 9 (((s6 1).1 6)).toInt64)) 1).2.1 9 ((((upX s6 0 (bL (s6 0) 14 9 (((s6 1).1 6)).toInt64)) 1).2.1 12 (v2).toNatClampNeg)).toNatClampNeg) else (((upX s6 0 (bL (s6 0) 14 9 (((s6 1).1 6)).toInt64)) 1).2.1 9 ((((upX s6 0 (bL (s6 0) 14 9 (((s6 1).1 6)).toInt64)) 1).2.1 12 (v1).toNatClampNeg)).toNatClampNeg))).toInt64)) (fun s7 =>
 (chk (decide (¬ (s7 0).1 0 = 0)) (bnd (f1_afloat (s7 1)) (fun r8 =>
 (bnd (fJ8_bitCount r8) (fun r9 =>
 (some (upX s7 0 (bL (s7 0) 14 11 (r9).toInt64))))))))))))))))))))))))
def g0_wordsOf_125 (s0 : (Nat → Bl)) (v1 : Int32) (v2 : Int32) (z0 : Int64) : Option (Nat → Bl) :=
    (chk (decide (¬ ((upX s0 0 (bL (s0 0) 14 5 z0)) 0).1 0 = 0)) (bnd (f1_pieceOf ((upX s0 0 (bL (s0 0) 14 5 z0)) 1) v1) (fun r3 =>
 (bnd (f0_has r3 v2) (fun r4 =>
 (if r4 = 0 then
 (g0_wordsOf_152 (upX s0 0 (bL (s0 0) 14 5 z0)) v1 v2 (1 : Int64))
 else
 (g0_wordsOf_152 (upX s0 0 (bL (s0 0) 14 5 z0)) v1 v2 (0 : Int64))))))))
def f0_wordsOf (s0 : (Nat → Bl)) (v1 : Int32) (v2 : Int32) : Option (Nat → Bl) :=
    (chk (decide (¬ ((upX (upX s0 0 (bL (s0 0) 14 0 (v1).toInt64)) 0 (bL ((upX s0 0 (bL (s0 0) 14 0 (v1).toInt64)) 0) 14 1 (v2).toInt64)) 0).1 0 = 0)) (chk (inB v1 8) (chk (decide (¬ ((upX (upX s0 0 (bL (s0 0) 14 0 (v1).toInt64)) 0 (bL ((upX s0 0 (bL (s0 0) 14 0 (v1).toInt64)) 0) 14 1 (v2).toInt64)) 0).1 0 = 0)) (chk (inB v2 8) (ltv (upX (upX (upX s0 0 (bL (s0 0) 14 0 (v1).toInt64)) 0 (bL ((upX s0 0 (bL (s0 0) 14 0 (v1).toInt64)) 0) 14 1 (v2).toInt64)) 0 (bL ((upX (upX s0 0 (bL (s0 0) 14 0 (v1).toInt64)) 0 (bL ((upX s0 0 (bL (s0 0) 14 0 (v1).toInt64)) 0) 14 1 (v2).toInt64)) 0) 14 2 (((((upX (upX s0 0 (bL (s0 0) 14 0 (v1).toInt64)) 0 (bL ((upX s0 0 (bL (s0 0) 14 0 (v1).toInt64)) 0) 14 1 (v2).toInt64)) 1).2.1 14 (v1).toNatClampNeg) + (((upX (upX s0 0 (bL (s0 0) 14 0 (v1).toInt64)) 0 (bL ((upX s0 0 (bL (s0 0) 14 0 (v1).toInt64)) 0) 14 1 (v2).toInt64)) 1).2.1 14 (v2).toNatClampNeg))).toInt64)) (fun s1 =>
 (chk (decide (¬ (s1 0).1 0 = 0)) (chk (inB v1 8) (chk (decide (¬ (s1 0).1 0 = 0)) (chk (inB v2 8) (chk (decide (¬ ((upX s1 0 (bL (s1 0) 14 3 ((((s1 1).2.1 13 (v1).toNatClampNeg) + ((s1 1).2.1 13 (v2).toNatClampNeg))).toInt64)) 0).1 0 = 0)) (chk (inB v1 8) (chk (decide (¬ ((upX s1 0 (bL (s1 0) 14 3 ((((s1 1).2.1 13 (v1).toNatClampNeg) + ((s1 1).2.1 13 (v2).toNatClampNeg))).toInt64)) 0).1 0 = 0)) (chk (inB v2 8) (ltv (upX (upX s1 0 (bL (s1 0) 14 3 ((((s1 1).2.1 13 (v1).toNatClampNeg) + ((s1 1).2.1 13 (v2).toNatClampNeg))).toInt64)) 0 (bL ((upX s1 0 (bL (s1 0) 14 3 ((((s1 1).2.1 13 (v1).toNatClampNeg) + ((s1 1).2.1 13 (v2).toNatClampNeg))).toInt64)) 0) 14 4 (((((upX s1 0 (bL (s1 0) 14 3 ((((s1 1).2.1 13 (v1).toNatClampNeg) + ((s1 1).2.1 13 (v2).toNatClampNeg))).toInt64)) 1).2.1 15 (v1).toNatClampNeg) + (((upX s1 0 (bL (s1 0) 14 3 ((((s1 1).2.1 13 (v1).toNatClampNeg) + ((s1 1).2.1 13 (v2).toNatClampNeg))).toInt64)) 1).2.1 15 (v2).toNatClampNeg))).toInt64)) (fun s2 =>
 (chk (decide (¬ (s2 0).1 0 = 0)) (chk (inB v1 8) (chk (decide (¬ (s2 0).1 0 = 0)) (chk (inB v2 8) (if ((s2 1).2.1 12 (v1).toNatClampNeg) = ((s2 1).2.1 12 (v2).toNatClampNeg) then
 (g0_wordsOf_125 s2 v1 v2 (1 : Int64))
 else
 (g0_wordsOf_125 s2 v1 v2 (0 : Int64)))))))))))))))))))))))

/-! the Model's functions, printed by gen/model.py out of the bytecode -/
set_option maxRecDepth 100000
set_option maxHeartbeats 4000000
def g3_put_3 (v1 : Int32) : (Bl × Int32 → Option Bl) → Bl × Int32 → Option Bl := fun K3 s => match s with
  | (s0, v2) =>
    (if v2 < 0 then
 (some s0)
 else
 (chk (inB (s0.1 31) 400) (ltv (bI (bA s0 41 ((s0.1 31)).toNatClampNeg (vp_nar .byte ((v1 >>> (v2 &&& 31))).toInt8.toInt32)) 31 (((bA s0 41 ((s0.1 31)).toNatClampNeg (vp_nar .byte ((v1 >>> (v2 &&& 31))).toInt8.toInt32)).1 31) + (1 : Int32))) (fun s1 =>
 (K3 (s1, (v2 + (-8 : Int32))))))))
def f3_put (s0 : Bl) (v1 : Int32) : Option Bl :=
    (loop (g3_put_3 v1) FU (s0, (24 : Int32)))
def f3_feed (s0 : Bl) (v1 : Int32) (v2 : Int32) (v3 : Int32) (v4 : Int32) (v5 : Int32) : Option (Int32 × Bl) :=
    (if ((s0.1 31) + (20 : Int32)) ≤ (400 : Int32) then
 (bnd (f3_put s0 v1) (fun s1 =>
 (bnd (f3_put s1 v2) (fun s2 =>
 (bnd (f3_put s2 v3) (fun s3 =>
 (bnd (f3_put s3 v4) (fun s4 =>
 (bnd (f3_put s4 v5) (fun s5 =>
 (some ((s5.1 31), s5))))))))))))
 else
 (some ((-1 : Int32), s0)))
def f3_end (s0 : Bl) (v1 : Int32) : Option (Int32 × Bl) :=
    (if v1 < 0 then
 (some ((-1 : Int32), s0))
 else
 (if v1 ≤ (s0.1 31) then
 (some (v1, (bI s0 31 v1)))
 else
 (some ((-1 : Int32), s0))))
def f3_in (v0 : Int64) (v2 : Int64) (v4 : Int64) : Option Int32 :=
    (if (lg_cmp v0 v2) < 0 then
 (some (0 : Int32))
 else
 (if 0 < (lg_cmp v0 v4) then
 (some (0 : Int32))
 else
 (some (1 : Int32))))
def f3_isOwner (s0 : Bl) (v1 : Int32) : Option Int32 :=
    (bnd (f3_in (v1).toInt64 (0 : Int64) (((s0.2.1 1 2) - (1 : Int32))).toInt64) (fun r1 =>
 (chk (isB r1) (some r1))))
def f3_allRopes (s0 : Bl) : Option Int32 :=
    (some (((1 : Int32) <<< ((s0.2.1 1 4) &&& 31)) - (1 : Int32)))
def g3_afloat_4 (s0 : Bl) : (Int32 × Int32 → Option Int32) → Int32 × Int32 → Option Int32 := fun K4 s => match s with
  | (v1, v2) =>
    (if (s0.2.1 1 3) ≤ v2 then
 (some v1)
 else
 (chk (inB v2 8) (if (s0.2.1 9 (v2).toNatClampNeg) = 0 then
 (K4 ((v1 ||| ((1 : Int32) <<< (v2 &&& 31))), (v2 + (1 : Int32))))
 else
 (K4 ((v1 ||| (0 : Int32)), (v2 + (1 : Int32)))))))
def f3_afloat (s0 : Bl) : Option Int32 :=
    (loop (g3_afloat_4 s0) FU ((0 : Int32), (0 : Int32)))
def f3_has (v0 : Int32) (v1 : Int32) : Option Int32 :=
    (if ((v0 >>> (v1 &&& 31)) &&& (1 : Int32)) = (1 : Int32) then
 (some (1 : Int32))
 else
 (some (0 : Int32)))
def g3_hangsWith_20 (s0 : Bl) (v2 : Int32) (v3 : Int32) (v6 : Int32) (K8 : Int32 × Int32 → Option Int32) : (Int32 × Int32 → Option Int32) → Int32 × Int32 → Option Int32 := fun K20 s => match s with
  | (v4, v7) =>
    (if (s0.2.1 1 4) ≤ v7 then
 (if v4 = v6 then
 (K8 (v4, (0 : Int32)))
 else
 (K8 (v4, (1 : Int32))))
 else
 (chk (inB v7 12) (chk (inB v7 12) (ltv (((1 : Int32) <<< ((s0.2.1 11 (v7).toNatClampNeg) &&& 31)) ||| ((1 : Int32) <<< ((s0.2.1 12 (v7).toNatClampNeg) &&& 31))) (fun y1 =>
 (bnd (f3_has v3 v7) (fun r2 =>
 (if r2 = 0 then
 (K20 (v4, (v7 + (1 : Int32))))
 else
 (if (y1 &&& (v2 ^^^ (-1 : Int32))) = 0 then
 (if (y1 &&& v4) = 0 then
 (K20 (v4, (v7 + (1 : Int32))))
 else
 (K20 ((v4 ||| y1), (v7 + (1 : Int32)))))
 else
 (K20 (v4, (v7 + (1 : Int32)))))))))))))
def g3_hangsWith_8 (s0 : Bl) (v2 : Int32) (v3 : Int32) : (Int32 × Int32 → Option Int32) → Int32 × Int32 → Option Int32 := fun K8 s => match s with
  | (v4, v5) =>
    (if v5 = 0 then
 (some v4)
 else
 (loop (g3_hangsWith_20 s0 v2 v3 v4 K8) FU (v4, (0 : Int32))))
def f3_hangsWith (s0 : Bl) (v1 : Int32) (v2 : Int32) (v3 : Int32) : Option Int32 :=
    (loop (g3_hangsWith_8 s0 v2 v3) FU (((1 : Int32) <<< (v1 &&& 31)), (1 : Int32)))
def g3_riddenBy_142 (s0 : Bl) (K17 : Int32 × Int32 × Int32 × Int32 → Option Int32) (v1 : Int32) (v2 : Int32) (v4 : Int32) (v5 : Int32) (v6 : Int32) (v7 : Int32) (v9 : Int32) (z0 : Int32) : Option Int32 :=
    (if v9 ≤ v4 then
 (K17 (z0, v4, v5, (v7 + (1 : Int32))))
 else
 (K17 (z0, v9, v5, (v7 + (1 : Int32)))))
def g3_riddenBy_81 (s0 : Bl) (v1 : Int32) (v2 : Int32) (v3 : Int32) (v4 : Int32) (v5 : Int32) (v6 : Int32) (v7 : Int32) (v8 : Int32) (K17 : Int32 × Int32 × Int32 × Int32 → Option Int32) : (Int32 × Int32 → Option Int32) → Int32 × Int32 → Option Int32 := fun K81 s => match s with
  | (v9, v10) =>
    (if (s0.2.1 1 3) ≤ v10 then
 (if v9 ≤ v4 then
 (g3_riddenBy_142 s0 K17 v1 v2 v4 v5 v6 v7 v9 v3)
 else
 (g3_riddenBy_142 s0 K17 v1 v2 v4 v5 v6 v7 v9 v8))
 else
 (bnd (f3_has v8 v10) (fun r5 =>
 (if r5 = 0 then
 (K81 ((v9 + (0 : Int32)), (v10 + (1 : Int32))))
 else
 (chk (inB v10 8) (if (s0.2.1 5 (v10).toNatClampNeg) = v1 then
 (K81 ((v9 + (1 : Int32)), (v10 + (1 : Int32))))
 else
 (K81 ((v9 + (0 : Int32)), (v10 + (1 : Int32))))))))))
def g3_riddenBy_17 (s0 : Bl) (v1 : Int32) (v2 : Int32) (v6 : Int32) : (Int32 × Int32 × Int32 × Int32 → Option Int32) → Int32 × Int32 × Int32 × Int32 → Option Int32 := fun K17 s => match s with
  | (v3, v4, v5, v7) =>
    (if (s0.2.1 1 3) ≤ v7 then
 (some v3)
 else
 (chk (inB v1 6) (if (s0.2.1 4 (v1).toNatClampNeg) = 0 then
 (bnd (f3_has v6 v7) (fun r2 =>
 (if r2 = 0 then
 (K17 (v3, v4, v5, (v7 + (1 : Int32))))
 else
 (bnd (f3_has v5 v7) (fun r3 =>
 (if r3 = 0 then
 (bnd (f3_hangsWith s0 v7 v6 v2) (fun r4 =>
 (loop (g3_riddenBy_81 s0 v1 v2 v3 v4 (v5 ||| r4) v6 v7 r4 K17) FU ((0 : Int32), (0 : Int32)))))
 else
 (K17 (v3, v4, v5, (v7 + (1 : Int32))))))))))
 else
 (some v3))))
def f3_riddenBy (s0 : Bl) (v1 : Int32) (v2 : Int32) : Option Int32 :=
    (bnd (f3_afloat s0) (fun r1 =>
 (loop (g3_riddenBy_17 s0 v1 v2 r1) FU ((0 : Int32), (0 : Int32), (0 : Int32), (0 : Int32)))))
def g3_least_2 (v0 : Int32) : (Int32 → Option Int32) → Int32 → Option Int32 := fun K2 v1 =>
    (bnd (f3_has v0 v1) (fun r1 =>
 (if r1 = 0 then
 (K2 (v1 + (1 : Int32)))
 else
 (some v1))))
def f3_least (v0 : Int32) : Option Int32 :=
    (loop (g3_least_2 v0) FU (0 : Int32))
def f3_owner (s0 : Bl) (v1 : Int32) (v2 : Int32) : Option Int32 :=
    (bnd (f3_isOwner s0 v1) (fun r1 =>
 (if r1 = 0 then
 (some (-1 : Int32))
 else
 (if v2 = (0 : Int32) then
 (chk (inB v1 6) (some (s0.2.1 2 (v1).toNatClampNeg)))
 else
 (if v2 = (1 : Int32) then
 (chk (inB v1 6) (some (s0.2.1 3 (v1).toNatClampNeg)))
 else
 (if v2 = (2 : Int32) then
 (chk (inB v1 6) (some (s0.2.1 4 (v1).toNatClampNeg)))
 else
 (if v2 = (3 : Int32) then
 (bnd (f3_allRopes s0) (fun r6 =>
 (bnd (f3_riddenBy s0 v1 r6) (fun r7 =>
 (if r7 = 0 then
 (some (-1 : Int32))
 else
 (bnd (f3_least r7) (fun r8 =>
 (some r8))))))))
 else
 (some (-1 : Int32)))))))))
def f3_isThing (s0 : Bl) (v1 : Int32) : Option Int32 :=
    (bnd (f3_in (v1).toInt64 (0 : Int64) (((s0.2.1 1 3) - (1 : Int32))).toInt64) (fun r1 =>
 (chk (isB r1) (some r1))))
def f3_pieceOf (s0 : Bl) (v1 : Int32) : Option Int32 :=
    (bnd (f3_afloat s0) (fun r1 =>
 (bnd (f3_allRopes s0) (fun r2 =>
 (bnd (f3_hangsWith s0 v1 r1 r2) (fun r3 =>
 (some r3)))))))
def f3_thing (s0 : Bl) (v1 : Int32) (v2 : Int32) : Option Int32 :=
    (bnd (f3_isThing s0 v1) (fun r1 =>
 (if r1 = 0 then
 (some (-1 : Int32))
 else
 (if v2 = (0 : Int32) then
 (chk (inB v1 8) (some (s0.2.1 5 (v1).toNatClampNeg)))
 else
 (if v2 = (1 : Int32) then
 (chk (inB v1 8) (some (s0.2.1 6 (v1).toNatClampNeg)))
 else
 (if v2 = (2 : Int32) then
 (chk (inB v1 8) (some (s0.2.1 7 (v1).toNatClampNeg)))
 else
 (if v2 = (3 : Int32) then
 (chk (inB v1 8) (some (s0.2.1 8 (v1).toNatClampNeg)))
 else
 (if v2 = (4 : Int32) then
 (chk (inB v1 8) (some (s0.2.1 9 (v1).toNatClampNeg)))
 else
 (if v2 = (5 : Int32) then
 (chk (inB v1 8) (if (s0.2.1 9 (v1).toNatClampNeg) = 0 then
 (bnd (f3_pieceOf s0 v1) (fun r8 =>
 (some r8)))
 else
 (some (0 : Int32))))
 else
 (some (-1 : Int32)))))))))))
def f3_isRope (s0 : Bl) (v1 : Int32) : Option Int32 :=
    (bnd (f3_in (v1).toInt64 (0 : Int64) (((s0.2.1 1 4) - (1 : Int32))).toInt64) (fun r1 =>
 (chk (isB r1) (some r1))))
def f3_rope (s0 : Bl) (v1 : Int32) (v2 : Int32) : Option Int32 :=
    (bnd (f3_isRope s0 v1) (fun r1 =>
 (if r1 = 0 then
 (some (-1 : Int32))
 else
 (if v2 = (0 : Int32) then
 (chk (inB v1 12) (some (s0.2.1 11 (v1).toNatClampNeg)))
 else
 (if v2 = (1 : Int32) then
 (chk (inB v1 12) (some (s0.2.1 12 (v1).toNatClampNeg)))
 else
 (if v2 = (2 : Int32) then
 (chk (inB v1 12) (some (s0.2.1 13 (v1).toNatClampNeg)))
 else
 (some (-1 : Int32))))))))
def f3_isRiver (s0 : Bl) : Option Int32 :=
    (if (s0.2.1 1 0) ≤ 0 then
 (some (0 : Int32))
 else
 (some (1 : Int32)))
def g3_forceAt_2 (s0 : Bl) (v1 : Int32) : (Int32 → Option Int32) → Int32 → Option Int32 := fun K2 v2 =>
    (if (s0.2.1 1 5) ≤ v2 then
 (some (0 : Int32))
 else
 (chk (inB v2 6) (if (s0.2.1 14 (v2).toNatClampNeg) = v1 then
 (chk (inB v2 6) (some (s0.2.1 15 (v2).toNatClampNeg)))
 else
 (K2 (v2 + (1 : Int32))))))
def f3_forceAt (s0 : Bl) (v1 : Int32) : Option Int32 :=
    (loop (g3_forceAt_2 s0 v1) FU (0 : Int32))
def f3_rapid (s0 : Bl) (v1 : Int32) : Option Int32 :=
    (bnd (f3_isRiver s0) (fun r1 =>
 (if r1 = 0 then
 (some (-1 : Int32))
 else
 (bnd (f3_in (v1).toInt64 (0 : Int64) ((s0.2.1 1 0)).toInt64) (fun r2 =>
 (if r2 = 0 then
 (some (-1 : Int32))
 else
 (bnd (f3_forceAt s0 v1) (fun r3 =>
 (some r3)))))))))
def f3_isAfloat (s0 : Bl) (v1 : Int32) : Option Int32 :=
    (bnd (f3_isThing s0 v1) (fun r1 =>
 (if r1 = 0 then
 (some (0 : Int32))
 else
 (chk (inB v1 8) (if (s0.2.1 9 (v1).toNatClampNeg) = 0 then
 (some (1 : Int32))
 else
 (some (0 : Int32)))))))
def g3_floatOf_4 (s0 : Bl) (v1 : Int32) : (Int32 × Int32 → Option Int32) → Int32 × Int32 → Option Int32 := fun K4 s => match s with
  | (v2, v3) =>
    (if (s0.2.1 1 3) ≤ v3 then
 (some v2)
 else
 (bnd (f3_has v1 v3) (fun r1 =>
 (if r1 = 0 then
 (K4 ((v2 + (0 : Int32)), (v3 + (1 : Int32))))
 else
 (chk (inB v3 8) (K4 ((v2 + (s0.2.1 7 (v3).toNatClampNeg)), (v3 + (1 : Int32)))))))))
def f3_floatOf (s0 : Bl) (v1 : Int32) : Option Int32 :=
    (loop (g3_floatOf_4 s0 v1) FU ((0 : Int32), (0 : Int32)))
def g3_weightOf_4 (s0 : Bl) (v1 : Int32) : (Int32 × Int32 → Option Int32) → Int32 × Int32 → Option Int32 := fun K4 s => match s with
  | (v2, v3) =>
    (if (s0.2.1 1 3) ≤ v3 then
 (some v2)
 else
 (bnd (f3_has v1 v3) (fun r1 =>
 (if r1 = 0 then
 (K4 ((v2 + (0 : Int32)), (v3 + (1 : Int32))))
 else
 (chk (inB v3 8) (K4 ((v2 + (s0.2.1 6 (v3).toNatClampNeg)), (v3 + (1 : Int32)))))))))
def f3_weightOf (s0 : Bl) (v1 : Int32) : Option Int32 :=
    (loop (g3_weightOf_4 s0 v1) FU ((0 : Int32), (0 : Int32)))
def g3_ridersOf_5 (s0 : Bl) (v1 : Int32) (v2 : Int32) : (Int32 × Int32 → Option Int32) → Int32 × Int32 → Option Int32 := fun K5 s => match s with
  | (v3, v4) =>
    (if (s0.2.1 1 2) ≤ v4 then
 (some v3)
 else
 (bnd (f3_riddenBy s0 v4 v2) (fun r1 =>
 (if r1 = v1 then
 (chk (inB v4 6) (K5 ((v3 + (s0.2.1 3 (v4).toNatClampNeg)), (v4 + (1 : Int32)))))
 else
 (K5 ((v3 + (0 : Int32)), (v4 + (1 : Int32))))))))
def f3_ridersOf (s0 : Bl) (v1 : Int32) (v2 : Int32) : Option Int32 :=
    (loop (g3_ridersOf_5 s0 v1 v2) FU ((0 : Int32), (0 : Int32)))
def f3_marginOf (s0 : Bl) (v1 : Int32) (v2 : Int32) : Option Int32 :=
    (bnd (f3_floatOf s0 v1) (fun r1 =>
 (bnd (f3_weightOf s0 v1) (fun r2 =>
 (bnd (f3_ridersOf s0 v1 v2) (fun r3 =>
 (some ((r1 - r2) - r3))))))))
def f3_margin (s0 : Bl) (v1 : Int32) : Option Int32 :=
    (bnd (f3_isAfloat s0 v1) (fun r1 =>
 (if r1 = 0 then
 (some (-10000 : Int32))
 else
 (bnd (f3_pieceOf s0 v1) (fun r2 =>
 (bnd (f3_allRopes s0) (fun r3 =>
 (bnd (f3_marginOf s0 r2 r3) (fun r4 =>
 (some r4))))))))))
def f3_milesLeft (s0 : Bl) : Option Int32 :=
    (some ((s0.2.1 1 0) - (s0.2.1 1 6)))
def g3_moves_20 (s0 : Bl) (z0 : Int32) : Option (Int32 × Bl) :=
    (chk (inB (s0.1 56) 1540) (some (z0, (bI (bA s0 53 ((s0.1 56)).toNatClampNeg z0) 56 (((bA s0 53 ((s0.1 56)).toNatClampNeg z0).1 56) + (1 : Int32))))))
def f3_moves (s0 : Bl) (v1 : Int32) : Option (Int32 × Bl) :=
    (if (s0.1 57) = 0 then
 (g3_moves_20 s0 v1)
 else
 (chk (inB (s0.1 56) 1540) (g3_moves_20 s0 (s0.2.1 53 ((s0.1 56)).toNatClampNeg))))
def g3_movesRow_2 (k1 : Nat) (n1 : Nat) : (Bl × Int32 → Option Bl) → Bl × Int32 → Option Bl := fun K2 s => match s with
  | (s0, v2) =>
    (if (Int32.ofNat n1) ≤ v2 then
 (some s0)
 else
 (chk (inB v2 n1) (bnd2 (f3_moves s0 (s0.2.1 k1 (v2).toNatClampNeg)) (fun r1 s1 =>
 (chk (inB v2 n1) (K2 ((bA s1 k1 (v2).toNatClampNeg r1), (v2 + (1 : Int32)))))))))
def f3_movesRow (s0 : Bl) (k1 : Nat) (n1 : Nat) : Option Bl :=
    (loop (g3_movesRow_2 k1 n1) FU (s0, (0 : Int32)))
def f3_movesAll (s0 : Bl) (v1 : Int32) (v2 : Int32) : Option Bl :=
    (chk (isB v2) (bnd2 (f3_moves (bI (bI s0 56 ((77 : Int32) * v1)) 57 v2) ((bI (bI s0 56 ((77 : Int32) * v1)) 57 v2).2.1 1 6)) (fun r1 s1 =>
 (bnd2 (f3_moves (bA s1 1 6 r1) ((bA s1 1 6 r1).2.1 1 1)) (fun r2 s2 =>
 (bnd2 (f3_moves (bA s2 1 1 r2) ((bA s2 1 1 r2).2.1 1 4)) (fun r3 s3 =>
 (bnd (f3_movesRow (bA s3 1 4 r3) 4 6) (fun s4 =>
 (bnd (f3_movesRow s4 5 8) (fun s5 =>
 (bnd (f3_movesRow s5 7 8) (fun s6 =>
 (bnd (f3_movesRow s6 9 8) (fun s7 =>
 (bnd (f3_movesRow s7 10 8) (fun s8 =>
 (bnd (f3_movesRow s8 11 12) (fun s9 =>
 (bnd (f3_movesRow s9 12 12) (fun s10 =>
 (bnd (f3_movesRow s10 13 12) (fun s11 =>
 (some s11))))))))))))))))))))))))
def g3_keepsAct_12 : (Bl × Int32 → Option Bl) → Bl × Int32 → Option Bl := fun K12 s => match s with
  | (s0, v1) =>
    (if (1540 : Int32) ≤ v1 then
 (bnd (f3_movesAll (bI s0 55 ((s0.1 55) - (1 : Int32))) ((bI s0 55 ((s0.1 55) - (1 : Int32))).1 55) (0 : Int32)) (fun s2 =>
 (some (bI s2 55 ((s2.1 55) + (1 : Int32))))))
 else
 (chk (inB v1 1540) (chk (inB (v1 - (77 : Int32)) 1540) (K12 ((bA s0 53 ((v1 - (77 : Int32))).toNatClampNeg (s0.2.1 53 (v1).toNatClampNeg)), (v1 + (1 : Int32)))))))
def f3_keepsAct (s0 : Bl) : Option Bl :=
    (if (s0.1 55) = (20 : Int32) then
 (loop (g3_keepsAct_12) FU (s0, (77 : Int32)))
 else
 (bnd (f3_movesAll s0 (s0.1 55) (0 : Int32)) (fun s1 =>
 (some (bI s1 55 ((s1.1 55) + (1 : Int32)))))))
def g3_ropeGoes_2 : (Bl × Int32 → Option Bl) → Bl × Int32 → Option Bl := fun K2 s => match s with
  | (s0, v2) =>
    (if (s0.2.1 1 4) ≤ (v2 + (1 : Int32)) then
 (some (bA s0 1 4 ((s0.2.1 1 4) - (1 : Int32))))
 else
 (chk (inB (v2 + (1 : Int32)) 12) (chk (inB v2 12) (chk (inB (v2 + (1 : Int32)) 12) (chk (inB v2 12) (ltv (bA (bA s0 11 (v2).toNatClampNeg (s0.2.1 11 ((v2 + (1 : Int32))).toNatClampNeg)) 12 (v2).toNatClampNeg ((bA s0 11 (v2).toNatClampNeg (s0.2.1 11 ((v2 + (1 : Int32))).toNatClampNeg)).2.1 12 ((v2 + (1 : Int32))).toNatClampNeg)) (fun s1 =>
 (chk (inB (v2 + (1 : Int32)) 12) (chk (inB v2 12) (K2 ((bA s1 13 (v2).toNatClampNeg (s1.2.1 13 ((v2 + (1 : Int32))).toNatClampNeg)), (v2 + (1 : Int32)))))))))))))
def f3_ropeGoes (s0 : Bl) (v1 : Int32) : Option Bl :=
    (loop (g3_ropeGoes_2) FU (s0, v1))
def g3_ropesGoOf_45 (K12 : Bl × Int32 × Int32 → Option (Int32 × Bl)) (s0 : Bl) (v1 : Int32) (v2 : Int32) (v3 : Int32) (v4 : Int32) : Option (Int32 × Bl) :=
    (if v2 = 0 then
 (bnd (f3_ropeGoes (bA s0 1 1 ((s0.2.1 1 1) + (0 : Int32))) v4) (fun s2 =>
 (K12 (s2, (v3 + (1 : Int32)), (v4 + (-1 : Int32))))))
 else
 (chk (inB v4 12) (bnd (f3_ropeGoes (bA s0 1 1 ((s0.2.1 1 1) + (s0.2.1 13 (v4).toNatClampNeg))) v4) (fun s3 =>
 (K12 (s3, (v3 + (1 : Int32)), (v4 + (-1 : Int32))))))))
def g3_ropesGoOf_12 (v1 : Int32) (v2 : Int32) : (Bl × Int32 × Int32 → Option (Int32 × Bl)) → Bl × Int32 × Int32 → Option (Int32 × Bl) := fun K12 s => match s with
  | (s0, v3, v4) =>
    (if v4 < 0 then
 (some (v3, s0))
 else
 (chk (inB v4 12) (bnd (f3_has v1 (s0.2.1 11 (v4).toNatClampNeg)) (fun r1 =>
 (if r1 = 0 then
 (chk (inB v4 12) (bnd (f3_has v1 (s0.2.1 12 (v4).toNatClampNeg)) (fun r4 =>
 (if r4 = 0 then
 (K12 (s0, v3, (v4 + (-1 : Int32))))
 else
 (g3_ropesGoOf_45 K12 s0 v1 v2 v3 v4)))))
 else
 (g3_ropesGoOf_45 K12 s0 v1 v2 v3 v4))))))
def f3_ropesGoOf (s0 : Bl) (v1 : Int32) (v2 : Int32) : Option (Int32 × Bl) :=
    (loop (g3_ropesGoOf_12 v1 v2) FU (s0, (0 : Int32), ((s0.2.1 1 4) - (1 : Int32))))
def g3_bits_4 (v0 : Int32) : (Int32 × Int32 → Option Int32) → Int32 × Int32 → Option Int32 := fun K4 s => match s with
  | (v1, v2) =>
    (if (16 : Int32) ≤ v2 then
 (some v1)
 else
 (K4 ((v1 + ((v0 >>> (v2 &&& 31)) &&& (1 : Int32))), (v2 + (1 : Int32)))))
def f3_bits (v0 : Int32) : Option Int32 :=
    (loop (g3_bits_4 v0) FU ((0 : Int32), (0 : Int32)))
def g3_lands_108 (v1 : Int32) : (Bl × Int32 → Option Bl) → Bl × Int32 → Option Bl := fun K108 s => match s with
  | (s0, v2) =>
    (if (s0.2.1 1 3) ≤ v2 then
 (bnd (f3_bits v1) (fun r2 =>
 (some (bI s0 51 r2))))
 else
 (bnd (f3_has v1 v2) (fun r3 =>
 (if r3 = 0 then
 (chk (inB v2 8) (chk (inB v2 8) (K108 ((bA s0 9 (v2).toNatClampNeg (s0.2.1 9 (v2).toNatClampNeg)), (v2 + (1 : Int32))))))
 else
 (chk (inB v2 8) (K108 ((bA s0 9 (v2).toNatClampNeg (1 : Int32)), (v2 + (1 : Int32)))))))))
def g3_lands_48 (s0 : Bl) (v2 : Int32) (K4 : Bl × Int32 × Int32 → Option Bl) : (Int32 × Int32 → Option Bl) → Int32 × Int32 → Option Bl := fun K48 s => match s with
  | (v1, v3) =>
    (if (s0.2.1 1 3) ≤ v3 then
 (K4 (s0, v1, (v2 + (1 : Int32))))
 else
 (chk (inB v3 8) (if (s0.2.1 9 (v3).toNatClampNeg) = 0 then
 (chk (inB v3 8) (if (s0.2.1 5 (v3).toNatClampNeg) = v2 then
 (K48 ((v1 ||| ((1 : Int32) <<< (v3 &&& 31))), (v3 + (1 : Int32))))
 else
 (K48 ((v1 ||| (0 : Int32)), (v3 + (1 : Int32))))))
 else
 (K48 ((v1 ||| (0 : Int32)), (v3 + (1 : Int32)))))))
def g3_lands_4 : (Bl × Int32 × Int32 → Option Bl) → Bl × Int32 × Int32 → Option Bl := fun K4 s => match s with
  | (s0, v1, v2) =>
    (if (s0.2.1 1 2) ≤ v2 then
 (bnd2 (f3_ropesGoOf s0 v1 (1 : Int32)) (fun r1 s1 =>
 (loop (g3_lands_108 v1) FU (s1, (0 : Int32)))))
 else
 (chk (inB v2 6) (if (s0.2.1 4 (v2).toNatClampNeg) = 0 then
 (chk (inB v2 6) (if (s0.2.1 2 (v2).toNatClampNeg) = (s0.2.1 1 6) then
 (chk (inB v2 6) (loop (g3_lands_48 (bA s0 4 (v2).toNatClampNeg (1 : Int32)) v2 K4) FU (v1, (0 : Int32))))
 else
 (K4 (s0, v1, (v2 + (1 : Int32))))))
 else
 (K4 (s0, v1, (v2 + (1 : Int32)))))))
def f3_lands (s0 : Bl) : Option Bl :=
    (loop (g3_lands_4) FU (s0, (0 : Int32), (0 : Int32)))
def g3_sinking_13 (s0 : Bl) (v1 : Int32) (v2 : Int32) : (Int32 × Int32 × Int32 → Option Int32) → Int32 × Int32 × Int32 → Option Int32 := fun K13 s => match s with
  | (v3, v4, v5) =>
    (if (s0.2.1 1 3) ≤ v5 then
 (some v3)
 else
 (bnd (f3_has v2 v5) (fun r2 =>
 (if r2 = 0 then
 (K13 (v3, v4, (v5 + (1 : Int32))))
 else
 (bnd (f3_has v4 v5) (fun r3 =>
 (if r3 = 0 then
 (bnd (f3_hangsWith s0 v5 v2 v1) (fun r4 =>
 (bnd (f3_marginOf s0 r4 v1) (fun r5 =>
 (if 0 ≤ r5 then
 (K13 ((v3 ||| (0 : Int32)), (v4 ||| r4), (v5 + (1 : Int32))))
 else
 (K13 ((v3 ||| r4), (v4 ||| r4), (v5 + (1 : Int32)))))))))
 else
 (K13 (v3, v4, (v5 + (1 : Int32)))))))))))
def f3_sinking (s0 : Bl) (v1 : Int32) : Option Int32 :=
    (bnd (f3_afloat s0) (fun r1 =>
 (loop (g3_sinking_13 s0 v1 r1) FU ((0 : Int32), (0 : Int32), (0 : Int32)))))
def g3_mileBy_243 (v2 : Int32) : (Bl × Int32 → Option (Int32 × Bl)) → Bl × Int32 → Option (Int32 × Bl) := fun K243 s => match s with
  | (s0, v4) =>
    (if (s0.2.1 1 3) ≤ v4 then
 (bnd (f3_bits v2) (fun r5 =>
 (some (r5, s0))))
 else
 (bnd (f3_has v2 v4) (fun r6 =>
 (if r6 = 0 then
 (K243 (s0, (v4 + (1 : Int32))))
 else
 (chk (inB v4 8) (chk (inB v4 8) (K243 ((bA (bA s0 9 (v4).toNatClampNeg (2 : Int32)) 10 (v4).toNatClampNeg ((bA s0 9 (v4).toNatClampNeg (2 : Int32)).2.1 1 6)), (v4 + (1 : Int32))))))))))
def g3_mileBy_189 (v2 : Int32) (v3 : Int32) : (Bl × Int32 → Option (Int32 × Bl)) → Bl × Int32 → Option (Int32 × Bl) := fun K189 s => match s with
  | (s0, v4) =>
    (if (s0.2.1 1 2) ≤ v4 then
 (bnd2 (f3_ropesGoOf s0 v2 (0 : Int32)) (fun r4 s4 =>
 (loop (g3_mileBy_243 v2) FU (s4, (0 : Int32)))))
 else
 (bnd (f3_has v3 v4) (fun r7 =>
 (if r7 = 0 then
 (chk (inB v4 6) (chk (inB v4 6) (K189 ((bA s0 4 (v4).toNatClampNeg (s0.2.1 4 (v4).toNatClampNeg)), (v4 + (1 : Int32))))))
 else
 (chk (inB v4 6) (K189 ((bA s0 4 (v4).toNatClampNeg (2 : Int32)), (v4 + (1 : Int32)))))))))
def g3_mileBy_143 (s0 : Bl) (v2 : Int32) : (Int32 × Int32 → Option (Int32 × Bl)) → Int32 × Int32 → Option (Int32 × Bl) := fun K143 s => match s with
  | (v3, v4) =>
    (if (s0.2.1 1 2) ≤ v4 then
 (loop (g3_mileBy_189 v2 v3) FU (s0, (0 : Int32)))
 else
 (bnd (f3_allRopes s0) (fun r8 =>
 (bnd (f3_riddenBy s0 v4 r8) (fun r9 =>
 (if (r9 &&& v2) = 0 then
 (K143 ((v3 ||| (0 : Int32)), (v4 + (1 : Int32))))
 else
 (K143 ((v3 ||| ((1 : Int32) <<< (v4 &&& 31))), (v4 + (1 : Int32))))))))))
def g3_mileBy_90 (v1 : Int32) : (Bl × Int32 → Option (Int32 × Bl)) → Bl × Int32 → Option (Int32 × Bl) := fun K90 s => match s with
  | (s0, v2) =>
    (if v2 < 0 then
 (bnd (f3_lands s0) (fun s1 =>
 (bnd (f3_allRopes s1) (fun r2 =>
 (bnd (f3_sinking s1 r2) (fun r3 =>
 (loop (g3_mileBy_143 s1 r3) FU ((0 : Int32), (0 : Int32)))))))))
 else
 (chk (inB v2 12) (if v1 ≤ (s0.2.1 13 (v2).toNatClampNeg) then
 (K90 (s0, (v2 + (-1 : Int32))))
 else
 (bnd (f3_ropeGoes s0 v2) (fun s10 =>
 (K90 ((bI s10 52 ((s10.1 52) + (1 : Int32))), (v2 + (-1 : Int32)))))))))
def g3_mileBy_13 (v1 : Int32) : (Bl × Int32 → Option (Int32 × Bl)) → Bl × Int32 → Option (Int32 × Bl) := fun K13 s => match s with
  | (s0, v2) =>
    (if (s0.2.1 1 3) ≤ v2 then
 (loop (g3_mileBy_90 v1) FU ((bI s0 52 (0 : Int32)), (((bI s0 52 (0 : Int32)).2.1 1 4) - (1 : Int32))))
 else
 (chk (inB v2 8) (if (s0.2.1 9 (v2).toNatClampNeg) = 0 then
 (chk (inB v2 8) (chk (inB v2 8) (if (s0.2.1 7 (v2).toNatClampNeg) ≤ (s0.2.1 8 (v2).toNatClampNeg) then
 (chk (inB v2 8) (K13 ((bA s0 7 (v2).toNatClampNeg (0 : Int32)), (v2 + (1 : Int32)))))
 else
 (chk (inB v2 8) (chk (inB v2 8) (chk (inB v2 8) (K13 ((bA s0 7 (v2).toNatClampNeg ((s0.2.1 7 (v2).toNatClampNeg) - (s0.2.1 8 (v2).toNatClampNeg))), (v2 + (1 : Int32))))))))))
 else
 (K13 (s0, (v2 + (1 : Int32)))))))
def f3_mileBy (s0 : Bl) (v1 : Int32) : Option (Int32 × Bl) :=
    (loop (g3_mileBy_13 v1) FU ((bA s0 1 6 ((s0.2.1 1 6) + (1 : Int32))), (0 : Int32)))
def f3_goesMile (s0 : Bl) : Option (Int32 × Bl) :=
    (bnd (f3_forceAt s0 ((s0.2.1 1 6) + (1 : Int32))) (fun r1 =>
 (bnd2 (f3_mileBy s0 r1) (fun r2 s2 =>
 (some (r2, s2))))))
def f3_mile (s0 : Bl) : Option (Int32 × Bl) :=
    (bnd (f3_isRiver s0) (fun r1 =>
 (if r1 = 0 then
 (some ((-1 : Int32), s0))
 else
 (bnd (f3_milesLeft s0) (fun r2 =>
 (if r2 = 0 then
 (some ((-1 : Int32), s0))
 else
 (bnd (f3_keepsAct s0) (fun s3 =>
 (bnd2 (f3_goesMile s3) (fun r4 s4 =>
 (some (r4, s4))))))))))))
def g3_isBound_32 (s0 : Bl) (K2 : Int32 → Option Int32) (v1 : Int32) (v2 : Int32) (v3 : Int32) : Option Int32 :=
    (chk (inB v3 12) (if (s0.2.1 11 (v3).toNatClampNeg) = v2 then
 (chk (inB v3 12) (if (s0.2.1 12 (v3).toNatClampNeg) = v1 then
 (some (1 : Int32))
 else
 (K2 (v3 + (1 : Int32)))))
 else
 (K2 (v3 + (1 : Int32)))))
def g3_isBound_2 (s0 : Bl) (v1 : Int32) (v2 : Int32) : (Int32 → Option Int32) → Int32 → Option Int32 := fun K2 v3 =>
    (if (s0.2.1 1 4) ≤ v3 then
 (some (0 : Int32))
 else
 (chk (inB v3 12) (if (s0.2.1 11 (v3).toNatClampNeg) = v1 then
 (chk (inB v3 12) (if (s0.2.1 12 (v3).toNatClampNeg) = v2 then
 (some (1 : Int32))
 else
 (g3_isBound_32 s0 K2 v1 v2 v3)))
 else
 (g3_isBound_32 s0 K2 v1 v2 v3))))
def f3_isBound (s0 : Bl) (v1 : Int32) (v2 : Int32) : Option Int32 :=
    (loop (g3_isBound_2 s0 v1 v2) FU (0 : Int32))
def f3_canBind (s0 : Bl) (v1 : Int32) (v2 : Int32) (v3 : Int32) : Option Int32 :=
    (bnd (f3_isAfloat s0 v1) (fun r1 =>
 (if r1 = 0 then
 (some (0 : Int32))
 else
 (bnd (f3_isAfloat s0 v2) (fun r2 =>
 (if r2 = 0 then
 (some (0 : Int32))
 else
 (if v1 = v2 then
 (some (0 : Int32))
 else
 (bnd (f3_in (v3).toInt64 (1 : Int64) (9 : Int64)) (fun r3 =>
 (if r3 = 0 then
 (some (0 : Int32))
 else
 (if (s0.2.1 1 1) < v3 then
 (some (0 : Int32))
 else
 (if (12 : Int32) ≤ (s0.2.1 1 4) then
 (some (0 : Int32))
 else
 (bnd (f3_isBound s0 v1 v2) (fun r4 =>
 (if r4 = 0 then
 (some (1 : Int32))
 else
 (some (0 : Int32)))))))))))))))))
def g3_binds_41 (s0 : Bl) (v3 : Int32) (v4 : Int32) (z0 : Int32) (z1 : Int32) : Option (Int32 × Bl) :=
    (chk (inB z1 12) (chk (inB v4 12) (ltv (bA (bA (bA s0 12 (z1).toNatClampNeg z0) 13 (v4).toNatClampNeg v3) 1 1 (((bA (bA s0 12 (z1).toNatClampNeg z0) 13 (v4).toNatClampNeg v3).2.1 1 1) - v3)) (fun s1 =>
 (some (v4, (bA s1 1 4 ((s1.2.1 1 4) + (1 : Int32)))))))))
def f3_binds (s0 : Bl) (v1 : Int32) (v2 : Int32) (v3 : Int32) : Option (Int32 × Bl) :=
    (if v2 ≤ v1 then
 (chk (inB (s0.2.1 1 4) 12) (if v2 ≤ v1 then
 (g3_binds_41 (bA s0 11 ((s0.2.1 1 4)).toNatClampNeg v2) v3 (s0.2.1 1 4) v1 (s0.2.1 1 4))
 else
 (g3_binds_41 (bA s0 11 ((s0.2.1 1 4)).toNatClampNeg v2) v3 (s0.2.1 1 4) v2 (s0.2.1 1 4))))
 else
 (chk (inB (s0.2.1 1 4) 12) (if v2 ≤ v1 then
 (g3_binds_41 (bA s0 11 ((s0.2.1 1 4)).toNatClampNeg v1) v3 (s0.2.1 1 4) v1 (s0.2.1 1 4))
 else
 (g3_binds_41 (bA s0 11 ((s0.2.1 1 4)).toNatClampNeg v1) v3 (s0.2.1 1 4) v2 (s0.2.1 1 4)))))
def f3_bind (s0 : Bl) (v1 : Int32) (v2 : Int32) (v3 : Int32) : Option (Int32 × Bl) :=
    (bnd (f3_canBind s0 v1 v2 v3) (fun r1 =>
 (if r1 = 0 then
 (some ((-1 : Int32), s0))
 else
 (bnd (f3_keepsAct s0) (fun s2 =>
 (bnd2 (f3_binds s2 v1 v2 v3) (fun r3 s3 =>
 (some (r3, s3)))))))))
def f3_cut (s0 : Bl) (v1 : Int32) : Option (Int32 × Bl) :=
    (bnd (f3_isRope s0 v1) (fun r1 =>
 (if r1 = 0 then
 (some ((-1 : Int32), s0))
 else
 (bnd (f3_keepsAct s0) (fun s2 =>
 (chk (inB v1 12) (bnd (f3_ropeGoes (bA s2 1 1 ((s2.2.1 1 1) + (s2.2.1 13 (v1).toNatClampNeg))) v1) (fun s3 =>
 (some ((s3.2.1 1 1), s3))))))))))
def f3_saw (s0 : Bl) (v1 : Int32) : Option (Int32 × Bl) :=
    (bnd (f3_isAfloat s0 v1) (fun r1 =>
 (if r1 = 0 then
 (some ((-1 : Int32), s0))
 else
 (bnd (f3_keepsAct s0) (fun s2 =>
 (bnd2 (f3_ropesGoOf s2 ((1 : Int32) <<< (v1 &&& 31)) (0 : Int32)) (fun r3 s3 =>
 (some (r3, s3)))))))))
def f3_push (s0 : Bl) (v1 : Int32) (v2 : Int32) : Option (Int32 × Bl) :=
    (bnd (f3_isAfloat s0 v1) (fun r1 =>
 (if r1 = 0 then
 (some ((-1 : Int32), s0))
 else
 (bnd (f3_isOwner s0 v2) (fun r2 =>
 (if r2 = 0 then
 (some ((-1 : Int32), s0))
 else
 (chk (inB v1 8) (if (s0.2.1 5 (v1).toNatClampNeg) = v2 then
 (some ((-1 : Int32), s0))
 else
 (bnd (f3_keepsAct s0) (fun s3 =>
 (chk (inB v1 8) (chk (inB v1 8) (some ((s3.2.1 5 (v1).toNatClampNeg), (bA s3 5 (v1).toNatClampNeg v2)))))))))))))))
def f3_undo (s0 : Bl) : Option (Int32 × Bl) :=
    (if (s0.1 55) = 0 then
 (some ((-2 : Int32), s0))
 else
 (bnd (f3_movesAll (bI s0 55 ((s0.1 55) - (1 : Int32))) ((bI s0 55 ((s0.1 55) - (1 : Int32))).1 55) (1 : Int32)) (fun s1 =>
 (some ((s1.1 55), s1)))))
def g3_carryRow_2 (k1 : Nat) (n1 : Nat) : (Bl × Int32 → Option Bl) → Bl × Int32 → Option Bl := fun K2 s => match s with
  | (s0, v2) =>
    (if (Int32.ofNat n1) ≤ v2 then
 (some s0)
 else
 (if (s0.1 72) = 0 then
 (chk (inB v2 n1) (chk (inB (s0.1 71) 9500) (ltv (bI (bA s0 69 ((s0.1 71)).toNatClampNeg (s0.2.1 k1 (v2).toNatClampNeg)) 71 (((bA s0 69 ((s0.1 71)).toNatClampNeg (s0.2.1 k1 (v2).toNatClampNeg)).1 71) + (1 : Int32))) (fun s1 =>
 (K2 (s1, (v2 + (1 : Int32))))))))
 else
 (chk (inB (s0.1 71) 9500) (chk (inB v2 n1) (ltv (bI (bA s0 k1 (v2).toNatClampNeg (s0.2.1 69 ((s0.1 71)).toNatClampNeg)) 71 (((bA s0 k1 (v2).toNatClampNeg (s0.2.1 69 ((s0.1 71)).toNatClampNeg)).1 71) + (1 : Int32))) (fun s2 =>
 (K2 (s2, (v2 + (1 : Int32))))))))))
def f3_carryRow (s0 : Bl) (k1 : Nat) (n1 : Nat) : Option Bl :=
    (loop (g3_carryRow_2 k1 n1) FU (s0, (0 : Int32)))
def f3_carriesAll (s0 : Bl) (v1 : Int32) (v2 : Int32) : Option Bl :=
    (chk (isB v2) (bnd (f3_carryRow (bA (bI (bI s0 71 ((1900 : Int32) * v1)) 72 v2) 54 0 ((bI (bI s0 71 ((1900 : Int32) * v1)) 72 v2).1 55)) 54 1) (fun s1 =>
 (bnd (f3_carryRow (bI s1 55 (s1.2.1 54 0)) 1 9) (fun s2 =>
 (bnd (f3_carryRow s2 2 6) (fun s3 =>
 (bnd (f3_carryRow s3 3 6) (fun s4 =>
 (bnd (f3_carryRow s4 4 6) (fun s5 =>
 (bnd (f3_carryRow s5 5 8) (fun s6 =>
 (bnd (f3_carryRow s6 6 8) (fun s7 =>
 (bnd (f3_carryRow s7 7 8) (fun s8 =>
 (bnd (f3_carryRow s8 8 8) (fun s9 =>
 (bnd (f3_carryRow s9 9 8) (fun s10 =>
 (bnd (f3_carryRow s10 10 8) (fun s11 =>
 (bnd (f3_carryRow s11 11 12) (fun s12 =>
 (bnd (f3_carryRow s12 12 12) (fun s13 =>
 (bnd (f3_carryRow s13 13 12) (fun s14 =>
 (bnd (f3_carryRow s14 14 6) (fun s15 =>
 (bnd (f3_carryRow s15 15 6) (fun s16 =>
 (bnd (f3_carryRow s16 16 6) (fun s17 =>
 (bnd (f3_carryRow s17 17 6) (fun s18 =>
 (bnd (f3_carryRow s18 18 6) (fun s19 =>
 (bnd (f3_carryRow s19 53 1540) (fun s20 =>
 (some s20))))))))))))))))))))))))))))))))))))))))))
def f3_keepsAll (s0 : Bl) : Option Bl :=
    (bnd (f3_carriesAll s0 (4 : Int32) (0 : Int32)) (fun s1 =>
 (some s1)))
def g3_thingsAt_4 (s0 : Bl) (v1 : Int32) : (Int32 × Int32 → Option Int32) → Int32 × Int32 → Option Int32 := fun K4 s => match s with
  | (v2, v3) =>
    (if (s0.2.1 1 3) ≤ v3 then
 (some v2)
 else
 (chk (inB v3 8) (if (s0.2.1 9 (v3).toNatClampNeg) = v1 then
 (K4 ((v2 ||| ((1 : Int32) <<< (v3 &&& 31))), (v3 + (1 : Int32))))
 else
 (K4 ((v2 ||| (0 : Int32)), (v3 + (1 : Int32)))))))
def f3_thingsAt (s0 : Bl) (v1 : Int32) : Option Int32 :=
    (loop (g3_thingsAt_4 s0 v1) FU ((0 : Int32), (0 : Int32)))
def f3_laysBack (s0 : Bl) : Option Bl :=
    (bnd (f3_carriesAll s0 (4 : Int32) (1 : Int32)) (fun s1 =>
 (some s1)))
def g3_ahead_75 (s0 : Bl) (v2 : Int32) : (Int32 × Int32 → Option (Int32 × Bl)) → Int32 × Int32 → Option (Int32 × Bl) := fun K75 s => match s with
  | (v3, v4) =>
    (if (s0.2.1 1 2) ≤ v4 then
 (bnd (f3_laysBack s0) (fun s6 =>
 (some (v3, s6))))
 else
 (if v2 = (3 : Int32) then
 (chk (inB v4 6) (if (s0.2.1 4 (v4).toNatClampNeg) = (2 : Int32) then
 (K75 ((v3 ||| ((1 : Int32) <<< (v4 &&& 31))), (v4 + (1 : Int32))))
 else
 (K75 ((v3 ||| (0 : Int32)), (v4 + (1 : Int32))))))
 else
 (bnd (f3_laysBack s0) (fun s7 =>
 (some (v3, s7))))))
def g3_ahead_41 (v1 : Int32) (v2 : Int32) : (Bl × Int32 → Option (Int32 × Bl)) → Bl × Int32 → Option (Int32 × Bl) := fun K41 s => match s with
  | (s0, v3) =>
    (if v1 ≤ v3 then
 (if (3 : Int32) ≤ v2 then
 (loop (g3_ahead_75 s0 v2) FU ((0 : Int32), (0 : Int32)))
 else
 (bnd (f3_thingsAt s0 v2) (fun r8 =>
 (loop (g3_ahead_75 s0 v2) FU (r8, (0 : Int32))))))
 else
 (bnd2 (f3_goesMile s0) (fun r9 s9 =>
 (K41 (s9, (v3 + (1 : Int32)))))))
def f3_ahead (s0 : Bl) (v1 : Int32) (v2 : Int32) : Option (Int32 × Bl) :=
    (bnd (f3_isRiver s0) (fun r1 =>
 (if r1 = 0 then
 (some ((-1 : Int32), s0))
 else
 (bnd (f3_milesLeft s0) (fun r2 =>
 (bnd (f3_in (v1).toInt64 (0 : Int64) (r2).toInt64) (fun r3 =>
 (if r3 = 0 then
 (some ((-1 : Int32), s0))
 else
 (bnd (f3_in (v2).toInt64 (0 : Int64) (3 : Int64)) (fun r4 =>
 (if r4 = 0 then
 (some ((-1 : Int32), s0))
 else
 (bnd (f3_keepsAll s0) (fun s5 =>
 (loop (g3_ahead_41 v1 v2) FU (s5, (0 : Int32))))))))))))))))
def g3_sinks_14 (v1 : Int32) : (Bl → Option (Int32 × Bl)) → Bl → Option (Int32 × Bl) := fun K14 s0 =>
    (bnd (f3_milesLeft s0) (fun r3 =>
 (if r3 ≤ 0 then
 (chk (inB v1 8) (bnd (f3_laysBack s0) (fun s4 =>
 (some ((s0.2.1 10 (v1).toNatClampNeg), s4)))))
 else
 (chk (inB v1 8) (if (s0.2.1 9 (v1).toNatClampNeg) = 0 then
 (bnd2 (f3_goesMile s0) (fun r6 s6 =>
 (K14 s6)))
 else
 (chk (inB v1 8) (bnd (f3_laysBack s0) (fun s5 =>
 (some ((s0.2.1 10 (v1).toNatClampNeg), s5))))))))))
def f3_sinks (s0 : Bl) (v1 : Int32) : Option (Int32 × Bl) :=
    (bnd (f3_isThing s0 v1) (fun r1 =>
 (if r1 = 0 then
 (some ((-1 : Int32), s0))
 else
 (bnd (f3_keepsAll s0) (fun s2 =>
 (loop (g3_sinks_14 v1) FU s2))))))
def f3_isBorne (s0 : Bl) (v1 : Int32) : Option Int32 :=
    (bnd (f3_floatOf s0 v1) (fun r1 =>
 (bnd (f3_weightOf s0 v1) (fun r2 =>
 (if r1 < r2 then
 (some (0 : Int32))
 else
 (some (1 : Int32)))))))
def g3_bearers_50 (s0 : Bl) (v1 : Int32) (v2 : Int32) (v3 : Int32) : (Int32 × Int32 → Option Int32) → Int32 × Int32 → Option Int32 := fun K50 s => match s with
  | (v4, v5) =>
    (if v3 < v5 then
 (if v4 = (-2 : Int32) then
 (some v4)
 else
 (if v2 = (1 : Int32) then
 (some v4)
 else
 (bnd (f3_bits v4) (fun r5 =>
 (some r5)))))
 else
 (if (v5 &&& (v3 ^^^ (-1 : Int32))) = 0 then
 (if v4 = (-2 : Int32) then
 (bnd (f3_isBorne s0 (v1 ||| v5)) (fun r6 =>
 (if r6 = 0 then
 (K50 (v4, (v5 + (1 : Int32))))
 else
 (K50 (v5, (v5 + (1 : Int32)))))))
 else
 (bnd (f3_bits v5) (fun r7 =>
 (bnd (f3_bits v4) (fun r8 =>
 (if r8 ≤ r7 then
 (K50 (v4, (v5 + (1 : Int32))))
 else
 (bnd (f3_isBorne s0 (v1 ||| v5)) (fun r9 =>
 (if r9 = 0 then
 (K50 (v4, (v5 + (1 : Int32))))
 else
 (K50 (v5, (v5 + (1 : Int32)))))))))))))
 else
 (K50 (v4, (v5 + (1 : Int32))))))
def f3_bearers (s0 : Bl) (v1 : Int32) (v2 : Int32) : Option Int32 :=
    (bnd (f3_isRiver s0) (fun r1 =>
 (if r1 = 0 then
 (some (-1 : Int32))
 else
 (if v1 < 0 then
 (some (-1 : Int32))
 else
 (bnd (f3_afloat s0) (fun r2 =>
 (if (v1 &&& (r2 ^^^ (-1 : Int32))) = 0 then
 (bnd (f3_in (v2).toInt64 (0 : Int64) (1 : Int64)) (fun r3 =>
 (if r3 = 0 then
 (some (-1 : Int32))
 else
 (bnd (f3_afloat s0) (fun r4 =>
 (loop (g3_bearers_50 s0 v1 v2 (r4 &&& (v1 ^^^ (-1 : Int32)))) FU ((-2 : Int32), (0 : Int32))))))))
 else
 (some (-1 : Int32)))))))))
def g3_laysLater_237 (K34 : Bl × Int32 × Int32 → Option (Int32 × Bl)) (s0 : Bl) (v1 : Int32) (v3 : Int32) (v4 : Int32) (z0 : Int32) : Option (Int32 × Bl) :=
    (chk (inB (s0.1 61) 7) (K34 ((bI (bA s0 60 ((s0.1 61)).toNatClampNeg v4) 61 (((bA s0 60 ((s0.1 61)).toNatClampNeg v4).1 61) + (1 : Int32))), z0, (v3 + (1 : Int32)))))
def g3_laysLater_153 (s0 : Bl) (v1 : Int32) (v2 : Int32) (v3 : Int32) (v4 : Int32) (K34 : Bl × Int32 × Int32 → Option (Int32 × Bl)) : (Int32 × Int32 → Option (Int32 × Bl)) → Int32 × Int32 → Option (Int32 × Bl) := fun K153 s => match s with
  | (v6, v7) =>
    (if (s0.2.1 1 3) ≤ v7 then
 (if v2 = 0 then
 (g3_laysLater_237 K34 s0 v1 v3 v4 (0 : Int32))
 else
 (if v6 < 0 then
 (g3_laysLater_237 K34 s0 v1 v3 v4 (0 : Int32))
 else
 (g3_laysLater_237 K34 s0 v1 v3 v4 (1 : Int32))))
 else
 (chk (inB v7 8) (chk (inB v7 8) (ltv ((s0.2.1 7 (v7).toNatClampNeg) - ((s0.2.1 8 (v7).toNatClampNeg) * (v3 - (s0.2.1 1 6)))) (fun y4 =>
 (bnd (f3_has v4 v7) (fun r5 =>
 (if r5 = 0 then
 (K153 ((v6 + (0 : Int32)), (v7 + (1 : Int32))))
 else
 (if y4 ≤ 0 then
 (K153 ((v6 + (0 : Int32)), (v7 + (1 : Int32))))
 else
 (K153 ((v6 + y4), (v7 + (1 : Int32)))))))))))))
def g3_laysLater_99 (K34 : Bl × Int32 × Int32 → Option (Int32 × Bl)) (K53 : Int32 × Int32 × Int32 → Option (Int32 × Bl)) (s0 : Bl) (v1 : Int32) (v2 : Int32) (v3 : Int32) (v5 : Int32) (v6 : Int32) (z0 : Int32) (z1 : Int32) : Option (Int32 × Bl) :=
    (if v5 = 0 then
 (chk (inB v6 8) (chk (inB (s0.2.1 5 (v6).toNatClampNeg) 6) (if (s0.2.1 2 ((s0.2.1 5 (v6).toNatClampNeg)).toNatClampNeg) = v3 then
 (K53 ((z1 ||| z0), (1 : Int32), (v6 + (1 : Int32))))
 else
 (K53 ((z1 ||| z0), (0 : Int32), (v6 + (1 : Int32)))))))
 else
 (K53 ((z1 ||| z0), (1 : Int32), (v6 + (1 : Int32)))))
def g3_laysLater_53 (s0 : Bl) (v1 : Int32) (v2 : Int32) (v3 : Int32) (K34 : Bl × Int32 × Int32 → Option (Int32 × Bl)) : (Int32 × Int32 × Int32 → Option (Int32 × Bl)) → Int32 × Int32 × Int32 → Option (Int32 × Bl) := fun K53 s => match s with
  | (v4, v5, v6) =>
    (if (s0.2.1 1 3) ≤ v6 then
 (if v5 = 0 then
 (K34 (s0, v2, (v3 + (1 : Int32))))
 else
 (bnd (f3_weightOf s0 v4) (fun r3 =>
 (loop (g3_laysLater_153 s0 v1 v2 v3 v4 K34) FU ((-r3), (0 : Int32))))))
 else
 (bnd (f3_has v1 v6) (fun r6 =>
 (if r6 = 0 then
 (K53 (v4, v5, (v6 + (1 : Int32))))
 else
 (chk (inB v6 8) (chk (inB (s0.2.1 5 (v6).toNatClampNeg) 6) (if (s0.2.1 2 ((s0.2.1 5 (v6).toNatClampNeg)).toNatClampNeg) ≤ v3 then
 (g3_laysLater_99 K34 K53 s0 v1 v2 v3 v5 v6 (0 : Int32) v4)
 else
 (g3_laysLater_99 K34 K53 s0 v1 v2 v3 v5 v6 ((1 : Int32) <<< (v6 &&& 31)) v4))))))))
def g3_laysLater_34 (v1 : Int32) : (Bl × Int32 × Int32 → Option (Int32 × Bl)) → Bl × Int32 × Int32 → Option (Int32 × Bl) := fun K34 s => match s with
  | (s0, v2, v3) =>
    (if (s0.2.1 1 0) < v3 then
 (chk (isB v2) (some (v2, s0)))
 else
 (loop (g3_laysLater_53 s0 v1 v2 v3 K34) FU ((0 : Int32), (0 : Int32), (0 : Int32))))
def f3_laysLater (s0 : Bl) (v1 : Int32) : Option (Int32 × Bl) :=
    (bnd (f3_floatOf (bI s0 61 (0 : Int32)) v1) (fun r1 =>
 (bnd (f3_weightOf (bI s0 61 (0 : Int32)) v1) (fun r2 =>
 (if r1 < r2 then
 (loop (g3_laysLater_34 v1) FU ((bI s0 61 (0 : Int32)), (0 : Int32), (((bI s0 61 (0 : Int32)).2.1 1 6) + (1 : Int32))))
 else
 (loop (g3_laysLater_34 v1) FU ((bI s0 61 (0 : Int32)), (1 : Int32), (((bI s0 61 (0 : Int32)).2.1 1 6) + (1 : Int32)))))))))
def g3_areTogether_52 (s0 : Bl) (K2 : Int32 → Option Int32) (K15 : Int32 × Int32 → Option Int32) (v1 : Int32) (v2 : Int32) (v3 : Int32) (v4 : Int32) (z0 : Int32) : Option Int32 :=
    (chk (inB v2 7) (chk (inB v4 9) (bnd (f3_has (s0.2.1 60 (v2).toNatClampNeg) (s0.2.1 58 (v4).toNatClampNeg)) (fun r1 =>
 (if r1 = 0 then
 (K15 ((v3 + (0 : Int32)), (v4 + (1 : Int32))))
 else
 (if z0 = 0 then
 (K15 ((v3 + (1 : Int32)), (v4 + (1 : Int32))))
 else
 (K15 ((v3 + (0 : Int32)), (v4 + (1 : Int32))))))))))
def g3_areTogether_15 (s0 : Bl) (v1 : Int32) (v2 : Int32) (K2 : Int32 → Option Int32) : (Int32 × Int32 → Option Int32) → Int32 × Int32 → Option Int32 := fun K15 s => match s with
  | (v3, v4) =>
    (if v1 ≤ v4 then
 (if v3 ≤ (1 : Int32) then
 (K2 (v2 + (1 : Int32)))
 else
 (some (0 : Int32)))
 else
 (if v4 ≤ 0 then
 (g3_areTogether_52 s0 K2 K15 v1 v2 v3 v4 (0 : Int32))
 else
 (chk (inB v2 7) (chk (inB (v4 - (1 : Int32)) 9) (bnd (f3_has (s0.2.1 60 (v2).toNatClampNeg) (s0.2.1 58 ((v4 - (1 : Int32))).toNatClampNeg)) (fun r2 =>
 (if r2 = 0 then
 (g3_areTogether_52 s0 K2 K15 v1 v2 v3 v4 (0 : Int32))
 else
 (g3_areTogether_52 s0 K2 K15 v1 v2 v3 v4 (1 : Int32)))))))))
def g3_areTogether_2 (s0 : Bl) (v1 : Int32) : (Int32 → Option Int32) → Int32 → Option Int32 := fun K2 v2 =>
    (if (s0.1 61) ≤ v2 then
 (some (1 : Int32))
 else
 (loop (g3_areTogether_15 s0 v1 v2 K2) FU ((0 : Int32), (0 : Int32))))
def f3_areTogether (s0 : Bl) (v1 : Int32) : Option Int32 :=
    (loop (g3_areTogether_2 s0 v1) FU (0 : Int32))
def g3_takesRow_10 (v1 : Int32) : (Bl × Int32 → Option Bl) → Bl × Int32 → Option Bl := fun K10 s => match s with
  | (s0, v2) =>
    (if v1 ≤ v2 then
 (some (bI s0 62 ((s0.1 62) + (1 : Int32))))
 else
 (if (s0.1 62) = 0 then
 (chk (inB v2 9) (chk (inB v2 8) (K10 ((bA s0 59 (v2).toNatClampNeg (s0.2.1 58 (v2).toNatClampNeg)), (v2 + (1 : Int32))))))
 else
 (some (bI s0 62 ((s0.1 62) + (1 : Int32))))))
def f3_takesRow (s0 : Bl) (v1 : Int32) : Option Bl :=
    (bnd (f3_areTogether s0 v1) (fun r1 =>
 (if r1 = 0 then
 (some s0)
 else
 (loop (g3_takesRow_10 v1) FU (s0, (0 : Int32))))))
def g3_findsRows_136 (K41 : Bl × Int32 × Int32 → Option Bl) (s0 : Bl) (v1 : Int32) (v2 : Int32) (v3 : Int32) (v4 : Int32) : Option Bl :=
    (chk (inB v3 9) (if (s0.2.1 58 (v3).toNatClampNeg) = (8 : Int32) then
 (K41 (s0, (v3 + (-1 : Int32)), v4))
 else
 (if v3 = (v2 - (1 : Int32)) then
 (bnd (f3_takesRow s0 v2) (fun s4 =>
 (K41 (s4, v3, v4))))
 else
 (chk (inB v3 9) (chk (inB (v3 + (1 : Int32)) 9) (K41 ((bA s0 58 ((v3 + (1 : Int32))).toNatClampNeg (-1 : Int32)), (v3 + (1 : Int32)), (v4 ||| ((1 : Int32) <<< ((s0.2.1 58 (v3).toNatClampNeg) &&& 31))))))))))
def g3_findsRows_85 (v1 : Int32) (v2 : Int32) (v3 : Int32) (v4 : Int32) (K41 : Bl × Int32 × Int32 → Option Bl) : (Bl → Option Bl) → Bl → Option Bl := fun K85 s0 =>
    (chk (inB v3 9) (if (8 : Int32) ≤ (s0.2.1 58 (v3).toNatClampNeg) then
 (g3_findsRows_136 K41 s0 v1 v2 v3 v4)
 else
 (chk (inB v3 9) (bnd (f3_has v1 (s0.2.1 58 (v3).toNatClampNeg)) (fun r5 =>
 (if r5 = 0 then
 (chk (inB v3 9) (chk (inB v3 9) (K85 (bA s0 58 (v3).toNatClampNeg ((s0.2.1 58 (v3).toNatClampNeg) + (1 : Int32))))))
 else
 (chk (inB v3 9) (bnd (f3_has v4 (s0.2.1 58 (v3).toNatClampNeg)) (fun r6 =>
 (if r6 = 0 then
 (g3_findsRows_136 K41 s0 v1 v2 v3 v4)
 else
 (chk (inB v3 9) (chk (inB v3 9) (K85 (bA s0 58 (v3).toNatClampNeg ((s0.2.1 58 (v3).toNatClampNeg) + (1 : Int32))))))))))))))))
def g3_findsRows_41 (v1 : Int32) (v2 : Int32) : (Bl × Int32 × Int32 → Option Bl) → Bl × Int32 × Int32 → Option Bl := fun K41 s => match s with
  | (s0, v3, v4) =>
    (if v3 < 0 then
 (some s0)
 else
 (chk (inB v3 9) (if (s0.2.1 58 (v3).toNatClampNeg) = (-1 : Int32) then
 (chk (inB v3 9) (chk (inB v3 9) (loop (g3_findsRows_85 v1 v2 v3 v4 K41) FU (bA s0 58 (v3).toNatClampNeg ((s0.2.1 58 (v3).toNatClampNeg) + (1 : Int32))))))
 else
 (chk (inB v3 9) (ltv (v4 &&& (((1 : Int32) <<< ((s0.2.1 58 (v3).toNatClampNeg) &&& 31)) ^^^ (-1 : Int32))) (fun y3 =>
 (chk (inB v3 9) (chk (inB v3 9) (loop (g3_findsRows_85 v1 v2 v3 y3 K41) FU (bA s0 58 (v3).toNatClampNeg ((s0.2.1 58 (v3).toNatClampNeg) + (1 : Int32))))))))))))
def f3_findsRows (s0 : Bl) (v1 : Int32) : Option Bl :=
    (bnd (f3_bits v1) (fun r1 =>
 (bnd2 (f3_laysLater (bI s0 62 (0 : Int32)) v1) (fun r2 s2 =>
 (if r2 = 0 then
 (some s2)
 else
 (if r1 = 0 then
 (some (bI s2 62 (1 : Int32)))
 else
 (loop (g3_findsRows_41 v1 r1) FU ((bA s2 58 0 (-1 : Int32)), (0 : Int32), (0 : Int32)))))))))
def f3_plan (s0 : Bl) (v1 : Int32) : Option (Int32 × Bl) :=
    (bnd (f3_isRiver s0) (fun r1 =>
 (if r1 = 0 then
 (some ((-4 : Int32), s0))
 else
 (bnd (f3_in (v1).toInt64 (-1 : Int64) (6 : Int64)) (fun r2 =>
 (if r2 = 0 then
 (some ((-4 : Int32), s0))
 else
 (bnd (f3_afloat s0) (fun r3 =>
 (bnd (f3_bits r3) (fun r4 =>
 (if r4 ≤ (7 : Int32) then
 (bnd (f3_findsRows s0 r3) (fun s5 =>
 (if v1 = (-1 : Int32) then
 (some ((s5.1 62), s5))
 else
 (if (s5.1 62) = 0 then
 (some ((-2 : Int32), s5))
 else
 (bnd (f3_bits r3) (fun r6 =>
 (if v1 < r6 then
 (chk (inB v1 8) (some ((s5.2.1 59 (v1).toNatClampNeg), s5)))
 else
 (some ((-2 : Int32), s5)))))))))
 else
 (some ((-3 : Int32), s0)))))))))))))
def g3_sawn_45 (s0 : Bl) (v1 : Int32) (v2 : Int32) : (Int32 × Int32 × Int32 → Option Int32) → Int32 × Int32 × Int32 → Option Int32 := fun K45 s => match s with
  | (v3, v4, v5) =>
    (bnd (f3_allRopes s0) (fun r4 =>
 (if r4 < v5 then
 (if v2 = (2 : Int32) then
 (some v3)
 else
 (if v4 = (-2 : Int32) then
 (some v4)
 else
 (if v2 = (1 : Int32) then
 (some v4)
 else
 (bnd (f3_bits v4) (fun r5 =>
 (some r5))))))
 else
 (bnd (f3_allRopes s0) (fun r6 =>
 (bnd (f3_sinking s0 (r6 &&& (v5 ^^^ (-1 : Int32)))) (fun r7 =>
 (if r7 = v1 then
 (if v4 = (-2 : Int32) then
 (K45 ((v3 + (1 : Int32)), v5, (v5 + (1 : Int32))))
 else
 (bnd (f3_bits v5) (fun r8 =>
 (bnd (f3_bits v4) (fun r9 =>
 (if r9 ≤ r8 then
 (K45 ((v3 + (1 : Int32)), v4, (v5 + (1 : Int32))))
 else
 (K45 ((v3 + (1 : Int32)), v5, (v5 + (1 : Int32))))))))))
 else
 (K45 (v3, v4, (v5 + (1 : Int32))))))))))))
def f3_sawn (s0 : Bl) (v1 : Int32) (v2 : Int32) : Option Int32 :=
    (bnd (f3_isRiver s0) (fun r1 =>
 (if r1 = 0 then
 (some (-1 : Int32))
 else
 (if v1 < 0 then
 (some (-1 : Int32))
 else
 (bnd (f3_afloat s0) (fun r2 =>
 (if (v1 &&& (r2 ^^^ (-1 : Int32))) = 0 then
 (bnd (f3_in (v2).toInt64 (0 : Int64) (2 : Int64)) (fun r3 =>
 (if r3 = 0 then
 (some (-1 : Int32))
 else
 (loop (g3_sawn_45 s0 v1 v2) FU ((0 : Int32), (-2 : Int32), (0 : Int32))))))
 else
 (some (-1 : Int32)))))))))
def g3_locksUsed_4 (s0 : Bl) (v1 : Int32) : (Int32 × Int32 → Option Int32) → Int32 × Int32 → Option Int32 := fun K4 s => match s with
  | (v2, v3) =>
    (if v1 ≤ v3 then
 (some v2)
 else
 (chk (inB v3 9) (if (s0.2.1 63 (v3).toNatClampNeg) < v2 then
 (K4 (v2, (v3 + (1 : Int32))))
 else
 (chk (inB v3 9) (K4 (((s0.2.1 63 (v3).toNatClampNeg) + (1 : Int32)), (v3 + (1 : Int32))))))))
def f3_locksUsed (s0 : Bl) (v1 : Int32) : Option Int32 :=
    (loop (g3_locksUsed_4 s0 v1) FU ((0 : Int32), (0 : Int32)))
def g3_loadOf_5 (s0 : Bl) (v1 : Int32) (v2 : Int32) : (Int32 × Int32 → Option Int32) → Int32 × Int32 → Option Int32 := fun K5 s => match s with
  | (v3, v4) =>
    (if v2 ≤ v4 then
 (some v3)
 else
 (chk (inB v4 9) (if (s0.2.1 63 (v4).toNatClampNeg) = v1 then
 (chk (inB v4 8) (chk (inB (s0.2.1 65 (v4).toNatClampNeg) 8) (K5 ((v3 + (s0.2.1 6 ((s0.2.1 65 (v4).toNatClampNeg)).toNatClampNeg)), (v4 + (1 : Int32))))))
 else
 (K5 ((v3 + (0 : Int32)), (v4 + (1 : Int32)))))))
def f3_loadOf (s0 : Bl) (v1 : Int32) (v2 : Int32) : Option Int32 :=
    (loop (g3_loadOf_5 s0 v1 v2) FU ((0 : Int32), (0 : Int32)))
def g3_findsLocks_207 (v1 : Int32) (v2 : Int32) (v3 : Int32) (K61 : Bl × Int32 → Option Bl) : (Bl × Int32 → Option Bl) → Bl × Int32 → Option Bl := fun K207 s => match s with
  | (s0, v6) =>
    (if v2 ≤ v6 then
 (K61 (s0, v3))
 else
 (chk (inB v6 9) (chk (inB v6 8) (K207 ((bA s0 64 (v6).toNatClampNeg (s0.2.1 63 (v6).toNatClampNeg)), (v6 + (1 : Int32)))))))
def g3_findsLocks_164 (K61 : Bl × Int32 → Option Bl) (s0 : Bl) (v1 : Int32) (v2 : Int32) (v3 : Int32) (v4 : Int32) (z0 : Int32) : Option Bl :=
    (chk (inB v3 9) (if v4 < (s0.2.1 63 (v3).toNatClampNeg) then
 (K61 (s0, (v3 + (-1 : Int32))))
 else
 (if z0 = 0 then
 (if v3 = (v2 - (1 : Int32)) then
 (bnd (f3_locksUsed s0 v2) (fun r2 =>
 (loop (g3_findsLocks_207 v1 v2 v3 K61) FU ((bI s0 66 r2), (0 : Int32)))))
 else
 (chk (inB (v3 + (1 : Int32)) 9) (K61 ((bA s0 63 ((v3 + (1 : Int32))).toNatClampNeg (-1 : Int32)), (v3 + (1 : Int32))))))
 else
 (K61 (s0, (v3 + (-1 : Int32)))))))
def g3_findsLocks_137 (K61 : Bl × Int32 → Option Bl) (s0 : Bl) (v1 : Int32) (v2 : Int32) (v3 : Int32) (v4 : Int32) : Option Bl :=
    (if (s0.1 66) = (-1 : Int32) then
 (g3_findsLocks_164 K61 s0 v1 v2 v3 v4 (0 : Int32))
 else
 (bnd (f3_locksUsed s0 (v3 + (1 : Int32))) (fun r3 =>
 (if r3 < (s0.1 66) then
 (g3_findsLocks_164 K61 s0 v1 v2 v3 v4 (0 : Int32))
 else
 (g3_findsLocks_164 K61 s0 v1 v2 v3 v4 (1 : Int32))))))
def g3_findsLocks_86 (v1 : Int32) (v2 : Int32) (v3 : Int32) (v4 : Int32) (K61 : Bl × Int32 → Option Bl) : (Bl → Option Bl) → Bl → Option Bl := fun K86 s0 =>
    (chk (inB v3 9) (if v4 < (s0.2.1 63 (v3).toNatClampNeg) then
 (g3_findsLocks_137 K61 s0 v1 v2 v3 v4)
 else
 (chk (inB v3 9) (bnd (f3_loadOf s0 (s0.2.1 63 (v3).toNatClampNeg) v3) (fun r4 =>
 (chk (inB v3 8) (chk (inB (s0.2.1 65 (v3).toNatClampNeg) 8) (if (r4 + (s0.2.1 6 ((s0.2.1 65 (v3).toNatClampNeg)).toNatClampNeg)) ≤ v1 then
 (g3_findsLocks_137 K61 s0 v1 v2 v3 v4)
 else
 (chk (inB v3 9) (chk (inB v3 9) (K86 (bA s0 63 (v3).toNatClampNeg ((s0.2.1 63 (v3).toNatClampNeg) + (1 : Int32))))))))))))))
def g3_findsLocks_61 (v1 : Int32) (v2 : Int32) : (Bl × Int32 → Option Bl) → Bl × Int32 → Option Bl := fun K61 s => match s with
  | (s0, v3) =>
    (if v3 < 0 then
 (some s0)
 else
 (if v2 ≤ 0 then
 (some s0)
 else
 (chk (inB v3 9) (chk (inB v3 9) (bnd (f3_locksUsed (bA s0 63 (v3).toNatClampNeg ((s0.2.1 63 (v3).toNatClampNeg) + (1 : Int32))) v3) (fun r1 =>
 (loop (g3_findsLocks_86 v1 v2 v3 r1 K61) FU (bA s0 63 (v3).toNatClampNeg ((s0.2.1 63 (v3).toNatClampNeg) + (1 : Int32))))))))))
def g3_findsLocks_4 (v1 : Int32) : (Bl × Int32 × Int32 → Option Bl) → Bl × Int32 × Int32 → Option Bl := fun K4 s => match s with
  | (s0, v2, v3) =>
    (if (s0.2.1 1 3) ≤ v3 then
 (if v2 = 0 then
 (loop (g3_findsLocks_61 v1 v2) FU ((bA (bI s0 66 (0 : Int32)) 63 0 (-1 : Int32)), (0 : Int32)))
 else
 (loop (g3_findsLocks_61 v1 v2) FU ((bA (bI s0 66 (-1 : Int32)) 63 0 (-1 : Int32)), (0 : Int32))))
 else
 (chk (inB v3 8) (if (s0.2.1 9 (v3).toNatClampNeg) = 0 then
 (chk (inB v2 8) (K4 ((bA s0 65 (v2).toNatClampNeg v3), (v2 + (1 : Int32)), (v3 + (1 : Int32)))))
 else
 (K4 (s0, v2, (v3 + (1 : Int32)))))))
def f3_findsLocks (s0 : Bl) (v1 : Int32) : Option Bl :=
    (loop (g3_findsLocks_4 v1) FU (s0, (0 : Int32), (0 : Int32)))
def g3_locks_92 (s0 : Bl) (v2 : Int32) : (Int32 × Int32 → Option (Int32 × Bl)) → Int32 × Int32 → Option (Int32 × Bl) := fun K92 s => match s with
  | (v3, v4) =>
    (if (v2 - (1 : Int32)) ≤ v4 then
 (bnd (f3_isAfloat s0 (v2 - (1 : Int32))) (fun r5 =>
 (if r5 = 0 then
 (some ((-1 : Int32), s0))
 else
 (chk (inB v3 8) (some ((s0.2.1 64 (v3).toNatClampNeg), s0))))))
 else
 (bnd (f3_isAfloat s0 v4) (fun r6 =>
 (if r6 = 0 then
 (K92 ((v3 + (0 : Int32)), (v4 + (1 : Int32))))
 else
 (K92 ((v3 + (1 : Int32)), (v4 + (1 : Int32))))))))
def g3_locks_35 (s0 : Bl) (v1 : Int32) (v2 : Int32) : (Int32 → Option (Int32 × Bl)) → Int32 → Option (Int32 × Bl) := fun K35 v3 =>
    (if (s0.2.1 1 3) ≤ v3 then
 (bnd (f3_findsLocks s0 v1) (fun s4 =>
 (if v2 = 0 then
 (some ((s4.1 66), s4))
 else
 (loop (g3_locks_92 s4 v2) FU ((0 : Int32), (0 : Int32))))))
 else
 (chk (inB v3 8) (if (s0.2.1 9 (v3).toNatClampNeg) = 0 then
 (chk (inB v3 8) (if (s0.2.1 6 (v3).toNatClampNeg) ≤ v1 then
 (K35 (v3 + (1 : Int32)))
 else
 (some ((-2 : Int32), s0))))
 else
 (K35 (v3 + (1 : Int32))))))
def f3_locks (s0 : Bl) (v1 : Int32) (v2 : Int32) : Option (Int32 × Bl) :=
    (bnd (f3_isRiver s0) (fun r1 =>
 (if r1 = 0 then
 (some ((-1 : Int32), s0))
 else
 (bnd (f3_in (v1).toInt64 (1 : Int64) (200 : Int64)) (fun r2 =>
 (if r2 = 0 then
 (some ((-1 : Int32), s0))
 else
 (bnd (f3_in (v2).toInt64 (0 : Int64) (8 : Int64)) (fun r3 =>
 (if r3 = 0 then
 (some ((-1 : Int32), s0))
 else
 (loop (g3_locks_35 s0 v1 v2) FU (0 : Int32)))))))))))
def f3_ropeBetween (s0 : Bl) (v1 : Int32) (v2 : Int32) : Option Int32 :=
    (chk (inB v1 8) (chk (inB v2 8) (if (s0.2.1 6 (v2).toNatClampNeg) ≤ (s0.2.1 6 (v1).toNatClampNeg) then
 (chk (inB v1 8) (chk (inB v2 8) (some ((1 : Int32) + (((s0.2.1 6 (v1).toNatClampNeg) - (s0.2.1 6 (v2).toNatClampNeg)) / (5 : Int32))))))
 else
 (chk (inB v2 8) (chk (inB v1 8) (some ((1 : Int32) + (((s0.2.1 6 (v2).toNatClampNeg) - (s0.2.1 6 (v1).toNatClampNeg)) / (5 : Int32)))))))))
def g3_delta_262 (v1 : Int32) (v2 : Int32) (v3 : Int32) (v4 : Int32) (v7 : Int32) (v8 : Int32) (K71 : Bl × Int32 × Int32 × Int32 → Option (Int32 × Bl)) : (Bl × Int32 → Option (Int32 × Bl)) → Bl × Int32 → Option (Int32 × Bl) := fun K262 s => match s with
  | (s0, v9) =>
    (if (s0.2.1 1 3) ≤ v9 then
 (K71 (s0, v2, v3, v4))
 else
 (chk (inB v9 8) (if (s0.2.1 67 (v9).toNatClampNeg) = v7 then
 (chk (inB v9 8) (K262 ((bA s0 67 (v9).toNatClampNeg v8), (v9 + (1 : Int32)))))
 else
 (chk (inB v9 8) (chk (inB v9 8) (K262 ((bA s0 67 (v9).toNatClampNeg (s0.2.1 67 (v9).toNatClampNeg)), (v9 + (1 : Int32)))))))))
def g3_delta_220 (K71 : Bl × Int32 × Int32 × Int32 → Option (Int32 × Bl)) (s0 : Bl) (v1 : Int32) (v2 : Int32) (v3 : Int32) (v5 : Int32) (v6 : Int32) (z0 : Int32) : Option (Int32 × Bl) :=
    (if z0 = 0 then
 (K71 (s0, v2, v3, z0))
 else
 (bnd (f3_ropeBetween s0 v5 v6) (fun r3 =>
 (chk (inB v6 8) (chk (inB v5 8) (loop (g3_delta_262 v1 (v2 + r3) (v3 + (1 : Int32)) z0 (s0.2.1 67 (v6).toNatClampNeg) (s0.2.1 67 (v5).toNatClampNeg) K71) FU (s0, (0 : Int32))))))))
def g3_delta_157 (K71 : Bl × Int32 × Int32 × Int32 → Option (Int32 × Bl)) (K85 : Int32 × Int32 × Int32 → Option (Int32 × Bl)) (K102 : Int32 × Int32 × Int32 → Option (Int32 × Bl)) (s0 : Bl) (v1 : Int32) (v2 : Int32) (v3 : Int32) (v5 : Int32) (v6 : Int32) (v7 : Int32) (v8 : Int32) (z0 : Int32) : Option (Int32 × Bl) :=
    (if z0 = 0 then
 (K102 (v5, v6, (v8 + (1 : Int32))))
 else
 (if v5 = (-1 : Int32) then
 (K102 (v7, v8, (v8 + (1 : Int32))))
 else
 (bnd (f3_ropeBetween s0 v7 v8) (fun r4 =>
 (bnd (f3_ropeBetween s0 v5 v6) (fun r5 =>
 (if r5 ≤ r4 then
 (K102 (v5, v6, (v8 + (1 : Int32))))
 else
 (K102 (v7, v8, (v8 + (1 : Int32)))))))))))
def g3_delta_102 (s0 : Bl) (v1 : Int32) (v2 : Int32) (v3 : Int32) (v7 : Int32) (K71 : Bl × Int32 × Int32 × Int32 → Option (Int32 × Bl)) (K85 : Int32 × Int32 × Int32 → Option (Int32 × Bl)) : (Int32 × Int32 × Int32 → Option (Int32 × Bl)) → Int32 × Int32 × Int32 → Option (Int32 × Bl) := fun K102 s => match s with
  | (v5, v6, v8) =>
    (if (s0.2.1 1 3) ≤ v8 then
 (K85 (v5, v6, (v7 + (1 : Int32))))
 else
 (chk (inB v7 8) (if (s0.2.1 67 (v7).toNatClampNeg) = (-1 : Int32) then
 (g3_delta_157 K71 K85 K102 s0 v1 v2 v3 v5 v6 v7 v8 (0 : Int32))
 else
 (chk (inB v8 8) (if (s0.2.1 67 (v8).toNatClampNeg) = (-1 : Int32) then
 (g3_delta_157 K71 K85 K102 s0 v1 v2 v3 v5 v6 v7 v8 (0 : Int32))
 else
 (chk (inB v7 8) (chk (inB v8 8) (if (s0.2.1 67 (v7).toNatClampNeg) = (s0.2.1 67 (v8).toNatClampNeg) then
 (g3_delta_157 K71 K85 K102 s0 v1 v2 v3 v5 v6 v7 v8 (0 : Int32))
 else
 (g3_delta_157 K71 K85 K102 s0 v1 v2 v3 v5 v6 v7 v8 (1 : Int32))))))))))
def g3_delta_85 (s0 : Bl) (v1 : Int32) (v2 : Int32) (v3 : Int32) (K71 : Bl × Int32 × Int32 × Int32 → Option (Int32 × Bl)) : (Int32 × Int32 × Int32 → Option (Int32 × Bl)) → Int32 × Int32 × Int32 → Option (Int32 × Bl) := fun K85 s => match s with
  | (v5, v6, v7) =>
    (if (s0.2.1 1 3) ≤ v7 then
 (if v5 = (-1 : Int32) then
 (g3_delta_220 K71 s0 v1 v2 v3 v5 v6 (0 : Int32))
 else
 (g3_delta_220 K71 s0 v1 v2 v3 v5 v6 (1 : Int32)))
 else
 (loop (g3_delta_102 s0 v1 v2 v3 v7 K71 K85) FU (v5, v6, (v7 + (1 : Int32)))))
def g3_delta_71 (v1 : Int32) : (Bl × Int32 × Int32 × Int32 → Option (Int32 × Bl)) → Bl × Int32 × Int32 × Int32 → Option (Int32 × Bl) := fun K71 s => match s with
  | (s0, v2, v3, v4) =>
    (if v4 = 0 then
 (if v1 = 0 then
 (some (v2, s0))
 else
 (some (v3, s0)))
 else
 (loop (g3_delta_85 s0 v1 v2 v3 K71) FU ((-1 : Int32), (-1 : Int32), (0 : Int32))))
def g3_delta_21 (v1 : Int32) : (Bl × Int32 → Option (Int32 × Bl)) → Bl × Int32 → Option (Int32 × Bl) := fun K21 s => match s with
  | (s0, v2) =>
    (if (s0.2.1 1 3) ≤ v2 then
 (loop (g3_delta_71 v1) FU (s0, (0 : Int32), (0 : Int32), (1 : Int32)))
 else
 (chk (inB v2 8) (if (s0.2.1 9 (v2).toNatClampNeg) = 0 then
 (bnd (f3_pieceOf s0 v2) (fun r6 =>
 (bnd (f3_least r6) (fun r7 =>
 (chk (inB v2 8) (K21 ((bA s0 67 (v2).toNatClampNeg r7), (v2 + (1 : Int32)))))))))
 else
 (chk (inB v2 8) (K21 ((bA s0 67 (v2).toNatClampNeg (-1 : Int32)), (v2 + (1 : Int32))))))))
def f3_delta (s0 : Bl) (v1 : Int32) : Option (Int32 × Bl) :=
    (bnd (f3_isRiver s0) (fun r1 =>
 (if r1 = 0 then
 (some ((-1 : Int32), s0))
 else
 (bnd (f3_in (v1).toInt64 (0 : Int64) (1 : Int64)) (fun r2 =>
 (if r2 = 0 then
 (some ((-1 : Int32), s0))
 else
 (loop (g3_delta_21 v1) FU (s0, (0 : Int32)))))))))
def f3_isWeakThing (s0 : Bl) (v1 : Int32) : Option Int32 :=
    (bnd (f3_pieceOf s0 v1) (fun r1 =>
 (if (r1 &&& (((1 : Int32) <<< (v1 &&& 31)) ^^^ (-1 : Int32))) = 0 then
 (some (0 : Int32))
 else
 (bnd (f3_least (r1 &&& (((1 : Int32) <<< (v1 &&& 31)) ^^^ (-1 : Int32)))) (fun r2 =>
 (bnd (f3_allRopes s0) (fun r3 =>
 (bnd (f3_hangsWith s0 r2 (r1 &&& (((1 : Int32) <<< (v1 &&& 31)) ^^^ (-1 : Int32))) r3) (fun r4 =>
 (if r4 = (r1 &&& (((1 : Int32) <<< (v1 &&& 31)) ^^^ (-1 : Int32))) then
 (some (0 : Int32))
 else
 (some (1 : Int32))))))))))))
def g3_weak_91 (s0 : Bl) (v1 : Int32) : (Int32 × Int32 → Option Int32) → Int32 × Int32 → Option Int32 := fun K91 s => match s with
  | (v2, v3) =>
    (if (s0.2.1 1 3) ≤ v3 then
 (some v2)
 else
 (if v1 = (1 : Int32) then
 (chk (inB v3 8) (if (s0.2.1 9 (v3).toNatClampNeg) = 0 then
 (bnd (f3_isWeakThing s0 v3) (fun r3 =>
 (if r3 = 0 then
 (K91 ((v2 ||| (0 : Int32)), (v3 + (1 : Int32))))
 else
 (K91 ((v2 ||| ((1 : Int32) <<< (v3 &&& 31))), (v3 + (1 : Int32)))))))
 else
 (K91 ((v2 ||| (0 : Int32)), (v3 + (1 : Int32))))))
 else
 (some v2)))
def g3_weak_23 (s0 : Bl) (v1 : Int32) : (Int32 × Int32 → Option Int32) → Int32 × Int32 → Option Int32 := fun K23 s => match s with
  | (v2, v3) =>
    (if (s0.2.1 1 4) ≤ v3 then
 (loop (g3_weak_91 s0 v1) FU (v2, (0 : Int32)))
 else
 (if v1 = 0 then
 (chk (inB v3 12) (bnd (f3_afloat s0) (fun r4 =>
 (bnd (f3_allRopes s0) (fun r5 =>
 (bnd (f3_hangsWith s0 (s0.2.1 11 (v3).toNatClampNeg) r4 (r5 &&& (((1 : Int32) <<< (v3 &&& 31)) ^^^ (-1 : Int32)))) (fun r6 =>
 (chk (inB v3 12) (bnd (f3_has r6 (s0.2.1 12 (v3).toNatClampNeg)) (fun r7 =>
 (if r7 = 0 then
 (K23 ((v2 ||| ((1 : Int32) <<< (v3 &&& 31))), (v3 + (1 : Int32))))
 else
 (K23 ((v2 ||| (0 : Int32)), (v3 + (1 : Int32)))))))))))))))
 else
 (loop (g3_weak_91 s0 v1) FU (v2, (0 : Int32)))))
def f3_weak (s0 : Bl) (v1 : Int32) : Option Int32 :=
    (bnd (f3_isRiver s0) (fun r1 =>
 (if r1 = 0 then
 (some (-1 : Int32))
 else
 (bnd (f3_in (v1).toInt64 (0 : Int64) (1 : Int64)) (fun r2 =>
 (if r2 = 0 then
 (some (-1 : Int32))
 else
 (loop (g3_weak_23 s0 v1) FU ((0 : Int32), (0 : Int32)))))))))
def f3_offer (s0 : Bl) (v1 : Int32) (v2 : Int32) (v3 : Int32) : Option (Int32 × Bl) :=
    (if v1 = (-1 : Int32) then
 (some ((0 : Int32), (bA s0 1 7 (0 : Int32))))
 else
 (bnd (f3_isRiver s0) (fun r1 =>
 (if r1 = 0 then
 (some ((-2 : Int32), s0))
 else
 (bnd (f3_in (v1).toInt64 (0 : Int64) (50 : Int64)) (fun r2 =>
 (if r2 = 0 then
 (some ((-2 : Int32), s0))
 else
 (bnd (f3_in (v2).toInt64 (0 : Int64) (99 : Int64)) (fun r3 =>
 (if r3 = 0 then
 (some ((-2 : Int32), s0))
 else
 (bnd (f3_in (v3).toInt64 (0 : Int64) (9 : Int64)) (fun r4 =>
 (if r4 = 0 then
 (some ((-2 : Int32), s0))
 else
 (if (s0.2.1 1 7) = (6 : Int32) then
 (some ((-2 : Int32), s0))
 else
 (chk (inB (s0.2.1 1 7) 6) (chk (inB (s0.2.1 1 7) 6) (chk (inB (s0.2.1 1 7) 6) (ltv (bA (bA (bA (bA s0 16 ((s0.2.1 1 7)).toNatClampNeg v1) 17 ((s0.2.1 1 7)).toNatClampNeg v2) 18 ((s0.2.1 1 7)).toNatClampNeg v3) 1 7 (((bA (bA (bA s0 16 ((s0.2.1 1 7)).toNatClampNeg v1) 17 ((s0.2.1 1 7)).toNatClampNeg v2) 18 ((s0.2.1 1 7)).toNatClampNeg v3).2.1 1 7) + (1 : Int32))) (fun s5 =>
 (some (((s0.2.1 1 7) + (1 : Int32)), s5)))))))))))))))))))))
def f3_soaked (v0 : Int32) (v1 : Int32) (v2 : Int32) : Option Int32 :=
    (if (v0 - (v1 * v2)) ≤ 0 then
 (some (0 : Int32))
 else
 (some (v0 - (v1 * v2))))
def g3_milesWith_146 (s0 : Bl) (K38 : Int32 × Int32 → Option Int32) (v1 : Int32) (v2 : Int32) (v3 : Int32) (v4 : Int32) (z0 : Int32) : Option Int32 :=
    (if z0 = 0 then
 (K38 ((v4 + (0 : Int32)), z0))
 else
 (K38 ((v4 + (1 : Int32)), z0)))
def g3_milesWith_81 (s0 : Bl) (v1 : Int32) (v2 : Int32) (v3 : Int32) (v4 : Int32) (K38 : Int32 × Int32 → Option Int32) : (Int32 × Int32 → Option Int32) → Int32 × Int32 → Option Int32 := fun K81 s => match s with
  | (v6, v7) =>
    (if (s0.2.1 1 3) ≤ v7 then
 (if v6 < v3 then
 (g3_milesWith_146 s0 K38 v1 v2 v3 v4 (0 : Int32))
 else
 (g3_milesWith_146 s0 K38 v1 v2 v3 v4 (1 : Int32)))
 else
 (bnd (f3_has v1 v7) (fun r5 =>
 (if r5 = 0 then
 (K81 ((v6 + (0 : Int32)), (v7 + (1 : Int32))))
 else
 (chk (inB v7 8) (chk (inB v7 8) (bnd (f3_soaked (s0.2.1 7 (v7).toNatClampNeg) (s0.2.1 8 (v7).toNatClampNeg) v4) (fun r6 =>
 (K81 ((v6 + r6), (v7 + (1 : Int32))))))))))))
def g3_milesWith_38 (s0 : Bl) (v1 : Int32) (v2 : Int32) (v3 : Int32) : (Int32 × Int32 → Option Int32) → Int32 × Int32 → Option Int32 := fun K38 s => match s with
  | (v4, v5) =>
    (if (100 : Int32) ≤ v4 then
 (some v4)
 else
 (if v5 = 0 then
 (some v4)
 else
 (if v2 = (-1 : Int32) then
 (loop (g3_milesWith_81 s0 v1 v2 v3 v4 K38) FU ((0 : Int32), (0 : Int32)))
 else
 (chk (inB v2 6) (chk (inB v2 6) (bnd (f3_soaked (s0.2.1 17 (v2).toNatClampNeg) (s0.2.1 18 (v2).toNatClampNeg) v4) (fun r4 =>
 (loop (g3_milesWith_81 s0 v1 v2 v3 v4 K38) FU (r4, (0 : Int32))))))))))
def f3_milesWith (s0 : Bl) (v1 : Int32) (v2 : Int32) : Option Int32 :=
    (bnd (f3_weightOf s0 v1) (fun r1 =>
 (bnd (f3_allRopes s0) (fun r2 =>
 (bnd (f3_ridersOf s0 v1 r2) (fun r3 =>
 (if v2 = (-1 : Int32) then
 (loop (g3_milesWith_38 s0 v1 v2 ((r1 + r3) + (0 : Int32))) FU ((0 : Int32), (1 : Int32)))
 else
 (chk (inB v2 6) (loop (g3_milesWith_38 s0 v1 v2 ((r1 + r3) + (s0.2.1 16 (v2).toNatClampNeg))) FU ((0 : Int32), (1 : Int32)))))))))))
def g3_take_41 (s0 : Bl) (v2 : Int32) (v3 : Int32) : (Int32 × Int32 × Int32 → Option Int32) → Int32 × Int32 × Int32 → Option Int32 := fun K41 s => match s with
  | (v4, v5, v6) =>
    (if (s0.2.1 1 7) ≤ v6 then
 (if v2 = 0 then
 (some v4)
 else
 (some v5))
 else
 (bnd (f3_milesWith s0 v3 v6) (fun r5 =>
 (if r5 ≤ v5 then
 (K41 (v4, v5, (v6 + (1 : Int32))))
 else
 (K41 (v6, r5, (v6 + (1 : Int32))))))))
def f3_take (s0 : Bl) (v1 : Int32) (v2 : Int32) : Option Int32 :=
    (bnd (f3_isAfloat s0 v1) (fun r1 =>
 (if r1 = 0 then
 (some (-1 : Int32))
 else
 (bnd (f3_in (v2).toInt64 (0 : Int64) (1 : Int64)) (fun r2 =>
 (if r2 = 0 then
 (some (-1 : Int32))
 else
 (bnd (f3_pieceOf s0 v1) (fun r3 =>
 (bnd (f3_milesWith s0 r3 (-1 : Int32)) (fun r4 =>
 (loop (g3_take_41 s0 v2 r3) FU ((-2 : Int32), r4, (0 : Int32)))))))))))))
def g3_winningFrom_2 (s0 : Bl) (v1 : Int32) : (Int32 → Option Int32) → Int32 → Option Int32 := fun K2 v2 =>
    (if (s0.2.1 1 3) ≤ v2 then
 (some (-1 : Int32))
 else
 (bnd (f3_has v1 v2) (fun r1 =>
 (if r1 = 0 then
 (K2 (v2 + (1 : Int32)))
 else
 (bnd (f3_isBorne s0 (v1 &&& (((1 : Int32) <<< (v2 &&& 31)) ^^^ (-1 : Int32)))) (fun r2 =>
 (if r2 = 0 then
 (K2 (v2 + (1 : Int32)))
 else
 (chk (inB (v1 &&& (((1 : Int32) <<< (v2 &&& 31)) ^^^ (-1 : Int32))) 256) (if (s0.2.1 68 ((v1 &&& (((1 : Int32) <<< (v2 &&& 31)) ^^^ (-1 : Int32)))).toNatClampNeg) = 0 then
 (some v2)
 else
 (K2 (v2 + (1 : Int32))))))))))))
def f3_winningFrom (s0 : Bl) (v1 : Int32) : Option Int32 :=
    (loop (g3_winningFrom_2 s0 v1) FU (0 : Int32))
def g3_game_29 (v2 : Int32) (v3 : Int32) : (Bl × Int32 → Option (Int32 × Bl)) → Bl × Int32 → Option (Int32 × Bl) := fun K29 s => match s with
  | (s0, v4) =>
    (if v3 < v4 then
 (if v2 = 0 then
 (chk (inB v3 256) (if (s0.2.1 68 (v3).toNatClampNeg) = 0 then
 (some ((0 : Int32), s0))
 else
 (some ((1 : Int32), s0))))
 else
 (chk (inB v3 256) (if (s0.2.1 68 (v3).toNatClampNeg) = 0 then
 (some ((-2 : Int32), s0))
 else
 (bnd (f3_winningFrom s0 v3) (fun r4 =>
 (some (r4, s0)))))))
 else
 (if (v4 &&& (v3 ^^^ (-1 : Int32))) = 0 then
 (bnd (f3_winningFrom s0 v4) (fun r5 =>
 (if r5 = (-1 : Int32) then
 (chk (inB v4 256) (K29 ((bA s0 68 (v4).toNatClampNeg (vp_nar .boolean (0 : Int32))), (v4 + (1 : Int32)))))
 else
 (chk (inB v4 256) (K29 ((bA s0 68 (v4).toNatClampNeg (vp_nar .boolean (1 : Int32))), (v4 + (1 : Int32))))))))
 else
 (K29 (s0, (v4 + (1 : Int32))))))
def f3_game (s0 : Bl) (v1 : Int32) (v2 : Int32) : Option (Int32 × Bl) :=
    (bnd (f3_isAfloat s0 v1) (fun r1 =>
 (if r1 = 0 then
 (some ((-1 : Int32), s0))
 else
 (bnd (f3_in (v2).toInt64 (0 : Int64) (1 : Int64)) (fun r2 =>
 (if r2 = 0 then
 (some ((-1 : Int32), s0))
 else
 (bnd (f3_pieceOf s0 v1) (fun r3 =>
 (loop (g3_game_29 v2 r3) FU (s0, (0 : Int32)))))))))))
def f3_seed (s0 : Bl) (v1 : Int32) : Option (Int32 × Bl) :=
    (if 0 ≤ v1 then
 (some ((s0.2.1 1 8), (bA s0 1 8 v1)))
 else
 (some ((-1 : Int32), s0)))
def f3_draws (s0 : Bl) (v1 : Int32) : Option (Int32 × Bl) :=
    (ltv (bA s0 1 8 ((((((s0.2.1 1 8)).toInt64 * (1103515245 : Int64)) + (12345 : Int64)) - ((((s0.2.1 1 8)).toInt64 * (1103515245 : Int64)) + (12345 : Int64)) / (2147483648 : Int64) * (2147483648 : Int64))).toInt32) (fun s1 =>
 (chk (decide (¬ v1 = 0)) (some ((((s1.2.1 1 8) / (65536 : Int32)) - ((s1.2.1 1 8) / (65536 : Int32)) / v1 * v1), s1)))))
def g3_drawn_138 (K76 : Bl × Int32 × Int32 × Int32 → Option (Int32 × Bl)) (K94 : Bl × Int32 × Int32 → Option (Int32 × Bl)) (s0 : Bl) (v1 : Int32) (v2 : Int32) (v3 : Int32) (v4 : Int32) (v6 : Int32) (v7 : Int32) (v8 : Int32) (z0 : Int32) : Option (Int32 × Bl) :=
    (bnd2 (f3_mileBy s0 z0) (fun r10 s10 =>
 (if v3 = 0 then
 (K94 (s10, (v6 + r10), (v8 + (1 : Int32))))
 else
 (if v3 = (1 : Int32) then
 (K94 (s10, (v6 + (s10.1 51)), (v8 + (1 : Int32))))
 else
 (K94 (s10, (v6 + (s10.1 52)), (v8 + (1 : Int32))))))))
def g3_drawn_94 (v1 : Int32) (v2 : Int32) (v3 : Int32) (v4 : Int32) (v7 : Int32) (K76 : Bl × Int32 × Int32 × Int32 → Option (Int32 × Bl)) : (Bl × Int32 × Int32 → Option (Int32 × Bl)) → Bl × Int32 × Int32 → Option (Int32 × Bl) := fun K94 s => match s with
  | (s0, v6, v8) =>
    (if v2 ≤ v8 then
 (bnd (f3_laysBack s0) (fun s7 =>
 (K76 (s7, (s0.2.1 1 8), v6, (v7 + (1 : Int32))))))
 else
 (bnd2 (f3_draws s0 (10 : Int32)) (fun r8 s8 =>
 (bnd (f3_forceAt s8 ((s8.2.1 1 6) + (1 : Int32))) (fun r9 =>
 (if r9 ≤ r8 then
 (g3_drawn_138 K76 K94 s8 v1 v2 v3 v4 v6 v7 v8 r8)
 else
 (g3_drawn_138 K76 K94 s8 v1 v2 v3 v4 v6 v7 v8 r9)))))))
def g3_drawn_76 (v1 : Int32) (v2 : Int32) (v3 : Int32) (v4 : Int32) : (Bl × Int32 × Int32 × Int32 → Option (Int32 × Bl)) → Bl × Int32 × Int32 × Int32 → Option (Int32 × Bl) := fun K76 s => match s with
  | (s0, v5, v6, v7) =>
    (if v1 ≤ v7 then
 (some (v6, (bA s0 1 8 v4)))
 else
 (loop (g3_drawn_94 v1 v2 v3 v4 v7 K76) FU ((bA s0 1 8 v5), v6, (0 : Int32))))
def f3_drawn (s0 : Bl) (v1 : Int32) (v2 : Int32) (v3 : Int32) : Option (Int32 × Bl) :=
    (bnd (f3_isRiver s0) (fun r1 =>
 (if r1 = 0 then
 (some ((-1 : Int32), s0))
 else
 (bnd (f3_in (v1).toInt64 (1 : Int64) (20 : Int64)) (fun r2 =>
 (if r2 = 0 then
 (some ((-1 : Int32), s0))
 else
 (bnd (f3_in (v2).toInt64 (1 : Int64) (60 : Int64)) (fun r3 =>
 (if r3 = 0 then
 (some ((-1 : Int32), s0))
 else
 (bnd (f3_milesLeft s0) (fun r4 =>
 (if r4 < v2 then
 (some ((-1 : Int32), s0))
 else
 (bnd (f3_in (v3).toInt64 (0 : Int64) (2 : Int64)) (fun r5 =>
 (if r5 = 0 then
 (some ((-1 : Int32), s0))
 else
 (bnd (f3_keepsAll s0) (fun s6 =>
 (loop (g3_drawn_76 v1 v2 v3 (s0.2.1 1 8)) FU (s6, (s0.2.1 1 8), (0 : Int32), (0 : Int32))))))))))))))))))))
def g3_pieces_4 (s0 : Bl) : (Int32 × Int32 → Option Int32) → Int32 × Int32 → Option Int32 := fun K4 s => match s with
  | (v1, v2) =>
    (if (s0.2.1 1 3) ≤ v2 then
 (some v1)
 else
 (chk (inB v2 8) (if (s0.2.1 9 (v2).toNatClampNeg) = 0 then
 (bnd (f3_pieceOf s0 v2) (fun r1 =>
 (bnd (f3_least r1) (fun r2 =>
 (if r2 = v2 then
 (K4 ((v1 + (1 : Int32)), (v2 + (1 : Int32))))
 else
 (K4 ((v1 + (0 : Int32)), (v2 + (1 : Int32)))))))))
 else
 (K4 ((v1 + (0 : Int32)), (v2 + (1 : Int32)))))))
def f3_pieces (s0 : Bl) : Option Int32 :=
    (loop (g3_pieces_4 s0) FU ((0 : Int32), (0 : Int32)))
def f3_count (s0 : Bl) (v1 : Int32) : Option Int32 :=
    (if v1 = (0 : Int32) then
 (some (s0.2.1 1 0))
 else
 (if v1 = (1 : Int32) then
 (some (s0.2.1 1 1))
 else
 (if v1 = (2 : Int32) then
 (some (s0.2.1 1 2))
 else
 (if v1 = (3 : Int32) then
 (some (s0.2.1 1 3))
 else
 (if v1 = (4 : Int32) then
 (some (s0.2.1 1 4))
 else
 (if v1 = (5 : Int32) then
 (some (s0.2.1 1 5))
 else
 (if v1 = (6 : Int32) then
 (some (s0.1 35))
 else
 (if v1 = (7 : Int32) then
 (some (s0.2.1 1 6))
 else
 (if v1 = (8 : Int32) then
 (bnd (f3_pieces s0) (fun r10 =>
 (some r10)))
 else
 (if v1 = (9 : Int32) then
 (bnd (f3_afloat s0) (fun r11 =>
 (some r11)))
 else
 (if v1 = (10 : Int32) then
 (some (s0.2.1 1 7))
 else
 (if v1 = (11 : Int32) then
 (some (s0.1 55))
 else
 (if v1 = (12 : Int32) then
 (some (s0.2.1 1 8))
 else
 (if v1 = (13 : Int32) then
 (some (s0.1 31))
 else
 (some (-1 : Int32))))))))))))))))
def f3_image (s0 : Bl) (v1 : Int32) : Option (Int32 × Bl) :=
    (bnd (f3_in (v1).toInt64 (0 : Int64) (3 : Int64)) (fun r1 =>
 (if r1 = 0 then
 (some ((-1 : Int32), s0))
 else
 (chk (inB v1 4) (bnd (f3_carriesAll (bA s0 70 (v1).toNatClampNeg (vp_nar .boolean (1 : Int32))) v1 (0 : Int32)) (fun s2 =>
 (some ((s2.2.1 1 6), s2))))))))
def f3_back (s0 : Bl) (v1 : Int32) : Option (Int32 × Bl) :=
    (bnd (f3_in (v1).toInt64 (0 : Int64) (3 : Int64)) (fun r1 =>
 (if r1 = 0 then
 (some ((-1 : Int32), s0))
 else
 (chk (inB v1 4) (if (s0.2.1 70 (v1).toNatClampNeg) = 0 then
 (some ((-1 : Int32), s0))
 else
 (bnd (f3_carriesAll s0 v1 (1 : Int32)) (fun s2 =>
 (some ((s2.2.1 1 6), s2)))))))))
def f3_starts (s0 : Bl) : Option Bl :=
    (some (bI (bI (bI (bI (bI s0 32 (0 : Int32)) 33 (0 : Int32)) 36 (0 : Int32)) 37 (0 : Int32)) 38 (0 : Int32)))
def f3_sign (s0 : Bl) : Option Int32 :=
    (if (s0.1 31) ≤ (s0.1 32) then
 (some (-1 : Int32))
 else
 (chk (inB (s0.1 32) 400) (some ((s0.2.1 41 ((s0.1 32)).toNatClampNeg) &&& (255 : Int32)))))
def g3_blanks_0 : (Bl → Option Bl) → Bl → Option Bl := fun K0 s0 =>
    (bnd (f3_sign s0) (fun r1 =>
 (if r1 = (32 : Int32) then
 (K0 (bI s0 32 ((s0.1 32) + (1 : Int32))))
 else
 (some s0))))
def f3_blanks (s0 : Bl) : Option Bl :=
    (loop (g3_blanks_0) FU s0)
def f3_riverWord (v0 : Int32) : Option Nat :=
    (if v0 = (0 : Int32) then
 (some 1)
 else
 (if v0 = (1 : Int32) then
 (some 2)
 else
 (if v0 = (2 : Int32) then
 (some 3)
 else
 (if v0 = (3 : Int32) then
 (some 4)
 else
 (some 5)))))
def g3_stood_63 (s0 : Bl) (k1 : Nat) : (Int32 × Int32 → Option Int32) → Int32 × Int32 → Option Int32 := fun K63 s => match s with
  | (v3, v4) =>
    (chk (decide (k1 < 23)) (if (Int32.ofNat (sBy k1).length) ≤ v4 then
 (chk (isB v3) (some v3))
 else
 (if v3 = 0 then
 (chk (isB v3) (some v3))
 else
 (chk (inB ((s0.1 32) + v4) 400) (chk (decide (k1 < 23)) (chk (inB v4 (sBy k1).length) (if (s0.2.1 41 (((s0.1 32) + v4)).toNatClampNeg) = ((sBy k1).getD (v4).toNatClampNeg 0) then
 (K63 ((1 : Int32), (v4 + (1 : Int32))))
 else
 (K63 ((0 : Int32), (v4 + (1 : Int32)))))))))))
def g3_stood_41 (s0 : Bl) (k1 : Nat) (v2 : Int32) : Option Int32 :=
    (chk (decide (k1 < 23)) (if (v2 - (s0.1 32)) = (Int32.ofNat (sBy k1).length) then
 (loop (g3_stood_63 s0 k1) FU ((1 : Int32), (0 : Int32)))
 else
 (loop (g3_stood_63 s0 k1) FU ((0 : Int32), (0 : Int32)))))
def g3_stood_5 (s0 : Bl) (k1 : Nat) : (Int32 → Option Int32) → Int32 → Option Int32 := fun K5 v2 =>
    (if (s0.1 31) ≤ v2 then
 (g3_stood_41 s0 k1 v2)
 else
 (chk (inB v2 400) (if (s0.2.1 41 (v2).toNatClampNeg) < (97 : Int32) then
 (g3_stood_41 s0 k1 v2)
 else
 (chk (inB v2 400) (if (122 : Int32) < (s0.2.1 41 (v2).toNatClampNeg) then
 (g3_stood_41 s0 k1 v2)
 else
 (K5 (v2 + (1 : Int32))))))))
def f3_stood (s0 : Bl) (k1 : Nat) : Option Int32 :=
    (loop (g3_stood_5 s0 k1) FU (s0.1 32))
def f3_fails (s0 : Bl) (v1 : Int32) (v2 : Int32) : Option Bl :=
    (if (s0.1 33) = 0 then
 (some (bI s0 33 (((1 : Int32) + ((8 : Int32) * v2)) + v1)))
 else
 (some (bI s0 33 (s0.1 33))))
def g3_isFull_24 (s0 : Bl) (v1 : Int32) (z0 : Int32) (z1 : Int32) : Option Int32 :=
    (if z1 = z0 then
 (if v1 = (1 : Int32) then
 (if (s0.2.1 19 2) = (6 : Int32) then
 (some (1 : Int32))
 else
 (some (0 : Int32)))
 else
 (if v1 = (2 : Int32) then
 (if (s0.2.1 19 3) = (8 : Int32) then
 (some (1 : Int32))
 else
 (some (0 : Int32)))
 else
 (if v1 = (3 : Int32) then
 (if (s0.2.1 19 4) = (12 : Int32) then
 (some (1 : Int32))
 else
 (some (0 : Int32)))
 else
 (if v1 = (4 : Int32) then
 (if (s0.2.1 19 5) = (6 : Int32) then
 (some (1 : Int32))
 else
 (some (0 : Int32)))
 else
 (some (0 : Int32))))))
 else
 (some (1 : Int32)))
def f3_isFull (s0 : Bl) (v1 : Int32) (v2 : Int32) : Option Int32 :=
    (if v2 = (40 : Int32) then
 (some (1 : Int32))
 else
 (if v1 = 0 then
 (if v2 = 0 then
 (g3_isFull_24 s0 v1 (1 : Int32) (1 : Int32))
 else
 (g3_isFull_24 s0 v1 (0 : Int32) (1 : Int32)))
 else
 (if v2 = 0 then
 (g3_isFull_24 s0 v1 (1 : Int32) (0 : Int32))
 else
 (g3_isFull_24 s0 v1 (0 : Int32) (0 : Int32)))))
def f3_isDigit (s0 : Bl) : Option Int32 :=
    (bnd (f3_sign s0) (fun r1 =>
 (bnd (f3_in (r1).toInt64 (48 : Int64) (57 : Int64)) (fun r2 =>
 (chk (isB r2) (some r2))))))
def g3_digits_25 (v1 : Int32) (v2 : Int32) : (Bl × Int32 → Option (Int32 × Bl)) → Bl × Int32 → Option (Int32 × Bl) := fun K25 s => match s with
  | (s0, v3) =>
    (bnd (f3_isDigit s0) (fun r2 =>
 (if r2 = 0 then
 (if (5 : Int32) < ((s0.1 32) - v2) then
 (bnd (f3_fails s0 (1 : Int32) v2) (fun s3 =>
 (some (v3, s3))))
 else
 (if v3 ≤ v1 then
 (some (v3, s0))
 else
 (bnd (f3_fails s0 (1 : Int32) v2) (fun s4 =>
 (some (v3, s4))))))
 else
 (if (5 : Int32) ≤ ((s0.1 32) - v2) then
 (K25 ((bI s0 32 ((s0.1 32) + (1 : Int32))), v3))
 else
 (bnd (f3_sign s0) (fun r5 =>
 (K25 ((bI s0 32 ((s0.1 32) + (1 : Int32))), ((((10 : Int32) * v3) + r5) - (48 : Int32))))))))))
def f3_digits (s0 : Bl) (v1 : Int32) : Option (Int32 × Bl) :=
    (bnd (f3_isDigit s0) (fun r1 =>
 (if r1 = 0 then
 (bnd (f3_fails s0 (0 : Int32) (s0.1 32)) (fun s6 =>
 (some ((0 : Int32), s6))))
 else
 (loop (g3_digits_25 v1 (s0.1 32)) FU (s0, (0 : Int32))))))
def g3_amount_27 (s0 : Bl) (v1 : Int32) (v2 : Int32) (v3 : Int32) (z0 : Int32) : Option (Int32 × Bl) :=
    (if (s0.1 33) = 0 then
 (bnd (f3_in (z0).toInt64 (v1).toInt64 (v2).toInt64) (fun r2 =>
 (if r2 = 0 then
 (bnd (f3_fails s0 (1 : Int32) v3) (fun s3 =>
 (some (z0, s3))))
 else
 (some (z0, s0)))))
 else
 (some (z0, s0)))
def f3_amount (s0 : Bl) (v1 : Int32) (v2 : Int32) : Option (Int32 × Bl) :=
    (bnd (f3_blanks s0) (fun s1 =>
 (if (s1.1 33) = 0 then
 (bnd2 (f3_digits s1 (99999 : Int32)) (fun r4 s4 =>
 (g3_amount_27 s4 v1 v2 (s1.1 32) r4)))
 else
 (g3_amount_27 s1 v1 v2 (s1.1 32) (0 : Int32)))))
def g3_isNewBound_32 (s0 : Bl) (K2 : Int32 → Option Int32) (v1 : Int32) (v2 : Int32) (v3 : Int32) : Option Int32 :=
    (chk (inB v3 12) (if (s0.2.1 26 (v3).toNatClampNeg) = v2 then
 (chk (inB v3 12) (if (s0.2.1 27 (v3).toNatClampNeg) = v1 then
 (some (1 : Int32))
 else
 (K2 (v3 + (1 : Int32)))))
 else
 (K2 (v3 + (1 : Int32)))))
def g3_isNewBound_2 (s0 : Bl) (v1 : Int32) (v2 : Int32) : (Int32 → Option Int32) → Int32 → Option Int32 := fun K2 v3 =>
    (if (s0.2.1 19 4) ≤ v3 then
 (some (0 : Int32))
 else
 (chk (inB v3 12) (if (s0.2.1 26 (v3).toNatClampNeg) = v1 then
 (chk (inB v3 12) (if (s0.2.1 27 (v3).toNatClampNeg) = v2 then
 (some (1 : Int32))
 else
 (g3_isNewBound_32 s0 K2 v1 v2 v3)))
 else
 (g3_isNewBound_32 s0 K2 v1 v2 v3))))
def f3_isNewBound (s0 : Bl) (v1 : Int32) (v2 : Int32) : Option Int32 :=
    (loop (g3_isNewBound_2 s0 v1 v2) FU (0 : Int32))
def g3_readsBound_109 (s0 : Bl) (v1 : Int32) (z0 : Int32) (z1 : Int32) : Option Bl :=
    (chk (inB z1 12) (bnd2 (f3_amount (bA s0 27 (z1).toNatClampNeg z0) (1 : Int32) (9 : Int32)) (fun r4 s4 =>
 (chk (inB v1 12) (some (bA (bA s4 28 (v1).toNatClampNeg r4) 19 4 (((bA s4 28 (v1).toNatClampNeg r4).2.1 19 4) + (1 : Int32))))))))
def g3_readsBound_74 (s0 : Bl) (v1 : Int32) (v2 : Int32) (v4 : Int32) : Option Bl :=
    (if v4 ≤ v2 then
 (chk (inB v1 12) (if v4 ≤ v2 then
 (g3_readsBound_109 (bA s0 26 (v1).toNatClampNeg v4) v1 v2 v1)
 else
 (g3_readsBound_109 (bA s0 26 (v1).toNatClampNeg v4) v1 v4 v1)))
 else
 (chk (inB v1 12) (if v4 ≤ v2 then
 (g3_readsBound_109 (bA s0 26 (v1).toNatClampNeg v2) v1 v2 v1)
 else
 (g3_readsBound_109 (bA s0 26 (v1).toNatClampNeg v2) v1 v4 v1))))
def f3_readsBound (s0 : Bl) : Option Bl :=
    (bnd2 (f3_amount s0 (0 : Int32) ((s0.2.1 19 3) - (1 : Int32))) (fun r1 s1 =>
 (bnd (f3_blanks s1) (fun s2 =>
 (bnd2 (f3_amount s2 (0 : Int32) ((s2.2.1 19 3) - (1 : Int32))) (fun r3 s3 =>
 (if (s3.1 33) = 0 then
 (if r1 = r3 then
 (bnd (f3_fails s3 (1 : Int32) (s2.1 32)) (fun s5 =>
 (g3_readsBound_74 s5 (s0.2.1 19 4) r1 r3)))
 else
 (bnd (f3_isNewBound s3 r1 r3) (fun r6 =>
 (if r6 = 0 then
 (g3_readsBound_74 s3 (s0.2.1 19 4) r1 r3)
 else
 (bnd (f3_fails s3 (1 : Int32) (s2.1 32)) (fun s7 =>
 (g3_readsBound_74 s7 (s0.2.1 19 4) r1 r3)))))))
 else
 (g3_readsBound_74 s3 (s0.2.1 19 4) r1 r3))))))))
def g3_readsRapid_31 (v1 : Int32) (v2 : Int32) (v3 : Int32) : (Bl × Int32 → Option Bl) → Bl × Int32 → Option Bl := fun K31 s => match s with
  | (s0, v4) =>
    (if v1 ≤ v4 then
 (chk (inB v1 6) (bnd2 (f3_amount (bA s0 29 (v1).toNatClampNeg v3) (1 : Int32) (9 : Int32)) (fun r3 s3 =>
 (chk (inB v1 6) (some (bA (bA s3 30 (v1).toNatClampNeg r3) 19 5 (((bA s3 30 (v1).toNatClampNeg r3).2.1 19 5) + (1 : Int32))))))))
 else
 (chk (inB v4 6) (if (s0.2.1 29 (v4).toNatClampNeg) = v3 then
 (if (s0.1 33) = 0 then
 (bnd (f3_fails s0 (1 : Int32) v2) (fun s4 =>
 (K31 (s4, (v4 + (1 : Int32))))))
 else
 (K31 (s0, (v4 + (1 : Int32)))))
 else
 (K31 (s0, (v4 + (1 : Int32)))))))
def f3_readsRapid (s0 : Bl) : Option Bl :=
    (bnd (f3_blanks s0) (fun s1 =>
 (bnd2 (f3_amount s1 (1 : Int32) (s1.2.1 19 0)) (fun r2 s2 =>
 (loop (g3_readsRapid_31 (s0.2.1 19 5) (s1.1 32) r2) FU (s2, (0 : Int32)))))))
def f3_riverPart (s0 : Bl) (v1 : Int32) : Option Bl :=
    (if v1 = (0 : Int32) then
 (bnd2 (f3_amount s0 (2 : Int32) (99 : Int32)) (fun r2 s2 =>
 (bnd2 (f3_amount (bA s2 19 0 r2) (0 : Int32) (99 : Int32)) (fun r3 s3 =>
 (some (bA s3 19 1 r3))))))
 else
 (if v1 = (1 : Int32) then
 (bnd2 (f3_amount s0 (1 : Int32) (s0.2.1 19 0)) (fun r4 s4 =>
 (chk (inB (s0.2.1 19 2) 6) (bnd2 (f3_amount (bA s4 20 ((s0.2.1 19 2)).toNatClampNeg r4) (0 : Int32) (20 : Int32)) (fun r5 s5 =>
 (chk (inB (s0.2.1 19 2) 6) (some (bA (bA s5 21 ((s0.2.1 19 2)).toNatClampNeg r5) 19 2 (((bA s5 21 ((s0.2.1 19 2)).toNatClampNeg r5).2.1 19 2) + (1 : Int32))))))))))
 else
 (if v1 = (2 : Int32) then
 (bnd2 (f3_amount s0 (0 : Int32) ((s0.2.1 19 2) - (1 : Int32))) (fun r6 s6 =>
 (chk (inB (s0.2.1 19 3) 8) (bnd2 (f3_amount (bA s6 22 ((s0.2.1 19 3)).toNatClampNeg r6) (0 : Int32) (50 : Int32)) (fun r7 s7 =>
 (chk (inB (s0.2.1 19 3) 8) (bnd2 (f3_amount (bA s7 23 ((s0.2.1 19 3)).toNatClampNeg r7) (0 : Int32) (99 : Int32)) (fun r8 s8 =>
 (chk (inB (s0.2.1 19 3) 8) (bnd2 (f3_amount (bA s8 24 ((s0.2.1 19 3)).toNatClampNeg r8) (0 : Int32) (9 : Int32)) (fun r9 s9 =>
 (chk (inB (s0.2.1 19 3) 8) (some (bA (bA s9 25 ((s0.2.1 19 3)).toNatClampNeg r9) 19 3 (((bA s9 25 ((s0.2.1 19 3)).toNatClampNeg r9).2.1 19 3) + (1 : Int32))))))))))))))))
 else
 (if v1 = (3 : Int32) then
 (bnd (f3_readsBound s0) (fun s10 =>
 (some s10)))
 else
 (bnd (f3_readsRapid s0) (fun s11 =>
 (some s11)))))))
def g3_riverClause_33 (s0 : Bl) (v1 : Int32) (v2 : Int32) (v3 : Int32) : Option Bl :=
    (if v3 = (5 : Int32) then
 (bnd (f3_fails s0 (0 : Int32) v2) (fun s6 =>
 (some s6)))
 else
 (bnd (f3_isFull s0 v3 v1) (fun r2 =>
 (if r2 = 0 then
 (bnd (f3_riverWord v3) (fun r3 =>
 (chk (decide (r3 < 23)) (bnd (f3_riverPart (bI s0 32 ((s0.1 32) + (Int32.ofNat (sBy r3).length))) v3) (fun s4 =>
 (some s4))))))
 else
 (bnd (f3_fails s0 (4 : Int32) v2) (fun s5 =>
 (some s5)))))))
def g3_riverClause_11 (s0 : Bl) (v1 : Int32) (v2 : Int32) : (Int32 → Option Bl) → Int32 → Option Bl := fun K11 v3 =>
    (if (5 : Int32) ≤ v3 then
 (g3_riverClause_33 s0 v1 v2 v3)
 else
 (bnd (f3_riverWord v3) (fun r7 =>
 (bnd (f3_stood s0 r7) (fun r8 =>
 (if r8 = 0 then
 (K11 (v3 + (1 : Int32)))
 else
 (g3_riverClause_33 s0 v1 v2 v3)))))))
def f3_riverClause (s0 : Bl) (v1 : Int32) : Option Bl :=
    (bnd (f3_blanks s0) (fun s1 =>
 (loop (g3_riverClause_11 s1 v1 (s1.1 32)) FU (0 : Int32))))
def g3_goesOn_40 (s0 : Bl) : Option (Int32 × Bl) :=
    (if (s0.1 33) = 0 then
 (if (s0.1 31) ≤ (s0.1 32) then
 (some ((0 : Int32), (bI s0 32 ((s0.1 32) + (1 : Int32)))))
 else
 (some ((1 : Int32), (bI s0 32 ((s0.1 32) + (1 : Int32))))))
 else
 (some ((0 : Int32), (bI s0 32 ((s0.1 32) + (1 : Int32))))))
def f3_goesOn (s0 : Bl) : Option (Int32 × Bl) :=
    (bnd (f3_blanks s0) (fun s1 =>
 (if (s1.1 33) = 0 then
 (if (s1.1 31) ≤ (s1.1 32) then
 (g3_goesOn_40 s1)
 else
 (bnd (f3_sign s1) (fun r2 =>
 (if r2 = (59 : Int32) then
 (g3_goesOn_40 s1)
 else
 (bnd (f3_fails s1 (0 : Int32) (s1.1 32)) (fun s3 =>
 (g3_goesOn_40 s3)))))))
 else
 (g3_goesOn_40 s1))))
def g3_readsAll_29 : (Bl × Int32 × Int32 → Option Bl) → Bl × Int32 × Int32 → Option Bl := fun K29 s => match s with
  | (s0, v1, v2) =>
    (if v2 = 0 then
 (some (bI s0 31 (0 : Int32)))
 else
 (bnd (f3_riverClause s0 v1) (fun s2 =>
 (bnd2 (f3_goesOn s2) (fun r3 s3 =>
 (K29 (s3, (v1 + (1 : Int32)), r3)))))))
def g3_readsAll_6 : (Bl × Int32 → Option Bl) → Bl × Int32 → Option Bl := fun K6 s => match s with
  | (s0, v1) =>
    (if (6 : Int32) ≤ v1 then
 (loop (g3_readsAll_29) FU (s0, (0 : Int32), (1 : Int32)))
 else
 (chk (inB v1 6) (K6 ((bA s0 19 (v1).toNatClampNeg (0 : Int32)), (v1 + (1 : Int32))))))
def f3_readsAll (s0 : Bl) : Option Bl :=
    (bnd (f3_starts s0) (fun s1 =>
 (loop (g3_readsAll_6) FU (s1, (0 : Int32)))))
def g3_copies_2 (k0 : Nat) (n0 : Nat) (k1 : Nat) (n1 : Nat) : (Bl × Int32 → Option Bl) → Bl × Int32 → Option Bl := fun K2 s => match s with
  | (s0, v2) =>
    (if (Int32.ofNat n0) ≤ v2 then
 (some s0)
 else
 (chk (inB v2 n0) (chk (inB v2 n1) (K2 ((bA s0 k1 (v2).toNatClampNeg (s0.2.1 k0 (v2).toNatClampNeg)), (v2 + (1 : Int32)))))))
def f3_copies (s0 : Bl) (k0 : Nat) (n0 : Nat) (k1 : Nat) (n1 : Nat) : Option Bl :=
    (loop (g3_copies_2 k0 n0 k1 n1) FU (s0, (0 : Int32)))
def g3_river_199 : (Bl × Int32 → Option (Int32 × Bl)) → Bl × Int32 → Option (Int32 × Bl) := fun K199 s => match s with
  | (s0, v1) =>
    (if (8 : Int32) ≤ v1 then
 (some (((bI s0 55 (0 : Int32)).2.1 1 3), (bI s0 55 (0 : Int32))))
 else
 (chk (inB v1 8) (chk (inB v1 8) (K199 ((bA (bA s0 9 (v1).toNatClampNeg (0 : Int32)) 10 (v1).toNatClampNeg (-2 : Int32)), (v1 + (1 : Int32)))))))
def g3_river_178 : (Bl × Int32 → Option (Int32 × Bl)) → Bl × Int32 → Option (Int32 × Bl) := fun K178 s => match s with
  | (s0, v1) =>
    (if (6 : Int32) ≤ v1 then
 (loop (g3_river_199) FU (s0, (0 : Int32)))
 else
 (chk (inB v1 6) (K178 ((bA s0 4 (v1).toNatClampNeg (0 : Int32)), (v1 + (1 : Int32))))))
def g3_river_21 : (Bl × Int32 → Option (Int32 × Bl)) → Bl × Int32 → Option (Int32 × Bl) := fun K21 s => match s with
  | (s0, v1) =>
    (if (8 : Int32) ≤ v1 then
 (bnd (f3_copies s0 20 6 2 6) (fun s2 =>
 (bnd (f3_copies s2 21 6 3 6) (fun s3 =>
 (bnd (f3_copies s3 22 8 5 8) (fun s4 =>
 (bnd (f3_copies s4 23 8 6 8) (fun s5 =>
 (bnd (f3_copies s5 24 8 7 8) (fun s6 =>
 (bnd (f3_copies s6 25 8 8 8) (fun s7 =>
 (bnd (f3_copies s7 26 12 11 12) (fun s8 =>
 (bnd (f3_copies s8 27 12 12 12) (fun s9 =>
 (bnd (f3_copies s9 28 12 13 12) (fun s10 =>
 (bnd (f3_copies s10 29 6 14 6) (fun s11 =>
 (bnd (f3_copies s11 30 6 15 6) (fun s12 =>
 (loop (g3_river_178) FU (s12, (0 : Int32)))))))))))))))))))))))))
 else
 (if (6 : Int32) ≤ v1 then
 (chk (inB v1 9) (K21 ((bA s0 1 (v1).toNatClampNeg (0 : Int32)), (v1 + (1 : Int32)))))
 else
 (chk (inB v1 6) (chk (inB v1 9) (K21 ((bA s0 1 (v1).toNatClampNeg (s0.2.1 19 (v1).toNatClampNeg)), (v1 + (1 : Int32))))))))
def f3_river (s0 : Bl) : Option (Int32 × Bl) :=
    (bnd (f3_readsAll s0) (fun s1 =>
 (if (s1.1 33) ≤ 0 then
 (loop (g3_river_21) FU (s1, (0 : Int32)))
 else
 (some (((-2 : Int32) - (s1.1 33)), s1)))))
def f3_isCounted (s0 : Bl) (v1 : Int32) : Option Bl :=
    (if (s0.1 38) = (60 : Int32) then
 (bnd (f3_fails s0 (3 : Int32) v1) (fun s1 =>
 (some (bI s1 38 ((s1.1 38) + (1 : Int32))))))
 else
 (some (bI s0 38 ((s0.1 38) + (1 : Int32)))))
def f3_entry (s0 : Bl) (v1 : Int32) (v2 : Int32) : Option Bl :=
    (if (s0.1 33) = 0 then
 (chk (inB (((300 : Int32) * (s0.1 34)) + (s0.1 36)) 1800) (chk (inB (((300 : Int32) * ((bA s0 42 ((((300 : Int32) * (s0.1 34)) + (s0.1 36))).toNatClampNeg v1).1 34)) + ((bA s0 42 ((((300 : Int32) * (s0.1 34)) + (s0.1 36))).toNatClampNeg v1).1 36)) 1800) (ltv (bA (bA s0 42 ((((300 : Int32) * (s0.1 34)) + (s0.1 36))).toNatClampNeg v1) 43 ((((300 : Int32) * ((bA s0 42 ((((300 : Int32) * (s0.1 34)) + (s0.1 36))).toNatClampNeg v1).1 34)) + ((bA s0 42 ((((300 : Int32) * (s0.1 34)) + (s0.1 36))).toNatClampNeg v1).1 36))).toNatClampNeg v2) (fun s1 =>
 (some (bI s1 36 ((s1.1 36) + (1 : Int32))))))))
 else
 (some s0))
def f3_wordOf (v0 : Int32) : Option Nat :=
    (if v0 = (0 : Int32) then
 (some 7)
 else
 (if v0 = (1 : Int32) then
 (some 8)
 else
 (if v0 = (2 : Int32) then
 (some 9)
 else
 (if v0 = (3 : Int32) then
 (some 10)
 else
 (if v0 = (4 : Int32) then
 (some 11)
 else
 (if v0 = (5 : Int32) then
 (some 12)
 else
 (if v0 = (6 : Int32) then
 (some 13)
 else
 (if v0 = (7 : Int32) then
 (some 14)
 else
 (if v0 = (8 : Int32) then
 (some 15)
 else
 (if v0 = (9 : Int32) then
 (some 16)
 else
 (if v0 = (10 : Int32) then
 (some 17)
 else
 (some 18))))))))))))
def g3_value_63 (s0 : Bl) (v1 : Int32) (v2 : Int32) : Option Bl :=
    (if v2 = (s0.1 40) then
 (bnd (f3_fails s0 (0 : Int32) v1) (fun s6 =>
 (some s6)))
 else
 (bnd (f3_isCounted s0 v1) (fun s3 =>
 (bnd (f3_wordOf v2) (fun r4 =>
 (chk (decide (r4 < 23)) (bnd (f3_entry (bI s3 32 ((s3.1 32) + (Int32.ofNat (sBy r4).length))) (1 : Int32) v2) (fun s5 =>
 (some s5)))))))))
def g3_value_38 (s0 : Bl) (v1 : Int32) : (Int32 → Option Bl) → Int32 → Option Bl := fun K38 v2 =>
    (if (s0.1 40) ≤ v2 then
 (g3_value_63 s0 v1 v2)
 else
 (bnd (f3_wordOf v2) (fun r7 =>
 (bnd (f3_stood s0 r7) (fun r8 =>
 (if r8 = 0 then
 (K38 (v2 + (1 : Int32)))
 else
 (g3_value_63 s0 v1 v2)))))))
def f3_value (s0 : Bl) : Option Bl :=
    (bnd (f3_blanks s0) (fun s1 =>
 (bnd (f3_isDigit s1) (fun r2 =>
 (if r2 = 0 then
 (loop (g3_value_38 s1 (s1.1 32)) FU (0 : Int32))
 else
 (bnd2 (f3_digits s1 (99999 : Int32)) (fun r9 s9 =>
 (bnd (f3_isCounted s9 (s1.1 32)) (fun s10 =>
 (bnd (f3_entry s10 (0 : Int32) r9) (fun s11 =>
 (some s11))))))))))))
def g3_term_72 (K8 : Bl → Option Bl) (s0 : Bl) (z0 : Int32) : Option Bl :=
    (bnd (f3_value (bI s0 32 ((s0.1 32) + (1 : Int32)))) (fun s6 =>
 (bnd (f3_entry s6 z0 (0 : Int32)) (fun s7 =>
 (bnd (f3_blanks s7) (fun s8 =>
 (K8 s8)))))))
def g3_term_42 (K8 : Bl → Option Bl) (s0 : Bl) : Option Bl :=
    (bnd (f3_sign s0) (fun r4 =>
 (if r4 = (42 : Int32) then
 (g3_term_72 K8 s0 (13 : Int32))
 else
 (bnd (f3_sign s0) (fun r5 =>
 (if r5 = (47 : Int32) then
 (g3_term_72 K8 s0 (14 : Int32))
 else
 (g3_term_72 K8 s0 (15 : Int32))))))))
def g3_term_8 : (Bl → Option Bl) → Bl → Option Bl := fun K8 s0 =>
    (if (s0.1 33) = 0 then
 (bnd (f3_sign s0) (fun r3 =>
 (if r3 = (42 : Int32) then
 (g3_term_42 K8 s0)
 else
 (bnd (f3_sign s0) (fun r9 =>
 (if r9 = (47 : Int32) then
 (g3_term_42 K8 s0)
 else
 (bnd (f3_sign s0) (fun r10 =>
 (if r10 = (37 : Int32) then
 (g3_term_42 K8 s0)
 else
 (some s0))))))))))
 else
 (some s0))
def f3_term (s0 : Bl) : Option Bl :=
    (bnd (f3_value s0) (fun s1 =>
 (bnd (f3_blanks s1) (fun s2 =>
 (loop (g3_term_8) FU s2)))))
def g3_sum_43 (K4 : Bl → Option Bl) (s0 : Bl) (z0 : Int32) : Option Bl :=
    (bnd (f3_term (bI s0 32 ((s0.1 32) + (1 : Int32)))) (fun s4 =>
 (bnd (f3_entry s4 z0 (0 : Int32)) (fun s5 =>
 (K4 s5)))))
def g3_sum_4 : (Bl → Option Bl) → Bl → Option Bl := fun K4 s0 =>
    (if (s0.1 33) = 0 then
 (bnd (f3_sign s0) (fun r2 =>
 (if r2 = (43 : Int32) then
 (bnd (f3_sign s0) (fun r3 =>
 (if r3 = (43 : Int32) then
 (g3_sum_43 K4 s0 (2 : Int32))
 else
 (g3_sum_43 K4 s0 (3 : Int32)))))
 else
 (bnd (f3_sign s0) (fun r6 =>
 (if r6 = (45 : Int32) then
 (bnd (f3_sign s0) (fun r7 =>
 (if r7 = (43 : Int32) then
 (g3_sum_43 K4 s0 (2 : Int32))
 else
 (g3_sum_43 K4 s0 (3 : Int32)))))
 else
 (some s0)))))))
 else
 (some s0))
def f3_sum (s0 : Bl) : Option Bl :=
    (bnd (f3_term s0) (fun s1 =>
 (loop (g3_sum_4) FU s1)))
def f3_takes (s0 : Bl) (k1 : Nat) : Option (Int32 × Bl) :=
    (bnd (f3_blanks s0) (fun s1 =>
 (bnd (f3_stood s1 k1) (fun r2 =>
 (if r2 = 0 then
 (chk (isB r2) (some (r2, (bI s1 32 ((s1.1 32) + (0 : Int32))))))
 else
 (chk (decide (k1 < 23)) (chk (isB r2) (some (r2, (bI s1 32 ((s1.1 32) + (Int32.ofNat (sBy k1).length))))))))))))
def g3_opens_30 (s0 : Bl) (v1 : Int32) : Option Bl :=
    (chk (inB ((bI s0 37 ((s0.1 37) + (1 : Int32))).1 39) 402) (ltv (bI (bA (bI s0 37 ((s0.1 37) + (1 : Int32))) 48 (((bI s0 37 ((s0.1 37) + (1 : Int32))).1 39)).toNatClampNeg v1) 39 (((bA (bI s0 37 ((s0.1 37) + (1 : Int32))) 48 (((bI s0 37 ((s0.1 37) + (1 : Int32))).1 39)).toNatClampNeg v1).1 39) + (1 : Int32))) (fun s1 =>
 (some s1))))
def f3_opens (s0 : Bl) (v1 : Int32) : Option Bl :=
    (if v1 = (9 : Int32) then
 (if (s0.1 37) = (10 : Int32) then
 (bnd (f3_fails s0 (2 : Int32) (s0.1 32)) (fun s2 =>
 (g3_opens_30 s2 v1)))
 else
 (g3_opens_30 s0 v1))
 else
 (if v1 = (12 : Int32) then
 (if (s0.1 37) = (10 : Int32) then
 (bnd (f3_fails s0 (2 : Int32) (s0.1 32)) (fun s3 =>
 (g3_opens_30 s3 v1)))
 else
 (g3_opens_30 s0 v1))
 else
 (chk (inB (s0.1 39) 402) (some (bI (bA s0 48 ((s0.1 39)).toNatClampNeg v1) 39 (((bA s0 48 ((s0.1 39)).toNatClampNeg v1).1 39) + (1 : Int32)))))))
def g3_compared_90 (s0 : Bl) (v1 : Int32) (v2 : Int32) (z0 : Int32) (z1 : Int32) : Option Bl :=
    (bnd (f3_sum (bI s0 32 (z1 + z0))) (fun s4 =>
 (if v1 = (61 : Int32) then
 (bnd (f3_entry s4 (6 : Int32) (0 : Int32)) (fun s9 =>
 (some s9)))
 else
 (if v1 = (60 : Int32) then
 (if v2 = 0 then
 (bnd (f3_entry s4 (4 : Int32) (0 : Int32)) (fun s7 =>
 (some s7)))
 else
 (bnd (f3_entry s4 (5 : Int32) (0 : Int32)) (fun s8 =>
 (some s8))))
 else
 (if v2 = 0 then
 (bnd (f3_entry s4 (8 : Int32) (0 : Int32)) (fun s5 =>
 (some s5)))
 else
 (bnd (f3_entry s4 (7 : Int32) (0 : Int32)) (fun s6 =>
 (some s6))))))))
def g3_compared_37 (s0 : Bl) (v1 : Int32) : Option Bl :=
    (bnd (f3_isCounted s0 (s0.1 32)) (fun s3 =>
 (if v1 = (61 : Int32) then
 (g3_compared_90 (bI s3 32 ((s3.1 32) + (1 : Int32))) v1 (0 : Int32) (0 : Int32) ((bI s3 32 ((s3.1 32) + (1 : Int32))).1 32))
 else
 (bnd (f3_sign (bI s3 32 ((s3.1 32) + (1 : Int32)))) (fun r10 =>
 (if r10 = (61 : Int32) then
 (g3_compared_90 (bI s3 32 ((s3.1 32) + (1 : Int32))) v1 (1 : Int32) (1 : Int32) ((bI s3 32 ((s3.1 32) + (1 : Int32))).1 32))
 else
 (g3_compared_90 (bI s3 32 ((s3.1 32) + (1 : Int32))) v1 (0 : Int32) (0 : Int32) ((bI s3 32 ((s3.1 32) + (1 : Int32))).1 32))))))))
def f3_compared (s0 : Bl) : Option Bl :=
    (bnd (f3_sum s0) (fun s1 =>
 (bnd (f3_sign s1) (fun r2 =>
 (if r2 = (60 : Int32) then
 (g3_compared_37 s1 r2)
 else
 (if r2 = (61 : Int32) then
 (g3_compared_37 s1 r2)
 else
 (if r2 = (62 : Int32) then
 (g3_compared_37 s1 r2)
 else
 (bnd (f3_fails s1 (0 : Int32) (s1.1 32)) (fun s11 =>
 (some s11))))))))))
def f3_fact (s0 : Bl) : Option (Int32 × Bl) :=
    (bnd (f3_blanks s0) (fun s1 =>
 (bnd (f3_stood s1 20) (fun r2 =>
 (if r2 = 0 then
 (bnd (f3_sign s1) (fun r3 =>
 (if r3 = (91 : Int32) then
 (bnd (f3_opens s1 (12 : Int32)) (fun s5 =>
 (some ((0 : Int32), (bI s5 32 ((s5.1 32) + (1 : Int32)))))))
 else
 (bnd (f3_compared s1) (fun s4 =>
 (some ((1 : Int32), s4)))))))
 else
 (bnd (f3_opens s1 (9 : Int32)) (fun s6 =>
 (some ((0 : Int32), (bI s6 32 ((s6.1 32) + (3 : Int32))))))))))))
def f3_top (s0 : Bl) : Option Int32 :=
    (if (s0.1 39) = 0 then
 (some (-1 : Int32))
 else
 (chk (inB ((s0.1 39) - (1 : Int32)) 402) (some (s0.2.1 48 (((s0.1 39) - (1 : Int32))).toNatClampNeg))))
def g3_answers_0 (v1 : Int32) : (Bl → Option Bl) → Bl → Option Bl := fun K0 s0 =>
    (bnd (f3_top s0) (fun r1 =>
 (if r1 = v1 then
 (if (s0.1 33) = 0 then
 (bnd (f3_entry s0 v1 (0 : Int32)) (fun s2 =>
 (if v1 = (9 : Int32) then
 (K0 (bI (bI s2 39 ((s2.1 39) - (1 : Int32))) 37 (((bI s2 39 ((s2.1 39) - (1 : Int32))).1 37) - (1 : Int32))))
 else
 (K0 (bI (bI s2 39 ((s2.1 39) - (1 : Int32))) 37 (((bI s2 39 ((s2.1 39) - (1 : Int32))).1 37) - (0 : Int32)))))))
 else
 (some s0))
 else
 (some s0))))
def f3_answers (s0 : Bl) (v1 : Int32) : Option Bl :=
    (loop (g3_answers_0 v1) FU s0)
def g3_test_105 (K9 : Bl × Int32 × Int32 → Option Bl) (s0 : Bl) (v2 : Int32) (v3 : Int32) (z0 : Int32) : Option Bl :=
    (bnd (f3_opens s0 z0) (fun s6 =>
 (if v3 = 0 then
 (K9 ((bI s6 32 ((s6.1 32) + (2 : Int32))), (1 : Int32), v2))
 else
 (K9 ((bI s6 32 ((s6.1 32) + (3 : Int32))), (1 : Int32), v2)))))
def g3_test_82 (K9 : Bl × Int32 × Int32 → Option Bl) (s0 : Bl) (v2 : Int32) (v3 : Int32) (v4 : Int32) : Option Bl :=
    (if v4 = 0 then
 (if v3 = 0 then
 (g3_test_105 K9 s0 v2 v3 (11 : Int32))
 else
 (g3_test_105 K9 s0 v2 v3 (10 : Int32)))
 else
 (bnd (f3_answers s0 (11 : Int32)) (fun s7 =>
 (if v3 = 0 then
 (g3_test_105 K9 s7 v2 v3 (11 : Int32))
 else
 (g3_test_105 K9 s7 v2 v3 (10 : Int32))))))
def g3_test_164 (K9 : Bl × Int32 × Int32 → Option Bl) (s0 : Bl) (v1 : Int32) (v2 : Int32) : Option Bl :=
    (ltv (bI (bI (bI s0 32 ((s0.1 32) + (1 : Int32))) 39 (((bI s0 32 ((s0.1 32) + (1 : Int32))).1 39) - (1 : Int32))) 37 (((bI (bI s0 32 ((s0.1 32) + (1 : Int32))) 39 (((bI s0 32 ((s0.1 32) + (1 : Int32))).1 39) - (1 : Int32))).1 37) - (1 : Int32))) (fun s11 =>
 (K9 (s11, v1, v2))))
def g3_test_9 : (Bl × Int32 × Int32 → Option Bl) → Bl × Int32 × Int32 → Option Bl := fun K9 s => match s with
  | (s0, v1, v2) =>
    (if v2 = 0 then
 (some s0)
 else
 (if (s0.1 33) = 0 then
 (if v1 = 0 then
 (bnd (f3_answers s0 (9 : Int32)) (fun s1 =>
 (bnd (f3_blanks s1) (fun s2 =>
 (bnd (f3_stood s2 21) (fun r3 =>
 (bnd (f3_stood s2 22) (fun r4 =>
 (bnd (f3_answers s2 (10 : Int32)) (fun s5 =>
 (if r3 = 0 then
 (if r4 = 0 then
 (bnd (f3_answers s5 (11 : Int32)) (fun s8 =>
 (bnd (f3_top s8) (fun r9 =>
 (if r9 = (12 : Int32) then
 (bnd (f3_sign s8) (fun r10 =>
 (if r10 = (93 : Int32) then
 (g3_test_164 K9 s8 v1 v2)
 else
 (bnd (f3_fails s8 (0 : Int32) (s8.1 32)) (fun s12 =>
 (g3_test_164 K9 s12 v1 v2))))))
 else
 (K9 (s8, v1, (0 : Int32))))))))
 else
 (g3_test_82 K9 s5 v2 r3 r4))
 else
 (g3_test_82 K9 s5 v2 r3 r4))))))))))))
 else
 (bnd2 (f3_fact s0) (fun r13 s13 =>
 (if r13 = 0 then
 (K9 (s13, (1 : Int32), v2))
 else
 (K9 (s13, (0 : Int32), v2))))))
 else
 (some s0)))
def f3_test (s0 : Bl) : Option Bl :=
    (loop (g3_test_9) FU ((bI s0 39 (0 : Int32)), (1 : Int32), (1 : Int32)))
def f3_ruleClause (s0 : Bl) (v1 : Int32) : Option Bl :=
    (bnd (f3_blanks s0) (fun s1 =>
 (bnd (f3_stood s1 6) (fun r2 =>
 (if r2 = 0 then
 (bnd (f3_fails s1 (0 : Int32) (s1.1 32)) (fun s9 =>
 (some s9)))
 else
 (if v1 = (12 : Int32) then
 (bnd (f3_fails s1 (4 : Int32) (s1.1 32)) (fun s8 =>
 (some s8)))
 else
 (chk (inB (((12 : Int32) * ((bI s1 32 ((s1.1 32) + (3 : Int32))).1 34)) + v1) 72) (ltv (bA (bI s1 32 ((s1.1 32) + (3 : Int32))) 45 ((((12 : Int32) * ((bI s1 32 ((s1.1 32) + (3 : Int32))).1 34)) + v1)).toNatClampNeg ((bI s1 32 ((s1.1 32) + (3 : Int32))).1 36)) (fun s3 =>
 (bnd (f3_sum s3) (fun s4 =>
 (chk (inB (((12 : Int32) * ((bI s1 32 ((s1.1 32) + (3 : Int32))).1 34)) + v1) 72) (if ((bA s4 46 ((((12 : Int32) * ((bI s1 32 ((s1.1 32) + (3 : Int32))).1 34)) + v1)).toNatClampNeg (s4.1 36)).1 33) = 0 then
 (bnd2 (f3_takes (bA s4 46 ((((12 : Int32) * ((bI s1 32 ((s1.1 32) + (3 : Int32))).1 34)) + v1)).toNatClampNeg (s4.1 36)) 19) (fun r6 s6 =>
 (if r6 = 0 then
 (chk (inB (((12 : Int32) * ((bI s1 32 ((s1.1 32) + (3 : Int32))).1 34)) + v1) 72) (some (bA s6 47 ((((12 : Int32) * ((bI s1 32 ((s1.1 32) + (3 : Int32))).1 34)) + v1)).toNatClampNeg (s6.1 36))))
 else
 (bnd (f3_test s6) (fun s7 =>
 (chk (inB (((12 : Int32) * ((bI s1 32 ((s1.1 32) + (3 : Int32))).1 34)) + v1) 72) (some (bA s7 47 ((((12 : Int32) * ((bI s1 32 ((s1.1 32) + (3 : Int32))).1 34)) + v1)).toNatClampNeg (s7.1 36)))))))))
 else
 (chk (inB (((12 : Int32) * ((bI s1 32 ((s1.1 32) + (3 : Int32))).1 34)) + v1) 72) (ltv (bA (bA s4 46 ((((12 : Int32) * ((bI s1 32 ((s1.1 32) + (3 : Int32))).1 34)) + v1)).toNatClampNeg (s4.1 36)) 47 ((((12 : Int32) * ((bI s1 32 ((s1.1 32) + (3 : Int32))).1 34)) + v1)).toNatClampNeg ((bA s4 46 ((((12 : Int32) * ((bI s1 32 ((s1.1 32) + (3 : Int32))).1 34)) + v1)).toNatClampNeg (s4.1 36)).1 36)) (fun s5 =>
 (some s5)))))))))))))))))
def g3_rule_79 (s0 : Bl) (z0 : Int32) (z1 : Int32) : Option (Int32 × Bl) :=
    (if ((bI s0 35 (z1 + z0)).1 33) ≤ 0 then
 (some ((((bI s0 35 (z1 + z0)).1 35) - (1 : Int32)), (bI s0 35 (z1 + z0))))
 else
 (some (((-2 : Int32) - ((bI s0 35 (z1 + z0)).1 33)), (bI s0 35 (z1 + z0)))))
def g3_rule_27 : (Bl × Int32 × Int32 → Option (Int32 × Bl)) → Bl × Int32 × Int32 → Option (Int32 × Bl) := fun K27 s => match s with
  | (s0, v1, v2) =>
    (if v2 = 0 then
 (chk (inB ((bI s0 31 (0 : Int32)).1 34) 6) (if ((bA (bI s0 31 (0 : Int32)) 44 (((bI s0 31 (0 : Int32)).1 34)).toNatClampNeg v1).1 33) = 0 then
 (g3_rule_79 (bA (bI s0 31 (0 : Int32)) 44 (((bI s0 31 (0 : Int32)).1 34)).toNatClampNeg v1) (1 : Int32) ((bA (bI s0 31 (0 : Int32)) 44 (((bI s0 31 (0 : Int32)).1 34)).toNatClampNeg v1).1 35))
 else
 (g3_rule_79 (bA (bI s0 31 (0 : Int32)) 44 (((bI s0 31 (0 : Int32)).1 34)).toNatClampNeg v1) (0 : Int32) ((bA (bI s0 31 (0 : Int32)) 44 (((bI s0 31 (0 : Int32)).1 34)).toNatClampNeg v1).1 35))))
 else
 (bnd (f3_ruleClause s0 v1) (fun s2 =>
 (bnd2 (f3_goesOn s2) (fun r3 s3 =>
 (K27 (s3, (v1 + (1 : Int32)), r3)))))))
def f3_rule (s0 : Bl) : Option (Int32 × Bl) :=
    (if (s0.1 35) = (6 : Int32) then
 (some ((-1 : Int32), s0))
 else
 (bnd (f3_starts (bI s0 34 (s0.1 35))) (fun s1 =>
 (loop (g3_rule_27) FU (s1, (0 : Int32), (1 : Int32))))))
def f3_isRule (s0 : Bl) (v1 : Int32) : Option Int32 :=
    (bnd (f3_in (v1).toInt64 (0 : Int64) (((s0.1 35) - (1 : Int32))).toInt64) (fun r1 =>
 (chk (isB r1) (some r1))))
def g3_asks_199 (s0 : Bl) (v1 : Int32) (v2 : Int32) (v3 : Int32) (z0 : Int64) : Option Bl :=
    (ltv (bL (bL (bL (bL s0 49 6 z0) 49 7 (v3).toInt64) 49 8 (((bL (bL s0 49 6 z0) 49 7 (v3).toInt64).2.1 1 1)).toInt64) 49 9 (((bL (bL (bL s0 49 6 z0) 49 7 (v3).toInt64) 49 8 (((bL (bL s0 49 6 z0) 49 7 (v3).toInt64).2.1 1 1)).toInt64).2.1 1 6)).toInt64) (fun s5 =>
 (chk (inB v1 8) (chk (inB (s5.2.1 5 (v1).toNatClampNeg) 6) (chk (inB v2 8) (chk (inB (s5.2.1 5 (v2).toNatClampNeg) 6) (if (s5.2.1 2 ((s5.2.1 5 (v2).toNatClampNeg)).toNatClampNeg) ≤ (s5.2.1 2 ((s5.2.1 5 (v1).toNatClampNeg)).toNatClampNeg) then
 (chk (inB v2 8) (chk (inB (s5.2.1 5 (v2).toNatClampNeg) 6) (bnd (f3_afloat (bL s5 49 10 ((s5.2.1 2 ((s5.2.1 5 (v2).toNatClampNeg)).toNatClampNeg)).toInt64)) (fun r6 =>
 (bnd (f3_bits r6) (fun r7 =>
 (some (bL (bL s5 49 10 ((s5.2.1 2 ((s5.2.1 5 (v2).toNatClampNeg)).toNatClampNeg)).toInt64) 49 11 (r7).toInt64))))))))
 else
 (chk (inB v1 8) (chk (inB (s5.2.1 5 (v1).toNatClampNeg) 6) (bnd (f3_afloat (bL s5 49 10 ((s5.2.1 2 ((s5.2.1 5 (v1).toNatClampNeg)).toNatClampNeg)).toInt64)) (fun r8 =>
 (bnd (f3_bits r8) (fun r9 =>
 (some (bL (bL s5 49 10 ((s5.2.1 2 ((s5.2.1 5 (v1).toNatClampNeg)).toNatClampNeg)).toInt64) 49 11 (r9).toInt64)))))))))))))))
def g3_asks_175 (s0 : Bl) (v1 : Int32) (v2 : Int32) (v3 : Int32) (z0 : Int64) : Option Bl :=
    (bnd (f3_pieceOf (bL s0 49 5 z0) v1) (fun r3 =>
 (bnd (f3_has r3 v2) (fun r4 =>
 (if r4 = 0 then
 (g3_asks_199 (bL s0 49 5 z0) v1 v2 v3 (1 : Int64))
 else
 (g3_asks_199 (bL s0 49 5 z0) v1 v2 v3 (0 : Int64)))))))
def g3_asks_61 (K5 : Int32 × Int32 → Option Bl) (s0 : Bl) (v1 : Int32) (v2 : Int32) (v4 : Int32) (z0 : Int32) : Option Bl :=
    (K5 ((z0 + (1 : Int32)), (v4 + (1 : Int32))))
def g3_asks_5 (s0 : Bl) (v1 : Int32) (v2 : Int32) : (Int32 × Int32 → Option Bl) → Int32 × Int32 → Option Bl := fun K5 s => match s with
  | (v3, v4) =>
    (if (s0.2.1 1 4) ≤ v4 then
 (chk (inB v1 8) (chk (inB v2 8) (ltv (bL (bL (bL s0 49 0 (v1).toInt64) 49 1 (v2).toInt64) 49 2 ((((bL (bL s0 49 0 (v1).toInt64) 49 1 (v2).toInt64).2.1 7 (v1).toNatClampNeg) + ((bL (bL s0 49 0 (v1).toInt64) 49 1 (v2).toInt64).2.1 7 (v2).toNatClampNeg))).toInt64) (fun s1 =>
 (chk (inB v1 8) (chk (inB v2 8) (chk (inB v1 8) (chk (inB v2 8) (ltv (bL (bL s1 49 3 (((s1.2.1 6 (v1).toNatClampNeg) + (s1.2.1 6 (v2).toNatClampNeg))).toInt64) 49 4 ((((bL s1 49 3 (((s1.2.1 6 (v1).toNatClampNeg) + (s1.2.1 6 (v2).toNatClampNeg))).toInt64).2.1 8 (v1).toNatClampNeg) + ((bL s1 49 3 (((s1.2.1 6 (v1).toNatClampNeg) + (s1.2.1 6 (v2).toNatClampNeg))).toInt64).2.1 8 (v2).toNatClampNeg))).toInt64) (fun s2 =>
 (chk (inB v1 8) (chk (inB v2 8) (if (s2.2.1 5 (v1).toNatClampNeg) = (s2.2.1 5 (v2).toNatClampNeg) then
 (g3_asks_175 s2 v1 v2 v3 (1 : Int64))
 else
 (g3_asks_175 s2 v1 v2 v3 (0 : Int64)))))))))))))))
 else
 (chk (inB v4 12) (if (s0.2.1 11 (v4).toNatClampNeg) = v1 then
 (g3_asks_61 K5 s0 v1 v2 v4 v3)
 else
 (chk (inB v4 12) (if (s0.2.1 12 (v4).toNatClampNeg) = v1 then
 (g3_asks_61 K5 s0 v1 v2 v4 v3)
 else
 (chk (inB v4 12) (if (s0.2.1 11 (v4).toNatClampNeg) = v2 then
 (g3_asks_61 K5 s0 v1 v2 v4 v3)
 else
 (chk (inB v4 12) (if (s0.2.1 12 (v4).toNatClampNeg) = v2 then
 (g3_asks_61 K5 s0 v1 v2 v4 v3)
 else
 (K5 ((v3 + (0 : Int32)), (v4 + (1 : Int32)))))))))))))
def f3_asks (s0 : Bl) (v1 : Int32) (v2 : Int32) : Option Bl :=
    (loop (g3_asks_5 s0 v1 v2) FU ((0 : Int32), (0 : Int32)))
def f3_truth (v0 : Int32) : Option Int64 :=
    (if v0 = 0 then
 (some (0 : Int64))
 else
 (some (1 : Int64)))
def f3_both (v0 : Int32) (v1 : Int64) (v3 : Int64) : Option Int64 :=
    (if v0 = (2 : Int32) then
 (some (v1 + v3))
 else
 (if v0 = (3 : Int32) then
 (some (v1 - v3))
 else
 (if v0 = (4 : Int32) then
 (if 0 ≤ (lg_cmp v1 v3) then
 (bnd (f3_truth (0 : Int32)) (fun r4 =>
 (some r4)))
 else
 (bnd (f3_truth (1 : Int32)) (fun r5 =>
 (some r5))))
 else
 (if v0 = (5 : Int32) then
 (if 0 < (lg_cmp v1 v3) then
 (bnd (f3_truth (0 : Int32)) (fun r6 =>
 (some r6)))
 else
 (bnd (f3_truth (1 : Int32)) (fun r7 =>
 (some r7))))
 else
 (if v0 = (6 : Int32) then
 (if (lg_cmp v1 v3) = 0 then
 (bnd (f3_truth (1 : Int32)) (fun r9 =>
 (some r9)))
 else
 (bnd (f3_truth (0 : Int32)) (fun r8 =>
 (some r8))))
 else
 (if v0 = (7 : Int32) then
 (if (lg_cmp v1 v3) < 0 then
 (bnd (f3_truth (0 : Int32)) (fun r10 =>
 (some r10)))
 else
 (bnd (f3_truth (1 : Int32)) (fun r11 =>
 (some r11))))
 else
 (if v0 = (8 : Int32) then
 (if (lg_cmp v1 v3) ≤ 0 then
 (bnd (f3_truth (0 : Int32)) (fun r12 =>
 (some r12)))
 else
 (bnd (f3_truth (1 : Int32)) (fun r13 =>
 (some r13))))
 else
 (if v0 = (10 : Int32) then
 (some (v1 &&& v3))
 else
 (if v0 = (13 : Int32) then
 (some (v1 * v3))
 else
 (if v0 = (14 : Int32) then
 (if (lg_cmp v3 (0 : Int64)) = 0 then
 (some (0 : Int64))
 else
 (chk (decide (¬ v3 = 0)) (some (v1 / v3))))
 else
 (if v0 = (15 : Int32) then
 (if (lg_cmp v3 (0 : Int64)) = 0 then
 (some (0 : Int64))
 else
 (chk (decide (¬ v3 = 0)) (some (v1 - v1 / v3 * v3))))
 else
 (some (v1 ||| v3)))))))))))))
def g3_answer_53 (K6 : Bl × Int32 × Int32 → Option (Int64 × Bl)) (s0 : Bl) (v1 : Int32) (v3 : Int32) (v4 : Int32) (v5 : Int32) (v6 : Int32) (v7 : Int32) : Option (Int64 × Bl) :=
    (if v6 = 0 then
 (chk (inB v4 300) (K6 ((bL s0 50 (v4).toNatClampNeg (v7).toInt64), (v4 + (1 : Int32)), (v5 + (1 : Int32)))))
 else
 (chk (inB v7 12) (chk (inB v4 300) (K6 ((bL s0 50 (v4).toNatClampNeg (s0.2.2 49 (v7).toNatClampNeg)), (v4 + (1 : Int32)), (v5 + (1 : Int32)))))))
def g3_answer_6 (v1 : Int32) (v3 : Int32) : (Bl × Int32 × Int32 → Option (Int64 × Bl)) → Bl × Int32 × Int32 → Option (Int64 × Bl) := fun K6 s => match s with
  | (s0, v4, v5) =>
    (if v3 ≤ v5 then
 (some ((s0.2.2 50 0), s0))
 else
 (chk (inB (((300 : Int32) * v1) + v5) 1800) (chk (inB (((300 : Int32) * v1) + v5) 1800) (if (s0.2.1 42 ((((300 : Int32) * v1) + v5)).toNatClampNeg) = 0 then
 (g3_answer_53 K6 s0 v1 v3 v4 v5 (s0.2.1 42 ((((300 : Int32) * v1) + v5)).toNatClampNeg) (s0.2.1 43 ((((300 : Int32) * v1) + v5)).toNatClampNeg))
 else
 (if (s0.2.1 42 ((((300 : Int32) * v1) + v5)).toNatClampNeg) = (1 : Int32) then
 (g3_answer_53 K6 s0 v1 v3 v4 v5 (s0.2.1 42 ((((300 : Int32) * v1) + v5)).toNatClampNeg) (s0.2.1 43 ((((300 : Int32) * v1) + v5)).toNatClampNeg))
 else
 (if (s0.2.1 42 ((((300 : Int32) * v1) + v5)).toNatClampNeg) = (9 : Int32) then
 (chk (inB (v4 - (1 : Int32)) 300) (chk (inB (v4 - (1 : Int32)) 300) (K6 ((bL s0 50 ((v4 - (1 : Int32))).toNatClampNeg ((1 : Int64) - (s0.2.2 50 ((v4 - (1 : Int32))).toNatClampNeg))), v4, (v5 + (1 : Int32))))))
 else
 (chk (inB ((v4 + (-1 : Int32)) - (1 : Int32)) 300) (chk (inB (v4 + (-1 : Int32)) 300) (bnd (f3_both (s0.2.1 42 ((((300 : Int32) * v1) + v5)).toNatClampNeg) (s0.2.2 50 (((v4 + (-1 : Int32)) - (1 : Int32))).toNatClampNeg) (s0.2.2 50 ((v4 + (-1 : Int32))).toNatClampNeg)) (fun r1 =>
 (chk (inB ((v4 + (-1 : Int32)) - (1 : Int32)) 300) (K6 ((bL s0 50 (((v4 + (-1 : Int32)) - (1 : Int32))).toNatClampNeg r1), (v4 + (-1 : Int32)), (v5 + (1 : Int32)))))))))))))))
def f3_answer (s0 : Bl) (v1 : Int32) (v2 : Int32) (v3 : Int32) : Option (Int64 × Bl) :=
    (loop (g3_answer_6 v1 v3) FU (s0, (0 : Int32), v2))
def g3_wanted_5 (v1 : Int32) : (Bl × Int32 → Option (Int64 × Bl)) → Bl × Int32 → Option (Int64 × Bl) := fun K5 s => match s with
  | (s0, v2) =>
    (chk (inB v1 6) (if (((12 : Int32) * v1) + (s0.2.1 44 (v1).toNatClampNeg)) ≤ v2 then
 (some ((0 : Int64), s0))
 else
 (chk (inB v2 72) (chk (inB v2 72) (if (s0.2.1 46 (v2).toNatClampNeg) = (s0.2.1 47 (v2).toNatClampNeg) then
 (chk (inB v2 72) (chk (inB v2 72) (bnd2 (f3_answer s0 v1 (s0.2.1 45 (v2).toNatClampNeg) (s0.2.1 46 (v2).toNatClampNeg)) (fun r1 s1 =>
 (some (r1, s1))))))
 else
 (chk (inB v2 72) (chk (inB v2 72) (bnd2 (f3_answer s0 v1 (s0.2.1 46 (v2).toNatClampNeg) (s0.2.1 47 (v2).toNatClampNeg)) (fun r2 s2 =>
 (if (lg_cmp r2 (1 : Int64)) = 0 then
 (chk (inB v2 72) (chk (inB v2 72) (bnd2 (f3_answer s2 v1 (s2.2.1 45 (v2).toNatClampNeg) (s2.2.1 46 (v2).toNatClampNeg)) (fun r3 s3 =>
 (some (r3, s3))))))
 else
 (K5 (s2, (v2 + (1 : Int32))))))))))))))
def f3_wanted (s0 : Bl) (v1 : Int32) : Option (Int64 × Bl) :=
    (loop (g3_wanted_5 v1) FU (s0, ((12 : Int32) * v1)))
def g3_tiesBy_28 (v1 : Int32) (v2 : Int32) (v7 : Int32) (K11 : Bl × Int32 × Int32 × Int64 × Int32 → Option Bl) : (Bl × Int32 × Int32 × Int64 × Int32 → Option Bl) → Bl × Int32 × Int32 × Int64 × Int32 → Option Bl := fun K28 s => match s with
  | (s0, v3, v4, v5, v8) =>
    (if (s0.2.1 1 3) ≤ v8 then
 (K11 (s0, v3, v4, v5, (v7 + (1 : Int32))))
 else
 (bnd (f3_canBind s0 v7 v8 v2) (fun r2 =>
 (if r2 = 0 then
 (K28 (s0, v3, v4, v5, (v8 + (1 : Int32))))
 else
 (bnd (f3_asks s0 v7 v8) (fun s3 =>
 (bnd2 (f3_wanted s3 v1) (fun r4 s4 =>
 (if (lg_cmp r4 v5) ≤ 0 then
 (K28 (s4, v3, v4, v5, (v8 + (1 : Int32))))
 else
 (K28 (s4, v7, v8, r4, (v8 + (1 : Int32)))))))))))))
def g3_tiesBy_11 (v1 : Int32) (v2 : Int32) : (Bl × Int32 × Int32 × Int64 × Int32 → Option Bl) → Bl × Int32 × Int32 × Int64 × Int32 → Option Bl := fun K11 s => match s with
  | (s0, v3, v4, v5, v7) =>
    (if (s0.2.1 1 3) ≤ v7 then
 (if v3 = (-1 : Int32) then
 (some s0)
 else
 (bnd2 (f3_binds s0 v3 v4 v2) (fun r1 s1 =>
 (some s1))))
 else
 (loop (g3_tiesBy_28 v1 v2 v7 K11) FU (s0, v3, v4, v5, (v7 + (1 : Int32)))))
def f3_tiesBy (s0 : Bl) (v1 : Int32) (v2 : Int32) : Option Bl :=
    (loop (g3_tiesBy_11 v1 v2) FU (s0, (-1 : Int32), (-1 : Int32), (0 : Int64), (0 : Int32)))
def g3_run_54 (v1 : Int32) (v2 : Int32) (v3 : Int32) : (Bl × Int32 × Int32 → Option (Int32 × Bl)) → Bl × Int32 × Int32 → Option (Int32 × Bl) := fun K54 s => match s with
  | (s0, v4, v5) =>
    (if v2 ≤ v5 then
 (some (v4, s0))
 else
 (bnd (f3_tiesBy s0 v1 v3) (fun s6 =>
 (bnd2 (f3_goesMile s6) (fun r7 s7 =>
 (K54 (s7, (v4 + r7), (v5 + (1 : Int32)))))))))
def f3_run (s0 : Bl) (v1 : Int32) (v2 : Int32) (v3 : Int32) : Option (Int32 × Bl) :=
    (bnd (f3_isRiver s0) (fun r1 =>
 (if r1 = 0 then
 (some ((-1 : Int32), s0))
 else
 (bnd (f3_isRule s0 v1) (fun r2 =>
 (if r2 = 0 then
 (some ((-1 : Int32), s0))
 else
 (bnd (f3_milesLeft s0) (fun r3 =>
 (bnd (f3_in (v2).toInt64 (1 : Int64) (r3).toInt64) (fun r4 =>
 (if r4 = 0 then
 (some ((-1 : Int32), s0))
 else
 (bnd (f3_in (v3).toInt64 (1 : Int64) (9 : Int64)) (fun r5 =>
 (if r5 = 0 then
 (some ((-1 : Int32), s0))
 else
 (loop (g3_run_54 v1 v2 v3) FU ((bI s0 55 (0 : Int32)), (0 : Int32), (0 : Int32)))))))))))))))))

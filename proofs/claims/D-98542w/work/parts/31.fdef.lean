/-! the flow's functions, printed by gen/flow.py out of the bytecode -/
set_option maxRecDepth 100000
set_option maxHeartbeats 4000000
def f0_in (v0 : Int64) (v2 : Int64) (v4 : Int64) : Option Int32 :=
    (if (lg_cmp v0 v2) < 0 then
 (some (0 : Int32))
 else
 (if 0 < (lg_cmp v0 v4) then
 (some (0 : Int32))
 else
 (some (1 : Int32))))
def f0_has (v0 : Int32) (v1 : Int32) : Option Int32 :=
    (if ((v0 >>> (v1 &&& 31)) &&& (1 : Int32)) = (1 : Int32) then
 (some (1 : Int32))
 else
 (some (0 : Int32)))
def fJ8_bitCount (v0 : Int32) : Option Int32 :=
    (ltv (v0 - (((v0.toUInt32 >>> ((1 : Int32).toUInt32 &&& Int32.toUInt32 31)).toInt32) &&& (1431655765 : Int32))) (fun y1 =>
 (ltv ((y1 &&& (858993459 : Int32)) + (((y1.toUInt32 >>> ((2 : Int32).toUInt32 &&& Int32.toUInt32 31)).toInt32) &&& (858993459 : Int32))) (fun y2 =>
 (ltv ((y2 + ((y2.toUInt32 >>> ((4 : Int32).toUInt32 &&& Int32.toUInt32 31)).toInt32)) &&& (252645135 : Int32)) (fun y3 =>
 (ltv ((y3 + ((y3.toUInt32 >>> ((8 : Int32).toUInt32 &&& Int32.toUInt32 31)).toInt32)) + (((y3 + ((y3.toUInt32 >>> ((8 : Int32).toUInt32 &&& Int32.toUInt32 31)).toInt32)).toUInt32 >>> ((16 : Int32).toUInt32 &&& Int32.toUInt32 31)).toInt32)) (fun y4 =>
 (some (y4 &&& (63 : Int32)))))))))))
def gJ8_numberOfTrailingZeros_62 (v0 : Int32) (v1 : Int32) : Option Int32 :=
    (if v0 ≤ (4 : Int32) then
 (some (v1 + ((v0.toUInt32 >>> ((1 : Int32).toUInt32 &&& Int32.toUInt32 31)).toInt32)))
 else
 (some ((v1 + (2 : Int32)) + ((((v0.toUInt32 >>> ((2 : Int32).toUInt32 &&& Int32.toUInt32 31)).toInt32).toUInt32 >>> ((1 : Int32).toUInt32 &&& Int32.toUInt32 31)).toInt32))))
def gJ8_numberOfTrailingZeros_34 (v0 : Int32) (v1 : Int32) : Option Int32 :=
    (if v0 ≤ (256 : Int32) then
 (if v0 ≤ (16 : Int32) then
 (gJ8_numberOfTrailingZeros_62 v0 v1)
 else
 (gJ8_numberOfTrailingZeros_62 ((v0.toUInt32 >>> ((4 : Int32).toUInt32 &&& Int32.toUInt32 31)).toInt32) (v1 + (4 : Int32))))
 else
 (if ((v0.toUInt32 >>> ((8 : Int32).toUInt32 &&& Int32.toUInt32 31)).toInt32) ≤ (16 : Int32) then
 (gJ8_numberOfTrailingZeros_62 ((v0.toUInt32 >>> ((8 : Int32).toUInt32 &&& Int32.toUInt32 31)).toInt32) (v1 + (8 : Int32)))
 else
 (ltv ((((v0.toUInt32 >>> ((8 : Int32).toUInt32 &&& Int32.toUInt32 31)).toInt32).toUInt32 >>> ((4 : Int32).toUInt32 &&& Int32.toUInt32 31)).toInt32) (fun y1 =>
 (gJ8_numberOfTrailingZeros_62 y1 ((v1 + (8 : Int32)) + (4 : Int32)))))))
def fJ8_numberOfTrailingZeros (v0 : Int32) : Option Int32 :=
    (if 0 < ((v0 ^^^ (-1 : Int32)) &&& (v0 - (1 : Int32))) then
 (if ((v0 ^^^ (-1 : Int32)) &&& (v0 - (1 : Int32))) ≤ (65536 : Int32) then
 (gJ8_numberOfTrailingZeros_34 ((v0 ^^^ (-1 : Int32)) &&& (v0 - (1 : Int32))) (1 : Int32))
 else
 (ltv ((((v0 ^^^ (-1 : Int32)) &&& (v0 - (1 : Int32))).toUInt32 >>> ((16 : Int32).toUInt32 &&& Int32.toUInt32 31)).toInt32) (fun y2 =>
 (gJ8_numberOfTrailingZeros_34 y2 (17 : Int32)))))
 else
 (some (((v0 ^^^ (-1 : Int32)) &&& (v0 - (1 : Int32))) &&& (32 : Int32))))
def f1_lays (s0 : Bl) (v1 : Int32) : Option Bl :=
    (chk (inB ((77 : Int32) * v1) 1540) (chk (inB (((77 : Int32) * v1) + (1 : Int32)) 1540) (ltv (bA (bA s0 24 (((77 : Int32) * v1)).toNatClampNeg (s0.1 6)) 24 ((((77 : Int32) * v1) + (1 : Int32))).toNatClampNeg ((bA s0 24 (((77 : Int32) * v1)).toNatClampNeg (s0.1 6)).1 4)) (fun s1 =>
 (chk (inB (((77 : Int32) * v1) + (2 : Int32)) 1540) (chk (cpB (0 : Int32) (((77 : Int32) * v1) + (3 : Int32)) (6 : Int32) 6 1540) (ltv (bS (bA s1 24 ((((77 : Int32) * v1) + (2 : Int32))).toNatClampNeg (s1.1 5)) 24 (va_cpy ((bA s1 24 ((((77 : Int32) * v1) + (2 : Int32))).toNatClampNeg (s1.1 5)).2.1 11) ((bA s1 24 ((((77 : Int32) * v1) + (2 : Int32))).toNatClampNeg (s1.1 5)).2.1 24) 0 ((((77 : Int32) * v1) + (3 : Int32))).toNatClampNeg 6)) (fun s2 =>
 (chk (cpB (0 : Int32) (((77 : Int32) * v1) + (9 : Int32)) (8 : Int32) 8 1540) (chk (cpB (0 : Int32) (((77 : Int32) * v1) + (17 : Int32)) (8 : Int32) 8 1540) (ltv (bS (bS s2 24 (va_cpy (s2.2.1 12) (s2.2.1 24) 0 ((((77 : Int32) * v1) + (9 : Int32))).toNatClampNeg 8)) 24 (va_cpy ((bS s2 24 (va_cpy (s2.2.1 12) (s2.2.1 24) 0 ((((77 : Int32) * v1) + (9 : Int32))).toNatClampNeg 8)).2.1 14) ((bS s2 24 (va_cpy (s2.2.1 12) (s2.2.1 24) 0 ((((77 : Int32) * v1) + (9 : Int32))).toNatClampNeg 8)).2.1 24) 0 ((((77 : Int32) * v1) + (17 : Int32))).toNatClampNeg 8)) (fun s3 =>
 (chk (cpB (0 : Int32) (((77 : Int32) * v1) + (25 : Int32)) (8 : Int32) 8 1540) (chk (cpB (0 : Int32) (((77 : Int32) * v1) + (33 : Int32)) (8 : Int32) 8 1540) (ltv (bS (bS s3 24 (va_cpy (s3.2.1 16) (s3.2.1 24) 0 ((((77 : Int32) * v1) + (25 : Int32))).toNatClampNeg 8)) 24 (va_cpy ((bS s3 24 (va_cpy (s3.2.1 16) (s3.2.1 24) 0 ((((77 : Int32) * v1) + (25 : Int32))).toNatClampNeg 8)).2.1 17) ((bS s3 24 (va_cpy (s3.2.1 16) (s3.2.1 24) 0 ((((77 : Int32) * v1) + (25 : Int32))).toNatClampNeg 8)).2.1 24) 0 ((((77 : Int32) * v1) + (33 : Int32))).toNatClampNeg 8)) (fun s4 =>
 (chk (cpB (0 : Int32) (((77 : Int32) * v1) + (41 : Int32)) (12 : Int32) 12 1540) (chk (cpB (0 : Int32) (((77 : Int32) * v1) + (53 : Int32)) (12 : Int32) 12 1540) (ltv (bS (bS s4 24 (va_cpy (s4.2.1 18) (s4.2.1 24) 0 ((((77 : Int32) * v1) + (41 : Int32))).toNatClampNeg 12)) 24 (va_cpy ((bS s4 24 (va_cpy (s4.2.1 18) (s4.2.1 24) 0 ((((77 : Int32) * v1) + (41 : Int32))).toNatClampNeg 12)).2.1 19) ((bS s4 24 (va_cpy (s4.2.1 18) (s4.2.1 24) 0 ((((77 : Int32) * v1) + (41 : Int32))).toNatClampNeg 12)).2.1 24) 0 ((((77 : Int32) * v1) + (53 : Int32))).toNatClampNeg 12)) (fun s5 =>
 (chk (cpB (0 : Int32) (((77 : Int32) * v1) + (65 : Int32)) (12 : Int32) 12 1540) (some (bS s5 24 (va_cpy (s5.2.1 20) (s5.2.1 24) 0 ((((77 : Int32) * v1) + (65 : Int32))).toNatClampNeg 12))))))))))))))))))))))))
def f1_takes (s0 : Bl) (v1 : Int32) : Option Bl :=
    (chk (inB ((77 : Int32) * v1) 1540) (chk (inB (((77 : Int32) * v1) + (1 : Int32)) 1540) (ltv (bI (bI s0 6 (s0.2.1 24 (((77 : Int32) * v1)).toNatClampNeg)) 4 ((bI s0 6 (s0.2.1 24 (((77 : Int32) * v1)).toNatClampNeg)).2.1 24 ((((77 : Int32) * v1) + (1 : Int32))).toNatClampNeg)) (fun s1 =>
 (chk (inB (((77 : Int32) * v1) + (2 : Int32)) 1540) (chk (cpB (((77 : Int32) * v1) + (3 : Int32)) (0 : Int32) (6 : Int32) 1540 6) (ltv (bS (bI s1 5 (s1.2.1 24 ((((77 : Int32) * v1) + (2 : Int32))).toNatClampNeg)) 11 (va_cpy ((bI s1 5 (s1.2.1 24 ((((77 : Int32) * v1) + (2 : Int32))).toNatClampNeg)).2.1 24) ((bI s1 5 (s1.2.1 24 ((((77 : Int32) * v1) + (2 : Int32))).toNatClampNeg)).2.1 11) ((((77 : Int32) * v1) + (3 : Int32))).toNatClampNeg 0 6)) (fun s2 =>
 (chk (cpB (((77 : Int32) * v1) + (9 : Int32)) (0 : Int32) (8 : Int32) 1540 8) (chk (cpB (((77 : Int32) * v1) + (17 : Int32)) (0 : Int32) (8 : Int32) 1540 8) (ltv (bS (bS s2 12 (va_cpy (s2.2.1 24) (s2.2.1 12) ((((77 : Int32) * v1) + (9 : Int32))).toNatClampNeg 0 8)) 14 (va_cpy ((bS s2 12 (va_cpy (s2.2.1 24) (s2.2.1 12) ((((77 : Int32) * v1) + (9 : Int32))).toNatClampNeg 0 8)).2.1 24) ((bS s2 12 (va_cpy (s2.2.1 24) (s2.2.1 12) ((((77 : Int32) * v1) + (9 : Int32))).toNatClampNeg 0 8)).2.1 14) ((((77 : Int32) * v1) + (17 : Int32))).toNatClampNeg 0 8)) (fun s3 =>
 (chk (cpB (((77 : Int32) * v1) + (25 : Int32)) (0 : Int32) (8 : Int32) 1540 8) (chk (cpB (((77 : Int32) * v1) + (33 : Int32)) (0 : Int32) (8 : Int32) 1540 8) (ltv (bS (bS s3 16 (va_cpy (s3.2.1 24) (s3.2.1 16) ((((77 : Int32) * v1) + (25 : Int32))).toNatClampNeg 0 8)) 17 (va_cpy ((bS s3 16 (va_cpy (s3.2.1 24) (s3.2.1 16) ((((77 : Int32) * v1) + (25 : Int32))).toNatClampNeg 0 8)).2.1 24) ((bS s3 16 (va_cpy (s3.2.1 24) (s3.2.1 16) ((((77 : Int32) * v1) + (25 : Int32))).toNatClampNeg 0 8)).2.1 17) ((((77 : Int32) * v1) + (33 : Int32))).toNatClampNeg 0 8)) (fun s4 =>
 (chk (cpB (((77 : Int32) * v1) + (41 : Int32)) (0 : Int32) (12 : Int32) 1540 12) (chk (cpB (((77 : Int32) * v1) + (53 : Int32)) (0 : Int32) (12 : Int32) 1540 12) (ltv (bS (bS s4 18 (va_cpy (s4.2.1 24) (s4.2.1 18) ((((77 : Int32) * v1) + (41 : Int32))).toNatClampNeg 0 12)) 19 (va_cpy ((bS s4 18 (va_cpy (s4.2.1 24) (s4.2.1 18) ((((77 : Int32) * v1) + (41 : Int32))).toNatClampNeg 0 12)).2.1 24) ((bS s4 18 (va_cpy (s4.2.1 24) (s4.2.1 18) ((((77 : Int32) * v1) + (41 : Int32))).toNatClampNeg 0 12)).2.1 19) ((((77 : Int32) * v1) + (53 : Int32))).toNatClampNeg 0 12)) (fun s5 =>
 (chk (cpB (((77 : Int32) * v1) + (65 : Int32)) (0 : Int32) (12 : Int32) 1540 12) (some (bS s5 20 (va_cpy (s5.2.1 24) (s5.2.1 20) ((((77 : Int32) * v1) + (65 : Int32))).toNatClampNeg 0 12))))))))))))))))))))))))
def f1_isAfloat (s0 : Bl) (v1 : Int32) : Option Int32 :=
    (if v1 < 0 then
 (some (0 : Int32))
 else
 (if (s0.1 2) ≤ v1 then
 (some (0 : Int32))
 else
 (chk (inB v1 8) (if (s0.2.1 16 (v1).toNatClampNeg) = 0 then
 (some (1 : Int32))
 else
 (some (0 : Int32))))))
def g1_afloat_4 (s0 : Bl) : (Int32 × Int32 → Option Int32) → Int32 × Int32 → Option Int32 := fun K4 s => match s with
  | (v1, v2) =>
    (if (s0.1 2) ≤ v2 then
 (some v1)
 else
 (chk (inB v2 8) (if (s0.2.1 16 (v2).toNatClampNeg) = 0 then
 (K4 ((v1 ||| ((1 : Int32) <<< (v2 &&& 31))), (v2 + (1 : Int32))))
 else
 (K4 ((v1 ||| (0 : Int32)), (v2 + (1 : Int32)))))))
def f1_afloat (s0 : Bl) : Option Int32 :=
    (loop (g1_afloat_4 s0) FU ((0 : Int32), (0 : Int32)))
def g1_pieceBy_18 (s0 : Bl) (v2 : Int32) (K7 : Int32 × Int32 → Option Int32) : (Int32 × Int32 × Int32 → Option Int32) → Int32 × Int32 × Int32 → Option Int32 := fun K18 s => match s with
  | (v3, v4, v5) =>
    (if (s0.1 5) ≤ v5 then
 (K7 (v3, v4))
 else
 (bnd (f0_has v2 v5) (fun r1 =>
 (if r1 = 0 then
 (K18 (v3, v4, (v5 + (1 : Int32))))
 else
 (chk (inB v5 12) (bnd (f0_has v3 (s0.2.1 18 (v5).toNatClampNeg)) (fun r2 =>
 (chk (inB v5 12) (bnd (f0_has v3 (s0.2.1 19 (v5).toNatClampNeg)) (fun r3 =>
 (if r2 = r3 then
 (K18 (v3, v4, (v5 + (1 : Int32))))
 else
 (chk (inB v5 12) (chk (inB v5 12) (ltv (v3 ||| (((1 : Int32) <<< ((s0.2.1 18 (v5).toNatClampNeg) &&& 31)) ||| ((1 : Int32) <<< ((s0.2.1 19 (v5).toNatClampNeg) &&& 31)))) (fun y4 =>
 (K18 (y4, (1 : Int32), (v5 + (1 : Int32)))))))))))))))))))
def g1_pieceBy_7 (s0 : Bl) (v2 : Int32) : (Int32 × Int32 → Option Int32) → Int32 × Int32 → Option Int32 := fun K7 s => match s with
  | (v3, v4) =>
    (if v4 = 0 then
 (some v3)
 else
 (loop (g1_pieceBy_18 s0 v2 K7) FU (v3, (0 : Int32), (0 : Int32))))
def f1_pieceBy (s0 : Bl) (v1 : Int32) (v2 : Int32) : Option Int32 :=
    (loop (g1_pieceBy_7 s0 v2) FU (((1 : Int32) <<< (v1 &&& 31)), (1 : Int32)))
def f1_allRopes (s0 : Bl) : Option Int32 :=
    (some (((1 : Int32) <<< ((s0.1 5) &&& 31)) - (1 : Int32)))
def f1_pieceOf (s0 : Bl) (v1 : Int32) : Option Int32 :=
    (bnd (f1_allRopes s0) (fun r1 =>
 (bnd (f1_pieceBy s0 v1 r1) (fun r2 =>
 (some r2)))))
def g1_ownOf_4 (s0 : Bl) (v1 : Int32) : (Int32 × Int32 → Option Int32) → Int32 × Int32 → Option Int32 := fun K4 s => match s with
  | (v2, v3) =>
    (if (s0.1 2) ≤ v3 then
 (some v2)
 else
 (chk (inB v3 8) (if (s0.2.1 12 (v3).toNatClampNeg) = v1 then
 (chk (inB v3 8) (if (s0.2.1 16 (v3).toNatClampNeg) = 0 then
 (K4 ((v2 ||| ((1 : Int32) <<< (v3 &&& 31))), (v3 + (1 : Int32))))
 else
 (K4 ((v2 ||| (0 : Int32)), (v3 + (1 : Int32))))))
 else
 (K4 ((v2 ||| (0 : Int32)), (v3 + (1 : Int32)))))))
def f1_ownOf (s0 : Bl) (v1 : Int32) : Option Int32 :=
    (loop (g1_ownOf_4 s0 v1) FU ((0 : Int32), (0 : Int32)))
def g1_parts_2 (v1 : Int32) : (Bl × Int32 → Option Bl) → Bl × Int32 → Option Bl := fun K2 s => match s with
  | (s0, v2) =>
    (if (s0.1 2) ≤ v2 then
 (some s0)
 else
 (chk (inB v2 8) (if (s0.2.1 16 (v2).toNatClampNeg) = 0 then
 (bnd (f1_pieceBy s0 v2 v1) (fun r1 =>
 (chk (inB v2 8) (K2 ((bA s0 28 (v2).toNatClampNeg r1), (v2 + (1 : Int32)))))))
 else
 (chk (inB v2 8) (K2 ((bA s0 28 (v2).toNatClampNeg (0 : Int32)), (v2 + (1 : Int32))))))))
def f1_parts (s0 : Bl) (v1 : Int32) : Option Bl :=
    (loop (g1_parts_2 v1) FU (s0, (0 : Int32)))
def g1_rides_27 (s0 : Bl) (v4 : Int32) : (Int32 × Int32 × Int32 → Option Int32) → Int32 × Int32 × Int32 → Option Int32 := fun K27 s => match s with
  | (v2, v3, v5) =>
    (if (s0.1 2) ≤ v5 then
 (some v2)
 else
 (chk (inB v5 8) (bnd (fJ8_bitCount ((s0.2.1 28 (v5).toNatClampNeg) &&& v4)) (fun r1 =>
 (if v3 < r1 then
 (K27 (v5, r1, (v5 + (1 : Int32))))
 else
 (K27 (v2, v3, (v5 + (1 : Int32)))))))))
def f1_rides (s0 : Bl) (v1 : Int32) : Option Int32 :=
    (chk (inB v1 6) (if (s0.2.1 11 (v1).toNatClampNeg) = 0 then
 (bnd (f1_ownOf s0 v1) (fun r2 =>
 (loop (g1_rides_27 s0 r2) FU ((-1 : Int32), (0 : Int32), (0 : Int32)))))
 else
 (loop (g1_rides_27 s0 (0 : Int32)) FU ((-1 : Int32), (0 : Int32), (0 : Int32)))))
def g1_bearsOf_4 (s0 : Bl) (v1 : Int32) : (Int32 × Int32 → Option Int32) → Int32 × Int32 → Option Int32 := fun K4 s => match s with
  | (v2, v3) =>
    (if (s0.1 2) ≤ v3 then
 (some v2)
 else
 (bnd (f0_has v1 v3) (fun r1 =>
 (if r1 = 0 then
 (K4 ((v2 + (0 : Int32)), (v3 + (1 : Int32))))
 else
 (chk (inB v3 8) (chk (inB v3 8) (K4 ((v2 + ((s0.2.1 14 (v3).toNatClampNeg) - (s0.2.1 13 (v3).toNatClampNeg))), (v3 + (1 : Int32))))))))))
def f1_bearsOf (s0 : Bl) (v1 : Int32) : Option Int32 :=
    (loop (g1_bearsOf_4 s0 v1) FU ((0 : Int32), (0 : Int32)))
def g1_ridersOf_4 (s0 : Bl) (v1 : Int32) : (Int32 × Int32 → Option Int32) → Int32 × Int32 → Option Int32 := fun K4 s => match s with
  | (v2, v3) =>
    (if (s0.1 1) ≤ v3 then
 (some v2)
 else
 (bnd (f1_rides s0 v3) (fun r1 =>
 (if r1 = (-1 : Int32) then
 (K4 ((v2 + (0 : Int32)), (v3 + (1 : Int32))))
 else
 (bnd (f0_has v1 r1) (fun r2 =>
 (if r2 = 0 then
 (K4 ((v2 + (0 : Int32)), (v3 + (1 : Int32))))
 else
 (chk (inB v3 6) (K4 ((v2 + (s0.2.1 10 (v3).toNatClampNeg)), (v3 + (1 : Int32))))))))))))
def f1_ridersOf (s0 : Bl) (v1 : Int32) : Option Int32 :=
    (loop (g1_ridersOf_4 s0 v1) FU ((0 : Int32), (0 : Int32)))
def f1_marginOf (s0 : Bl) (v1 : Int32) : Option (Int32 × Bl) :=
    (bnd (f1_allRopes s0) (fun r1 =>
 (bnd (f1_parts s0 r1) (fun s2 =>
 (chk (inB v1 8) (bnd (f1_bearsOf s2 (s2.2.1 28 (v1).toNatClampNeg)) (fun r3 =>
 (chk (inB v1 8) (bnd (f1_ridersOf s2 (s2.2.1 28 (v1).toNatClampNeg)) (fun r4 =>
 (some ((r3 - r4), s2))))))))))))
def g1_sinkingBy_12 (s0 : Bl) : (Int32 × Int32 × Int32 → Option (Int32 × Bl)) → Int32 × Int32 × Int32 → Option (Int32 × Bl) := fun K12 s => match s with
  | (v2, v3, v4) =>
    (if (s0.1 2) ≤ v4 then
 (some (v2, s0))
 else
 (chk (inB v4 8) (if (s0.2.1 16 (v4).toNatClampNeg) = 0 then
 (bnd (f0_has v3 v4) (fun r2 =>
 (if r2 = 0 then
 (chk (inB v4 8) (chk (inB v4 8) (bnd (f1_bearsOf s0 (s0.2.1 28 (v4).toNatClampNeg)) (fun r3 =>
 (chk (inB v4 8) (bnd (f1_ridersOf s0 (s0.2.1 28 (v4).toNatClampNeg)) (fun r4 =>
 (if 0 ≤ (r3 - r4) then
 (K12 (v2, (v3 ||| (s0.2.1 28 (v4).toNatClampNeg)), (v4 + (1 : Int32))))
 else
 (chk (inB v4 8) (K12 ((v2 ||| (s0.2.1 28 (v4).toNatClampNeg)), (v3 ||| (s0.2.1 28 (v4).toNatClampNeg)), (v4 + (1 : Int32)))))))))))))
 else
 (K12 (v2, v3, (v4 + (1 : Int32)))))))
 else
 (K12 (v2, v3, (v4 + (1 : Int32)))))))
def f1_sinkingBy (s0 : Bl) (v1 : Int32) : Option (Int32 × Bl) :=
    (bnd (f1_parts s0 v1) (fun s1 =>
 (loop (g1_sinkingBy_12 s1) FU ((0 : Int32), (0 : Int32), (0 : Int32)))))
def g1_ropeOf_2 (s0 : Bl) (v1 : Int32) (v2 : Int32) : (Int32 → Option Int32) → Int32 → Option Int32 := fun K2 v3 =>
    (if (s0.1 5) ≤ v3 then
 (some (-1 : Int32))
 else
 (chk (inB v3 12) (if (s0.2.1 18 (v3).toNatClampNeg) = (if v2 < v1 then v2 else v1) then
 (chk (inB v3 12) (if (s0.2.1 19 (v3).toNatClampNeg) = (if v1 < v2 then v2 else v1) then
 (some v3)
 else
 (K2 (v3 + (1 : Int32)))))
 else
 (K2 (v3 + (1 : Int32))))))
def f1_ropeOf (s0 : Bl) (v1 : Int32) (v2 : Int32) : Option Int32 :=
    (loop (g1_ropeOf_2 s0 v1 v2) FU (0 : Int32))
def f1_binds (s0 : Bl) (v1 : Int32) (v2 : Int32) (v3 : Int32) : Option Bl :=
    (chk (inB (s0.1 5) 12) (chk (inB ((bA s0 18 ((s0.1 5)).toNatClampNeg (if v2 < v1 then v2 else v1)).1 5) 12) (ltv (bA (bA s0 18 ((s0.1 5)).toNatClampNeg (if v2 < v1 then v2 else v1)) 19 (((bA s0 18 ((s0.1 5)).toNatClampNeg (if v2 < v1 then v2 else v1)).1 5)).toNatClampNeg (if v1 < v2 then v2 else v1)) (fun s1 =>
 (chk (inB (s1.1 5) 12) (some (bI (bA s1 20 ((s1.1 5)).toNatClampNeg v3) 5 (((bA s1 20 ((s1.1 5)).toNatClampNeg v3).1 5) + (1 : Int32)))))))))
def g1_loses_7 (v1 : Int32) : (Bl × Int32 × Int32 × Int32 → Option (Int32 × Bl)) → Bl × Int32 × Int32 × Int32 → Option (Int32 × Bl) := fun K7 s => match s with
  | (s0, v2, v3, v4) =>
    (if (s0.1 5) ≤ v4 then
 (some (v3, (bI s0 5 v2)))
 else
 (bnd (f0_has v1 v4) (fun r1 =>
 (if r1 = 0 then
 (chk (inB v4 12) (chk (inB v2 12) (chk (inB v4 12) (chk (inB v2 12) (ltv (bA (bA s0 18 (v2).toNatClampNeg (s0.2.1 18 (v4).toNatClampNeg)) 19 (v2).toNatClampNeg ((bA s0 18 (v2).toNatClampNeg (s0.2.1 18 (v4).toNatClampNeg)).2.1 19 (v4).toNatClampNeg)) (fun s2 =>
 (chk (inB v4 12) (chk (inB v2 12) (K7 ((bA s2 20 (v2).toNatClampNeg (s2.2.1 20 (v4).toNatClampNeg)), (v2 + (1 : Int32)), v3, (v4 + (1 : Int32))))))))))))
 else
 (chk (inB v4 12) (K7 (s0, v2, (v3 + (s0.2.1 20 (v4).toNatClampNeg)), (v4 + (1 : Int32)))))))))
def f1_loses (s0 : Bl) (v1 : Int32) : Option (Int32 × Bl) :=
    (loop (g1_loses_7 v1) FU (s0, (0 : Int32), (0 : Int32), (0 : Int32)))
def g1_ropesAt_4 (s0 : Bl) (v1 : Int32) : (Int32 × Int32 → Option Int32) → Int32 × Int32 → Option Int32 := fun K4 s => match s with
  | (v2, v3) =>
    (if (s0.1 5) ≤ v3 then
 (some v2)
 else
 (chk (inB v3 12) (bnd (f0_has v1 (s0.2.1 18 (v3).toNatClampNeg)) (fun r1 =>
 (if r1 = 0 then
 (chk (inB v3 12) (bnd (f0_has v1 (s0.2.1 19 (v3).toNatClampNeg)) (fun r2 =>
 (if r2 = 0 then
 (K4 ((v2 ||| (0 : Int32)), (v3 + (1 : Int32))))
 else
 (K4 ((v2 ||| ((1 : Int32) <<< (v3 &&& 31))), (v3 + (1 : Int32))))))))
 else
 (K4 ((v2 ||| ((1 : Int32) <<< (v3 &&& 31))), (v3 + (1 : Int32)))))))))
def f1_ropesAt (s0 : Bl) (v1 : Int32) : Option Int32 :=
    (loop (g1_ropesAt_4 s0 v1) FU ((0 : Int32), (0 : Int32)))
def g1_forceAt_2 (s0 : Bl) (v1 : Int32) : (Int32 → Option Int32) → Int32 → Option Int32 := fun K2 v2 =>
    (if (s0.1 3) ≤ v2 then
 (some (0 : Int32))
 else
 (chk (inB v2 6) (if (s0.2.1 21 (v2).toNatClampNeg) = v1 then
 (chk (inB v2 6) (some (s0.2.1 22 (v2).toNatClampNeg)))
 else
 (K2 (v2 + (1 : Int32))))))
def f1_forceAt (s0 : Bl) (v1 : Int32) : Option Int32 :=
    (loop (g1_forceAt_2 s0 v1) FU (0 : Int32))
def g1_breaks_4 (s0 : Bl) (v1 : Int32) : (Int32 × Int32 → Option Bl) → Int32 × Int32 → Option Bl := fun K4 s => match s with
  | (v2, v3) =>
    (if (s0.1 5) ≤ v3 then
 (bnd (fJ8_bitCount v2) (fun r1 =>
 (bnd2 (f1_loses (bI s0 27 r1) v2) (fun r2 s2 =>
 (some s2)))))
 else
 (chk (inB v3 12) (if v1 ≤ (s0.2.1 20 (v3).toNatClampNeg) then
 (K4 ((v2 ||| (0 : Int32)), (v3 + (1 : Int32))))
 else
 (K4 ((v2 ||| ((1 : Int32) <<< (v3 &&& 31))), (v3 + (1 : Int32)))))))
def f1_breaks (s0 : Bl) (v1 : Int32) : Option Bl :=
    (loop (g1_breaks_4 s0 v1) FU ((0 : Int32), (0 : Int32)))
def g1_lands_68 (v1 : Int32) (v2 : Int32) (K7 : Bl × Int32 → Option Bl) : (Bl × Int32 → Option Bl) → Bl × Int32 → Option Bl := fun K68 s => match s with
  | (s0, v3) =>
    (if (s0.1 2) ≤ v3 then
 (bnd (f1_ropesAt s0 v2) (fun r3 =>
 (bnd2 (f1_loses s0 r3) (fun r4 s4 =>
 (K7 ((bI s4 4 ((s0.1 4) + r4)), (v1 + (1 : Int32))))))))
 else
 (bnd (f0_has v2 v3) (fun r5 =>
 (if r5 = 0 then
 (K68 (s0, (v3 + (1 : Int32))))
 else
 (chk (inB v3 8) (K68 ((bA s0 16 (v3).toNatClampNeg (1 : Int32)), (v3 + (1 : Int32)))))))))
def g1_lands_7 : (Bl × Int32 → Option Bl) → Bl × Int32 → Option Bl := fun K7 s => match s with
  | (s0, v1) =>
    (if (s0.1 1) ≤ v1 then
 (some s0)
 else
 (chk (inB v1 6) (if (s0.2.1 11 (v1).toNatClampNeg) = 0 then
 (chk (inB v1 6) (if (s0.2.1 9 (v1).toNatClampNeg) = (s0.1 6) then
 (bnd (f1_ownOf s0 v1) (fun r1 =>
 (chk (inB v1 6) (bnd (fJ8_bitCount r1) (fun r2 =>
 (loop (g1_lands_68 v1 r1 K7) FU ((bI (bA s0 11 (v1).toNatClampNeg (1 : Int32)) 26 (((bA s0 11 (v1).toNatClampNeg (1 : Int32)).1 26) + r2)), (0 : Int32))))))))
 else
 (K7 (s0, (v1 + (1 : Int32))))))
 else
 (K7 (s0, (v1 + (1 : Int32)))))))
def f1_lands (s0 : Bl) : Option Bl :=
    (loop (g1_lands_7) FU ((bI s0 26 (0 : Int32)), (0 : Int32)))
def g1_sinksAll_92 (v1 : Int32) : (Bl × Int32 → Option Bl) → Bl × Int32 → Option Bl := fun K92 s => match s with
  | (s0, v3) =>
    (if (s0.1 2) ≤ v3 then
 (bnd (f1_ropesAt s0 v1) (fun r3 =>
 (bnd2 (f1_loses s0 r3) (fun r4 s4 =>
 (bnd (fJ8_bitCount v1) (fun r5 =>
 (some (bI s4 25 r5))))))))
 else
 (bnd (f0_has v1 v3) (fun r6 =>
 (if r6 = 0 then
 (K92 (s0, (v3 + (1 : Int32))))
 else
 (chk (inB v3 8) (chk (inB v3 8) (K92 ((bA (bA s0 16 (v3).toNatClampNeg (2 : Int32)) 17 (v3).toNatClampNeg ((bA s0 16 (v3).toNatClampNeg (2 : Int32)).1 6)), (v3 + (1 : Int32))))))))))
def g1_sinksAll_61 (v1 : Int32) (v2 : Int32) : (Bl × Int32 → Option Bl) → Bl × Int32 → Option Bl := fun K61 s => match s with
  | (s0, v3) =>
    (if (s0.1 1) ≤ v3 then
 (loop (g1_sinksAll_92 v1) FU (s0, (0 : Int32)))
 else
 (bnd (f0_has v2 v3) (fun r7 =>
 (if r7 = 0 then
 (K61 (s0, (v3 + (1 : Int32))))
 else
 (chk (inB v3 6) (K61 ((bA s0 11 (v3).toNatClampNeg (2 : Int32)), (v3 + (1 : Int32)))))))))
def g1_sinksAll_13 (s0 : Bl) (v1 : Int32) : (Int32 × Int32 → Option Bl) → Int32 × Int32 → Option Bl := fun K13 s => match s with
  | (v2, v3) =>
    (if (s0.1 1) ≤ v3 then
 (loop (g1_sinksAll_61 v1 v2) FU (s0, (0 : Int32)))
 else
 (bnd (f1_rides s0 v3) (fun r8 =>
 (if r8 = (-1 : Int32) then
 (K13 ((v2 ||| (0 : Int32)), (v3 + (1 : Int32))))
 else
 (bnd (f0_has v1 r8) (fun r9 =>
 (if r9 = 0 then
 (K13 ((v2 ||| (0 : Int32)), (v3 + (1 : Int32))))
 else
 (K13 ((v2 ||| ((1 : Int32) <<< (v3 &&& 31))), (v3 + (1 : Int32)))))))))))
def f1_sinksAll (s0 : Bl) : Option Bl :=
    (bnd (f1_allRopes s0) (fun r1 =>
 (bnd2 (f1_sinkingBy s0 r1) (fun r2 s2 =>
 (loop (g1_sinksAll_13 s2 r2) FU ((0 : Int32), (0 : Int32)))))))
def g1_goes_12 (v1 : Int32) : (Bl × Int32 → Option (Int32 × Bl)) → Bl × Int32 → Option (Int32 × Bl) := fun K12 s => match s with
  | (s0, v2) =>
    (if (s0.1 2) ≤ v2 then
 (bnd (f1_breaks s0 v1) (fun s1 =>
 (bnd (f1_lands s1) (fun s2 =>
 (bnd (f1_sinksAll s2) (fun s3 =>
 (some ((s3.1 25), s3))))))))
 else
 (chk (inB v2 8) (if (s0.2.1 16 (v2).toNatClampNeg) = 0 then
 (chk (inB v2 8) (chk (inB v2 8) (chk (inB v2 8) (ltv (bA s0 14 (v2).toNatClampNeg (if (0 : Int32) < ((s0.2.1 14 (v2).toNatClampNeg) - (s0.2.1 15 (v2).toNatClampNeg)) then ((s0.2.1 14 (v2).toNatClampNeg) - (s0.2.1 15 (v2).toNatClampNeg)) else (0 : Int32))) (fun s4 =>
 (K12 (s4, (v2 + (1 : Int32)))))))))
 else
 (K12 (s0, (v2 + (1 : Int32)))))))
def f1_goes (s0 : Bl) (v1 : Int32) : Option (Int32 × Bl) :=
    (loop (g1_goes_12 v1) FU ((bI s0 6 ((s0.1 6) + (1 : Int32))), (0 : Int32)))
def f1_goesOn (s0 : Bl) : Option (Int32 × Bl) :=
    (bnd (f1_forceAt s0 ((s0.1 6) + (1 : Int32))) (fun r1 =>
 (bnd2 (f1_goes s0 r1) (fun r2 s2 =>
 (some (r2, s2))))))
def f1_standsAs (s0 t0 : Bl) : Option Bl :=
    (ltv (bS (bS (bI (bI (bI s0 6 (t0.1 6)) 4 (t0.1 4)) 5 (t0.1 5)) 11 (va_cpy (t0.2.1 11) ((bI (bI (bI s0 6 (t0.1 6)) 4 (t0.1 4)) 5 (t0.1 5)).2.1 11) 0 0 6)) 12 (va_cpy (t0.2.1 12) ((bS (bI (bI (bI s0 6 (t0.1 6)) 4 (t0.1 4)) 5 (t0.1 5)) 11 (va_cpy (t0.2.1 11) ((bI (bI (bI s0 6 (t0.1 6)) 4 (t0.1 4)) 5 (t0.1 5)).2.1 11) 0 0 6)).2.1 12) 0 0 8)) (fun s1 =>
 (ltv (bS (bS (bS s1 14 (va_cpy (t0.2.1 14) (s1.2.1 14) 0 0 8)) 16 (va_cpy (t0.2.1 16) ((bS s1 14 (va_cpy (t0.2.1 14) (s1.2.1 14) 0 0 8)).2.1 16) 0 0 8)) 17 (va_cpy (t0.2.1 17) ((bS (bS s1 14 (va_cpy (t0.2.1 14) (s1.2.1 14) 0 0 8)) 16 (va_cpy (t0.2.1 16) ((bS s1 14 (va_cpy (t0.2.1 14) (s1.2.1 14) 0 0 8)).2.1 16) 0 0 8)).2.1 17) 0 0 8)) (fun s2 =>
 (ltv (bS (bS (bS s2 18 (va_cpy (t0.2.1 18) (s2.2.1 18) 0 0 12)) 19 (va_cpy (t0.2.1 19) ((bS s2 18 (va_cpy (t0.2.1 18) (s2.2.1 18) 0 0 12)).2.1 19) 0 0 12)) 20 (va_cpy (t0.2.1 20) ((bS (bS s2 18 (va_cpy (t0.2.1 18) (s2.2.1 18) 0 0 12)) 19 (va_cpy (t0.2.1 19) ((bS s2 18 (va_cpy (t0.2.1 18) (s2.2.1 18) 0 0 12)).2.1 19) 0 0 12)).2.1 20) 0 0 12)) (fun s3 =>
 (some s3)))))))
def f1_copies (s0 t0 : Bl) : Option Bl :=
    (ltv (bS (bI (bI (bI (bI (bI (bI s0 0 (t0.1 0)) 1 (t0.1 1)) 2 (t0.1 2)) 3 (t0.1 3)) 7 (t0.1 7)) 8 (t0.1 8)) 9 (va_cpy (t0.2.1 9) ((bI (bI (bI (bI (bI (bI s0 0 (t0.1 0)) 1 (t0.1 1)) 2 (t0.1 2)) 3 (t0.1 3)) 7 (t0.1 7)) 8 (t0.1 8)).2.1 9) 0 0 6)) (fun s1 =>
 (ltv (bS (bS (bS s1 10 (va_cpy (t0.2.1 10) (s1.2.1 10) 0 0 6)) 13 (va_cpy (t0.2.1 13) ((bS s1 10 (va_cpy (t0.2.1 10) (s1.2.1 10) 0 0 6)).2.1 13) 0 0 8)) 15 (va_cpy (t0.2.1 15) ((bS (bS s1 10 (va_cpy (t0.2.1 10) (s1.2.1 10) 0 0 6)) 13 (va_cpy (t0.2.1 13) ((bS s1 10 (va_cpy (t0.2.1 10) (s1.2.1 10) 0 0 6)).2.1 13) 0 0 8)).2.1 15) 0 0 8)) (fun s2 =>
 (ltv (bS (bS (bS s2 21 (va_cpy (t0.2.1 21) (s2.2.1 21) 0 0 6)) 22 (va_cpy (t0.2.1 22) ((bS s2 21 (va_cpy (t0.2.1 21) (s2.2.1 21) 0 0 6)).2.1 22) 0 0 6)) 23 (va_cpy (t0.2.1 23) ((bS (bS s2 21 (va_cpy (t0.2.1 21) (s2.2.1 21) 0 0 6)) 22 (va_cpy (t0.2.1 22) ((bS s2 21 (va_cpy (t0.2.1 21) (s2.2.1 21) 0 0 6)).2.1 22) 0 0 6)).2.1 23) 0 0 18)) (fun s3 =>
 (bnd (f1_standsAs (bS s3 24 (va_cpy (t0.2.1 24) (s3.2.1 24) 0 0 1540)) t0) (fun s4 =>
 (some s4)))))))))

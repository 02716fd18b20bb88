/-! the reading of texts, printed by gen/text.py -/
set_option maxRecDepth 100000
set_option maxHeartbeats 4000000
def g4_see_44 (s0 : (Nat → Bl)) : Option (Int32 × (Nat → Bl)) :=
    (if ((s0 0).1 8) ≤ ((s0 14).1 2) then
 (some ((-1 : Int32), s0))
 else
 (chk (inB ((s0 14).1 2) 400) (some ((((s0 0).2.1 7 (((s0 14).1 2)).toNatClampNeg) &&& (255 : Int32)), s0))))
def g4_see_0 : ((Nat → Bl) → Option (Int32 × (Nat → Bl))) → (Nat → Bl) → Option (Int32 × (Nat → Bl)) := fun K0 s0 =>
    (if ((s0 0).1 8) ≤ ((s0 14).1 2) then
 (g4_see_44 s0)
 else
 (chk (inB ((s0 14).1 2) 400) (if ((s0 0).2.1 7 (((s0 14).1 2)).toNatClampNeg) = (32 : Int32) then
 (K0 (upX s0 14 (bI (s0 14) 2 (((s0 14).1 2) + (1 : Int32)))))
 else
 (g4_see_44 s0))))
def f4_see (s0 : (Nat → Bl)) : Option (Int32 × (Nat → Bl)) :=
    (loop (g4_see_0) FU s0)
def f4_takesSign (s0 : (Nat → Bl)) (v1 : Int32) : Option (Int32 × (Nat → Bl)) :=
    (bnd2 (f4_see s0) (fun r1 s1 =>
 (if r1 = v1 then
 (some ((1 : Int32), (upX s1 14 (bI (s1 14) 2 (((s1 14).1 2) + (1 : Int32))))))
 else
 (some ((0 : Int32), s1)))))
def g4_letters_7 (s0 : (Nat → Bl)) : (Int32 → Option (Int32 × (Nat → Bl))) → Int32 → Option (Int32 × (Nat → Bl)) := fun K7 v1 =>
    (if ((s0 0).1 8) ≤ (((s0 14).1 2) + v1) then
 (some (v1, s0))
 else
 (chk (inB (((s0 14).1 2) + v1) 400) (if ((s0 0).2.1 7 ((((s0 14).1 2) + v1)).toNatClampNeg) < (97 : Int32) then
 (some (v1, s0))
 else
 (chk (inB (((s0 14).1 2) + v1) 400) (if (122 : Int32) < ((s0 0).2.1 7 ((((s0 14).1 2) + v1)).toNatClampNeg) then
 (some (v1, s0))
 else
 (K7 (v1 + (1 : Int32))))))))
def f4_letters (s0 : (Nat → Bl)) : Option (Int32 × (Nat → Bl)) :=
    (bnd2 (f4_see s0) (fun r1 s1 =>
 (loop (g4_letters_7 s1) FU (0 : Int32))))
def g4_isWord_22 (s0 : (Nat → Bl)) (k1 : Nat) (v2 : Int32) : (Int32 × Int32 → Option (Int32 × (Nat → Bl))) → Int32 × Int32 → Option (Int32 × (Nat → Bl)) := fun K22 s => match s with
  | (v3, v4) =>
    (if v3 = 0 then
 (chk (isB v3) (some (v3, s0)))
 else
 (if v2 ≤ v4 then
 (chk (isB v3) (some (v3, s0)))
 else
 (chk (decide (k1 < 23)) (chk (inB v4 (sBy k1).length) (chk (inB (((s0 14).1 2) + v4) 400) (if ((sBy k1).getD (v4).toNatClampNeg 0) = ((s0 0).2.1 7 ((((s0 14).1 2) + v4)).toNatClampNeg) then
 (K22 ((1 : Int32), (v4 + (1 : Int32))))
 else
 (K22 ((0 : Int32), (v4 + (1 : Int32))))))))))
def f4_isWord (s0 : (Nat → Bl)) (k1 : Nat) : Option (Int32 × (Nat → Bl)) :=
    (bnd2 (f4_letters s0) (fun r1 s1 =>
 (chk (decide (k1 < 23)) (if r1 = (Int32.ofNat (sBy k1).length) then
 (loop (g4_isWord_22 s1 k1 r1) FU ((1 : Int32), (0 : Int32)))
 else
 (loop (g4_isWord_22 s1 k1 r1) FU ((0 : Int32), (0 : Int32)))))))
def f4_takesWord (s0 : (Nat → Bl)) (k1 : Nat) : Option (Int32 × (Nat → Bl)) :=
    (bnd2 (f4_isWord s0 k1) (fun r1 s1 =>
 (if r1 = 0 then
 (some ((0 : Int32), s1))
 else
 (chk (decide (k1 < 23)) (some ((1 : Int32), (upX s1 14 (bI (s1 14) 2 (((s1 14).1 2) + (Int32.ofNat (sBy k1).length))))))))))
def g4_oneOf_2 (nf : Nat) (bs : Nat) : ((Nat → Bl) × Int32 → Option (Int32 × (Nat → Bl))) → (Nat → Bl) × Int32 → Option (Int32 × (Nat → Bl)) := fun K2 s => match s with
  | (s0, v2) =>
    (if (Int32.ofNat nf) ≤ v2 then
 (some ((-1 : Int32), s0))
 else
 (chk (inB v2 nf) (bnd2 (f4_isWord s0 (bs + (v2).toNatClampNeg)) (fun r1 s1 =>
 (if r1 = 0 then
 (K2 (s1, (v2 + (1 : Int32))))
 else
 (some (v2, s1)))))))
def f4_oneOf (s0 : (Nat → Bl)) (nf : Nat) (bs : Nat) : Option (Int32 × (Nat → Bl)) :=
    (loop (g4_oneOf_2 nf bs) FU (s0, (0 : Int32)))
def f4_isDigit (s0 : (Nat → Bl)) (v1 : Int32) : Option Int32 :=
    (if ((s0 0).1 8) ≤ v1 then
 (some (0 : Int32))
 else
 (chk (inB v1 400) (if ((s0 0).2.1 7 (v1).toNatClampNeg) < (48 : Int32) then
 (some (0 : Int32))
 else
 (chk (inB v1 400) (if (57 : Int32) < ((s0 0).2.1 7 (v1).toNatClampNeg) then
 (some (0 : Int32))
 else
 (some (1 : Int32)))))))
def g4_canBe_33 (s0 : (Nat → Bl)) (v1 : Int32) (z0 : Int32) (z1 : Int32) : Option Int32 :=
    (if z1 = z0 then
 (if v1 = (1 : Int32) then
 (if (6 : Int32) ≤ ((s0 3).1 1) then
 (some (0 : Int32))
 else
 (some (1 : Int32)))
 else
 (if v1 = (2 : Int32) then
 (if (8 : Int32) ≤ ((s0 3).1 2) then
 (some (0 : Int32))
 else
 (some (1 : Int32)))
 else
 (if v1 = (3 : Int32) then
 (if (12 : Int32) ≤ ((s0 3).1 5) then
 (some (0 : Int32))
 else
 (some (1 : Int32)))
 else
 (if v1 = (4 : Int32) then
 (if (6 : Int32) ≤ ((s0 3).1 3) then
 (some (0 : Int32))
 else
 (some (1 : Int32)))
 else
 (some (1 : Int32))))))
 else
 (some (0 : Int32)))
def f4_canBe (s0 : (Nat → Bl)) (v1 : Int32) : Option Int32 :=
    (if (40 : Int32) ≤ ((s0 14).1 5) then
 (some (0 : Int32))
 else
 (if v1 = 0 then
 (if ((s0 3).1 0) = 0 then
 (g4_canBe_33 s0 v1 (1 : Int32) (1 : Int32))
 else
 (g4_canBe_33 s0 v1 (0 : Int32) (1 : Int32)))
 else
 (if ((s0 3).1 0) = 0 then
 (g4_canBe_33 s0 v1 (1 : Int32) (0 : Int32))
 else
 (g4_canBe_33 s0 v1 (0 : Int32) (0 : Int32)))))
def f4_demand (s0 : (Nat → Bl)) (v1 : Int32) (v2 : Int32) (v3 : Int32) : Option ((Nat → Bl) ⊕ (Nat → Bl)) :=
    (if v1 = 0 then
 (some (.inl (upX (upX s0 13 (bI (s0 13) 6 v2)) 13 (bI ((upX s0 13 (bI (s0 13) 6 v2)) 13) 7 v3))))
 else
 (some (.inr s0)))
def g4_number_24 (v1 : Int32) (v2 : Int32) (v3 : Int32) : ((Nat → Bl) × Int32 → Option ((Nat → Bl) ⊕ (Int32 × (Nat → Bl)))) → (Nat → Bl) × Int32 → Option ((Nat → Bl) ⊕ (Int32 × (Nat → Bl))) := fun K24 s => match s with
  | (s0, v4) =>
    (bnd (f4_isDigit s0 ((s0 14).1 2)) (fun r4 =>
 (if r4 = 0 then
 (if (5 : Int32) < (((s0 14).1 2) - v3) then
 (bndX (f4_demand s0 (0 : Int32) (1 : Int32) v3) (fun s5 =>
 (some (.inr (v4, s5)))))
 else
 (bnd (f0_in (v4).toInt64 (v1).toInt64 (v2).toInt64) (fun r6 =>
 (if r6 = 0 then
 (bndX (f4_demand s0 (0 : Int32) (1 : Int32) v3) (fun s7 =>
 (some (.inr (v4, s7)))))
 else
 (bndX (f4_demand s0 (1 : Int32) (1 : Int32) v3) (fun s8 =>
 (some (.inr (v4, s8)))))))))
 else
 (if (5 : Int32) ≤ (((s0 14).1 2) - v3) then
 (K24 ((upX s0 14 (bI (s0 14) 2 (((s0 14).1 2) + (1 : Int32)))), v4))
 else
 (chk (inB ((s0 14).1 2) 400) (ltv ((((10 : Int32) * v4) + ((s0 0).2.1 7 (((s0 14).1 2)).toNatClampNeg)) - (48 : Int32)) (fun y9 =>
 (K24 ((upX s0 14 (bI (s0 14) 2 (((s0 14).1 2) + (1 : Int32)))), y9)))))))))
def f4_number (s0 : (Nat → Bl)) (v1 : Int32) (v2 : Int32) : Option ((Nat → Bl) ⊕ (Int32 × (Nat → Bl))) :=
    (bnd2 (f4_see s0) (fun r1 s1 =>
 (bnd (f4_isDigit s1 ((s1 14).1 2)) (fun r2 =>
 (bndX (f4_demand s1 r2 (0 : Int32) ((s1 14).1 2)) (fun s3 =>
 (loop (g4_number_24 v1 v2 ((s1 14).1 2)) FU (s3, (0 : Int32)))))))))
def f4_makes (s0 : (Nat → Bl)) (v1 : Int32) : Option ((Nat → Bl) ⊕ (Nat → Bl)) :=
    (if (60 : Int32) ≤ ((s0 14).1 4) then
 (bndX (f4_demand s0 (0 : Int32) (3 : Int32) v1) (fun s1 =>
 (some (.inr (upX s1 14 (bI (s1 14) 4 (((s1 14).1 4) + (1 : Int32))))))))
 else
 (bndX (f4_demand s0 (1 : Int32) (3 : Int32) v1) (fun s2 =>
 (some (.inr (upX s2 14 (bI (s2 14) 4 (((s2 14).1 4) + (1 : Int32)))))))))
def f4_opens (s0 : (Nat → Bl)) (v1 : Int32) : Option ((Nat → Bl) ⊕ (Nat → Bl)) :=
    (if (10 : Int32) ≤ ((s0 14).1 3) then
 (bndX (f4_demand s0 (0 : Int32) (2 : Int32) v1) (fun s1 =>
 (some (.inr (upX s1 14 (bI (s1 14) 3 (((s1 14).1 3) + (1 : Int32))))))))
 else
 (bndX (f4_demand s0 (1 : Int32) (2 : Int32) v1) (fun s2 =>
 (some (.inr (upX s2 14 (bI (s2 14) 3 (((s2 14).1 3) + (1 : Int32)))))))))
def f4_ends (s0 : (Nat → Bl)) : Option ((Nat → Bl) ⊕ (Nat → Bl)) :=
    (bnd2 (f4_see s0) (fun r1 s1 =>
 (if r1 = (-1 : Int32) then
 (bndX (f4_demand s1 (1 : Int32) (0 : Int32) ((s1 14).1 2)) (fun s3 =>
 (some (.inr s3))))
 else
 (bndX (f4_demand s1 (0 : Int32) (0 : Int32) ((s1 14).1 2)) (fun s2 =>
 (some (.inr s2)))))))
def g4_sign_106 (s0 : (Nat → Bl)) (v1 : Int32) (v2 : Int32) : Option ((Nat → Bl) ⊕ (Int32 × (Nat → Bl))) :=
    (if v1 = (60 : Int32) then
 (if v2 = 0 then
 (some (.inr ((0 : Int32), s0)))
 else
 (some (.inr ((1 : Int32), s0))))
 else
 (if v2 = 0 then
 (some (.inr ((4 : Int32), s0)))
 else
 (some (.inr ((3 : Int32), s0)))))
def g4_sign_29 (s0 : (Nat → Bl)) (v1 : Int32) (z0 : Int32) : Option ((Nat → Bl) ⊕ (Int32 × (Nat → Bl))) :=
    (bndX (f4_demand s0 z0 (0 : Int32) ((s0 14).1 2)) (fun s2 =>
 (if v1 = (61 : Int32) then
 (some (.inr ((2 : Int32), (upX s2 14 (bI (s2 14) 2 (((s2 14).1 2) + (1 : Int32)))))))
 else
 (if (((upX s2 14 (bI (s2 14) 2 (((s2 14).1 2) + (1 : Int32)))) 0).1 8) ≤ (((upX s2 14 (bI (s2 14) 2 (((s2 14).1 2) + (1 : Int32)))) 14).1 2) then
 (g4_sign_106 (upX s2 14 (bI (s2 14) 2 (((s2 14).1 2) + (1 : Int32)))) v1 (0 : Int32))
 else
 (chk (inB (((upX s2 14 (bI (s2 14) 2 (((s2 14).1 2) + (1 : Int32)))) 14).1 2) 400) (if (((upX s2 14 (bI (s2 14) 2 (((s2 14).1 2) + (1 : Int32)))) 0).2.1 7 ((((upX s2 14 (bI (s2 14) 2 (((s2 14).1 2) + (1 : Int32)))) 14).1 2)).toNatClampNeg) = (61 : Int32) then
 (ltv (upX (upX s2 14 (bI (s2 14) 2 (((s2 14).1 2) + (1 : Int32)))) 14 (bI ((upX s2 14 (bI (s2 14) 2 (((s2 14).1 2) + (1 : Int32)))) 14) 2 ((((upX s2 14 (bI (s2 14) 2 (((s2 14).1 2) + (1 : Int32)))) 14).1 2) + (1 : Int32)))) (fun s3 =>
 (g4_sign_106 s3 v1 (1 : Int32))))
 else
 (g4_sign_106 (upX s2 14 (bI (s2 14) 2 (((s2 14).1 2) + (1 : Int32)))) v1 (0 : Int32))))))))
def f4_sign (s0 : (Nat → Bl)) : Option ((Nat → Bl) ⊕ (Int32 × (Nat → Bl))) :=
    (bnd2 (f4_see s0) (fun r1 s1 =>
 (if r1 = (60 : Int32) then
 (g4_sign_29 s1 r1 (1 : Int32))
 else
 (if r1 = (61 : Int32) then
 (g4_sign_29 s1 r1 (1 : Int32))
 else
 (if r1 = (62 : Int32) then
 (g4_sign_29 s1 r1 (1 : Int32))
 else
 (g4_sign_29 s1 r1 (0 : Int32)))))))
def f4_ownerHere (s0 : (Nat → Bl)) : Option ((Nat → Bl) ⊕ (Nat → Bl)) :=
    (bndX2 (f4_number s0 (1 : Int32) ((s0 3).1 0)) (fun r1 s1 =>
 (chk (inB ((s0 3).1 1) 6) (bndX2 (f4_number (upX s1 3 (bA (s1 3) 9 (((s0 3).1 1)).toNatClampNeg r1)) (0 : Int32) (20 : Int32)) (fun r2 s2 =>
 (chk (inB ((s0 3).1 1) 6) (ltv (upX (upX s2 3 (bA (s2 3) 10 (((s0 3).1 1)).toNatClampNeg r2)) 3 (bI ((upX s2 3 (bA (s2 3) 10 (((s0 3).1 1)).toNatClampNeg r2)) 3) 1 ((((upX s2 3 (bA (s2 3) 10 (((s0 3).1 1)).toNatClampNeg r2)) 3).1 1) + (1 : Int32)))) (fun s3 =>
 (some (.inr s3))))))))))
def f4_thingHere (s0 : (Nat → Bl)) : Option ((Nat → Bl) ⊕ (Nat → Bl)) :=
    (bndX2 (f4_number s0 (0 : Int32) (((s0 3).1 1) - (1 : Int32))) (fun r1 s1 =>
 (chk (inB ((s0 3).1 2) 8) (bndX2 (f4_number (upX s1 3 (bA (s1 3) 12 (((s0 3).1 2)).toNatClampNeg r1)) (0 : Int32) (50 : Int32)) (fun r2 s2 =>
 (chk (inB ((s0 3).1 2) 8) (bndX2 (f4_number (upX s2 3 (bA (s2 3) 13 (((s0 3).1 2)).toNatClampNeg r2)) (0 : Int32) (99 : Int32)) (fun r3 s3 =>
 (chk (inB ((s0 3).1 2) 8) (bndX2 (f4_number (upX s3 3 (bA (s3 3) 14 (((s0 3).1 2)).toNatClampNeg r3)) (0 : Int32) (9 : Int32)) (fun r4 s4 =>
 (chk (inB ((s0 3).1 2) 8) (ltv (upX (upX s4 3 (bA (s4 3) 15 (((s0 3).1 2)).toNatClampNeg r4)) 3 (bI ((upX s4 3 (bA (s4 3) 15 (((s0 3).1 2)).toNatClampNeg r4)) 3) 2 ((((upX s4 3 (bA (s4 3) 15 (((s0 3).1 2)).toNatClampNeg r4)) 3).1 2) + (1 : Int32)))) (fun s5 =>
 (some (.inr s5))))))))))))))))
def f4_boundHere (s0 : (Nat → Bl)) : Option ((Nat → Bl) ⊕ (Nat → Bl)) :=
    (bndX2 (f4_number s0 (0 : Int32) (((s0 3).1 2) - (1 : Int32))) (fun r1 s1 =>
 (bnd2 (f4_see s1) (fun r2 s2 =>
 (bndX2 (f4_number s2 (0 : Int32) (((s2 3).1 2) - (1 : Int32))) (fun r3 s3 =>
 (if r1 = r3 then
 (bndX (f4_demand s3 (0 : Int32) (1 : Int32) ((s2 14).1 2)) (fun s4 =>
 (bndX2 (f4_number s4 (1 : Int32) (9 : Int32)) (fun r5 s5 =>
 (bnd (f1_binds (s5 3) r1 r3 r5) (fun s6 =>
 (some (.inr (upX s5 3 s6)))))))))
 else
 (bnd (f1_ropeOf (s3 3) r1 r3) (fun r7 =>
 (if r7 = (-1 : Int32) then
 (bndX (f4_demand s3 (1 : Int32) (1 : Int32) ((s2 14).1 2)) (fun s11 =>
 (bndX2 (f4_number s11 (1 : Int32) (9 : Int32)) (fun r12 s12 =>
 (bnd (f1_binds (s12 3) r1 r3 r12) (fun s13 =>
 (some (.inr (upX s12 3 s13)))))))))
 else
 (bndX (f4_demand s3 (0 : Int32) (1 : Int32) ((s2 14).1 2)) (fun s8 =>
 (bndX2 (f4_number s8 (1 : Int32) (9 : Int32)) (fun r9 s9 =>
 (bnd (f1_binds (s9 3) r1 r3 r9) (fun s10 =>
 (some (.inr (upX s9 3 s10)))))))))))))))))))
def g4_rapidHere_40 (s0 : (Nat → Bl)) (v1 : Int32) (v2 : Int32) (z0 : Int32) : Option ((Nat → Bl) ⊕ (Nat → Bl)) :=
    (bndX (f4_demand s0 z0 (1 : Int32) v1) (fun s4 =>
 (chk (inB ((s4 3).1 3) 6) (bndX2 (f4_number (upX s4 3 (bA (s4 3) 21 (((s4 3).1 3)).toNatClampNeg v2)) (1 : Int32) (9 : Int32)) (fun r5 s5 =>
 (chk (inB (((upX s4 3 (bA (s4 3) 21 (((s4 3).1 3)).toNatClampNeg v2)) 3).1 3) 6) (ltv (upX (upX s5 3 (bA (s5 3) 22 ((((upX s4 3 (bA (s4 3) 21 (((s4 3).1 3)).toNatClampNeg v2)) 3).1 3)).toNatClampNeg r5)) 3 (bI ((upX s5 3 (bA (s5 3) 22 ((((upX s4 3 (bA (s4 3) 21 (((s4 3).1 3)).toNatClampNeg v2)) 3).1 3)).toNatClampNeg r5)) 3) 3 ((((upX s5 3 (bA (s5 3) 22 ((((upX s4 3 (bA (s4 3) 21 (((s4 3).1 3)).toNatClampNeg v2)) 3).1 3)).toNatClampNeg r5)) 3).1 3) + (1 : Int32)))) (fun s6 =>
 (some (.inr s6))))))))))
def f4_rapidHere (s0 : (Nat → Bl)) : Option ((Nat → Bl) ⊕ (Nat → Bl)) :=
    (bnd2 (f4_see s0) (fun r1 s1 =>
 (bndX2 (f4_number s1 (1 : Int32) ((s1 3).1 0)) (fun r2 s2 =>
 (bnd (f1_forceAt (s2 3) r2) (fun r3 =>
 (if r3 = 0 then
 (g4_rapidHere_40 s2 ((s1 14).1 2) r2 (1 : Int32))
 else
 (g4_rapidHere_40 s2 ((s1 14).1 2) r2 (0 : Int32)))))))))
def f4_line (s0 : (Nat → Bl)) (v1 : Int32) : Option ((Nat → Bl) ⊕ (Nat → Bl)) :=
    (if v1 = (0 : Int32) then
 (bndX2 (f4_number s0 (2 : Int32) (99 : Int32)) (fun r2 s2 =>
 (bndX2 (f4_number (upX s2 3 (bI (s2 3) 0 r2)) (0 : Int32) (99 : Int32)) (fun r3 s3 =>
 (some (.inr (upX s3 3 (bI (s3 3) 4 r3))))))))
 else
 (if v1 = (1 : Int32) then
 (bndX (f4_ownerHere s0) (fun s4 =>
 (some (.inr s4))))
 else
 (if v1 = (2 : Int32) then
 (bndX (f4_thingHere s0) (fun s5 =>
 (some (.inr s5))))
 else
 (if v1 = (3 : Int32) then
 (bndX (f4_boundHere s0) (fun s6 =>
 (some (.inr s6))))
 else
 (bndX (f4_rapidHere s0) (fun s7 =>
 (some (.inr s7))))))))
def g4_riverTold_48 (K15 : (Nat → Bl) → Option ((Nat → Bl) ⊕ (Nat → Bl))) (s0 : (Nat → Bl)) (v1 : Int32) (v2 : Int32) (z0 : Int32) : Option ((Nat → Bl) ⊕ (Nat → Bl)) :=
    (bndX (f4_demand s0 z0 (0 : Int32) v1) (fun s4 =>
 (bnd (f4_canBe s4 v2) (fun r5 =>
 (bndX (f4_demand s4 r5 (4 : Int32) v1) (fun s6 =>
 (chk (inB v2 5) (chk (decide ((1 + (v2).toNatClampNeg) < 23)) (ltv (upX (upX s6 14 (bI (s6 14) 5 (((s6 14).1 5) + (1 : Int32)))) 14 (bI ((upX s6 14 (bI (s6 14) 5 (((s6 14).1 5) + (1 : Int32)))) 14) 2 ((((upX s6 14 (bI (s6 14) 5 (((s6 14).1 5) + (1 : Int32)))) 14).1 2) + (Int32.ofNat (sBy (1 + (v2).toNatClampNeg)).length)))) (fun s7 =>
 (bndX (f4_line s7 v2) (fun s8 =>
 (bnd2 (f4_takesSign s8 (59 : Int32)) (fun r9 s9 =>
 (if r9 = 0 then
 (bndX (f4_ends s9) (fun s10 =>
 (some (.inr s10))))
 else
 (K15 s9))))))))))))))))
def g4_riverTold_15 : ((Nat → Bl) → Option ((Nat → Bl) ⊕ (Nat → Bl))) → (Nat → Bl) → Option ((Nat → Bl) ⊕ (Nat → Bl)) := fun K15 s0 =>
    (bnd2 (f4_see s0) (fun r2 s2 =>
 (bnd2 (f4_oneOf s2 5 1) (fun r3 s3 =>
 (if r3 = (-1 : Int32) then
 (g4_riverTold_48 K15 s3 ((s2 14).1 2) r3 (0 : Int32))
 else
 (g4_riverTold_48 K15 s3 ((s2 14).1 2) r3 (1 : Int32)))))))
def f4_riverTold (s0 : (Nat → Bl)) : Option ((Nat → Bl) ⊕ (Nat → Bl)) :=
    (bnd (f1_copies (s0 3) (s0 4)) (fun s1 =>
 (loop (g4_riverTold_15) FU (upX s0 3 s1))))

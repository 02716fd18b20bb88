/-! Text.fact, parted, tested: what they compute, by a depth of fuel -/
set_option maxRecDepth 100000
def bothF (ia : Int32) (t t2 : Tf) : Tf := (fun wds => bothV ia (t.1 wds) (t2.1 wds), max t.2 t2.2 + 1)
/-- a loop that makes Both's: F reads one operand, word w goes on -/
def gB (F : (Nat → Bl) → Option (Cn Tf)) (w : Nat) (ia : Int32) (K : Tf × (Nat → Bl) → Option (Cn Tf)) (p : Tf × (Nat → Bl)) : Option (Cn Tf) := match p with
  | (t, s0) => bnd2 (f4_takesWord s0 w) (fun r1 s1 => if r1 = 0 then some (.inr (t, s1), (0, 0)) else cnt 1 3 (bndC (F s1) (fun t2 s2 => K (bothF ia t t2, s2))))
def fB (F : (Nat → Bl) → Option (Cn Tf)) (w : Nat) (ia : Int32) (s0 : Nat → Bl) : Option (Cn Tf) := bndC (F s0) (fun t s => loop (gB F w ia) FU (t, s))
def f4_fact : Nat → (Nat → Bl) → Option (Cn Tf)
  | 0, _ => none
  | n + 1, s0 => bnd2 (f4_see s0) (fun r1 s1 => bnd2 (f4_isWord s1 20) (fun r2 s2 =>
      if r2 = 0 then
        if r1 = (91 : Int32) then
          bndXc (f4_opens s2 ((s1 14).1 2)) (fun s3 => bndC (fB (fB (f4_fact n) 21 1) 22 0 (upX s3 14 (bI (s3 14) 2 ((s3 14).1 2 + (1 : Int32))))) (fun t s4 =>
            bnd2 (f4_takesSign s4 93) (fun r5 s5 => bndXc (f4_demand s5 r5 0 ((s5 14).1 2)) (fun s6 => some (.inr (t, upX s6 14 (bI (s6 14) 3 ((s6 14).1 3 - (1 : Int32)))), (0, 0))))))
        else
          bndC (f4_sum s2) (fun v3 s3 => bnd2 (f4_see s3) (fun _ s4 => bndXc2 (f4_sign s4) (fun sg s5 => bndXc (f4_makes s5 ((s4 14).1 2)) (fun s6 =>
            cnt 1 3 (bndC (f4_sum s6) (fun v4 s7 => some (.inr ((fun wds => compV sg (v3.1 wds) (v4.1 wds), max v3.2 v4.2 + 1), s7), (0, 0))))))))
      else
        bndXc (f4_opens s2 ((s1 14).1 2)) (fun s3 => cnt 1 1 (bndC (f4_fact n (upX s3 14 (bI (s3 14) 2 ((s3 14).1 2 + (3 : Int32))))) (fun t s5 =>
          some (.inr ((fun wds => !t.1 wds, t.2 + 1), upX s5 14 (bI (s5 14) 3 ((s5 14).1 3 - (1 : Int32)))), (0, 0)))))))
def f4_parted (n : Nat) : (Nat → Bl) → Option (Cn Tf) := fB (f4_fact n) 21 1
def f4_tested (n : Nat) : (Nat → Bl) → Option (Cn Tf) := fB (f4_parted n) 22 0

/-! PLAIN LAW: a flow's rows of the past, copies of flows -/
set_option maxRecDepth 100000
theorem cpB_t {sp dp n n0 n1 : Nat} (h0 : sp + n ≤ n0) (h1 : dp + n ≤ n1) (h2 : n0 < 2147483648) (h3 : n1 < 2147483648) : cpB (Int32.ofNat sp) (Int32.ofNat dp) (Int32.ofNat n) n0 n1 = true := by
  simp only [cpB, zI_pos (show sp < 2147483648 by omega), zI_pos (show dp < 2147483648 by omega), zI_pos (show n < 2147483648 by omega), zI_nat (show sp < 2147483648 by omega), zI_nat (show dp < 2147483648 by omega), zI_nat (show n < 2147483648 by omega), h0, h1, decide_true, Bool.and_self]
def mOf : Nat → Nat
  | 0 => 0
  | 1 => 1
  | 2 => 2
  | 3 => 3
  | 4 => 9
  | 5 => 17
  | 6 => 25
  | 7 => 33
  | 8 => 41
  | 9 => 53
  | _ => 65
/-- rows of the past: of a flow, of the Model -/
def mU (F : Bl) (k j i : Nat) : Int32 := F.2.1 24 (77 * k + mOf j + i)
def mP (a : Ar) (k j i : Nat) : Int32 := a 53 (77 * k + mOf j + i)
/-- what acts change, one behind the other -/
def rowS (g : Nat → Nat → Int32) (x : Nat) : Int32 :=
  if x < 1 then g 0 0 else if x < 2 then g 1 0 else if x < 3 then g 2 0 else if x < 9 then g 3 (x - 3) else if x < 17 then g 4 (x - 9) else if x < 25 then g 5 (x - 17) else if x < 33 then g 6 (x - 25) else if x < 41 then g 7 (x - 33) else if x < 53 then g 8 (x - 41) else if x < 65 then g 9 (x - 53) else g 10 (x - 65)
theorem rowS_3 {g : Nat → Nat → Int32} {i : Nat} (h : i < 6) : rowS g (3 + i) = g 3 i := by
  unfold rowS; rw [if_neg (by omega), if_neg (by omega), if_neg (by omega), if_pos (by omega), Nat.add_sub_cancel_left]
theorem rowS_4 {g : Nat → Nat → Int32} {i : Nat} (h : i < 8) : rowS g (9 + i) = g 4 i := by
  unfold rowS; rw [if_neg (by omega), if_neg (by omega), if_neg (by omega), if_neg (by omega), if_pos (by omega), Nat.add_sub_cancel_left]
theorem rowS_5 {g : Nat → Nat → Int32} {i : Nat} (h : i < 8) : rowS g (17 + i) = g 5 i := by
  unfold rowS; rw [if_neg (by omega), if_neg (by omega), if_neg (by omega), if_neg (by omega), if_neg (by omega), if_pos (by omega), Nat.add_sub_cancel_left]
theorem rowS_6 {g : Nat → Nat → Int32} {i : Nat} (h : i < 8) : rowS g (25 + i) = g 6 i := by
  unfold rowS; rw [if_neg (by omega), if_neg (by omega), if_neg (by omega), if_neg (by omega), if_neg (by omega), if_neg (by omega), if_pos (by omega), Nat.add_sub_cancel_left]
theorem rowS_7 {g : Nat → Nat → Int32} {i : Nat} (h : i < 8) : rowS g (33 + i) = g 7 i := by
  unfold rowS; rw [if_neg (by omega), if_neg (by omega), if_neg (by omega), if_neg (by omega), if_neg (by omega), if_neg (by omega), if_neg (by omega), if_pos (by omega), Nat.add_sub_cancel_left]
theorem rowS_8 {g : Nat → Nat → Int32} {i : Nat} (h : i < 12) : rowS g (41 + i) = g 8 i := by
  unfold rowS; rw [if_neg (by omega), if_neg (by omega), if_neg (by omega), if_neg (by omega), if_neg (by omega), if_neg (by omega), if_neg (by omega), if_neg (by omega), if_pos (by omega), Nat.add_sub_cancel_left]
theorem rowS_9 {g : Nat → Nat → Int32} {i : Nat} (h : i < 12) : rowS g (53 + i) = g 9 i := by
  unfold rowS; rw [if_neg (by omega), if_neg (by omega), if_neg (by omega), if_neg (by omega), if_neg (by omega), if_neg (by omega), if_neg (by omega), if_neg (by omega), if_neg (by omega), if_pos (by omega), Nat.add_sub_cancel_left]
theorem rowS_10 {g : Nat → Nat → Int32} {i : Nat} (h : i < 12) : rowS g (65 + i) = g 10 i := by
  unfold rowS; rw [if_neg (by omega), if_neg (by omega), if_neg (by omega), if_neg (by omega), if_neg (by omega), if_neg (by omega), if_neg (by omega), if_neg (by omega), if_neg (by omega), if_neg (by omega), Nat.add_sub_cancel_left]
def Lr (s : Bl) (f q n : Nat) : Bl := bS s 24 (va_cpy (s.2.1 f) (s.2.1 24) 0 q n)
def layF (F : Bl) (k : Nat) : Bl := Lr (Lr (Lr (Lr (Lr (Lr (Lr (Lr (bA (bA (bA F 24 (77 * k) (F.1 6)) 24 (77 * k + 1) (F.1 4)) 24 (77 * k + 2) (F.1 5)) 11 (77 * k + 3) 6) 12 (77 * k + 9) 8) 14 (77 * k + 17) 8) 16 (77 * k + 25) 8) 17 (77 * k + 33) 8) 18 (77 * k + 41) 12) 19 (77 * k + 53) 12) 20 (77 * k + 65) 12
theorem f1_lays_def {F : Bl} {k : Nat} (hk : k < 20) : f1_lays F (Int32.ofNat k) = some (layF F k) := by
  have m77 : (77 : Int32) * Int32.ofNat k = Int32.ofNat (77 * k) := (Int32.ofNat_mul 77 k).symm
  have p1 : Int32.ofNat (77 * k) + (1 : Int32) = Int32.ofNat (77 * k + 1) := (Int32.ofNat_add _ 1).symm
  have p2 : Int32.ofNat (77 * k) + (2 : Int32) = Int32.ofNat (77 * k + 2) := (Int32.ofNat_add _ 2).symm
  have p3 : Int32.ofNat (77 * k) + (3 : Int32) = Int32.ofNat (77 * k + 3) := (Int32.ofNat_add _ 3).symm
  have p9 : Int32.ofNat (77 * k) + (9 : Int32) = Int32.ofNat (77 * k + 9) := (Int32.ofNat_add _ 9).symm
  have p17 : Int32.ofNat (77 * k) + (17 : Int32) = Int32.ofNat (77 * k + 17) := (Int32.ofNat_add _ 17).symm
  have p25 : Int32.ofNat (77 * k) + (25 : Int32) = Int32.ofNat (77 * k + 25) := (Int32.ofNat_add _ 25).symm
  have p33 : Int32.ofNat (77 * k) + (33 : Int32) = Int32.ofNat (77 * k + 33) := (Int32.ofNat_add _ 33).symm
  have p41 : Int32.ofNat (77 * k) + (41 : Int32) = Int32.ofNat (77 * k + 41) := (Int32.ofNat_add _ 41).symm
  have p53 : Int32.ofNat (77 * k) + (53 : Int32) = Int32.ofNat (77 * k + 53) := (Int32.ofNat_add _ 53).symm
  have p65 : Int32.ofNat (77 * k) + (65 : Int32) = Int32.ofNat (77 * k + 65) := (Int32.ofNat_add _ 65).symm
  have i0 : inB (Int32.ofNat (77 * k)) 1540 = true := zI_in (by omega) (by decide)
  have i1 : inB (Int32.ofNat (77 * k + 1)) 1540 = true := zI_in (by omega) (by decide)
  have i2 : inB (Int32.ofNat (77 * k + 2)) 1540 = true := zI_in (by omega) (by decide)
  have n0 : (Int32.ofNat (77 * k)).toNatClampNeg = 77 * k := zI_nat (by omega)
  have n1 : (Int32.ofNat (77 * k + 1)).toNatClampNeg = 77 * k + 1 := zI_nat (by omega)
  have n2 : (Int32.ofNat (77 * k + 2)).toNatClampNeg = 77 * k + 2 := zI_nat (by omega)
  have n3 : (Int32.ofNat (77 * k + 3)).toNatClampNeg = 77 * k + 3 := zI_nat (by omega)
  have n9 : (Int32.ofNat (77 * k + 9)).toNatClampNeg = 77 * k + 9 := zI_nat (by omega)
  have n17 : (Int32.ofNat (77 * k + 17)).toNatClampNeg = 77 * k + 17 := zI_nat (by omega)
  have n25 : (Int32.ofNat (77 * k + 25)).toNatClampNeg = 77 * k + 25 := zI_nat (by omega)
  have n33 : (Int32.ofNat (77 * k + 33)).toNatClampNeg = 77 * k + 33 := zI_nat (by omega)
  have n41 : (Int32.ofNat (77 * k + 41)).toNatClampNeg = 77 * k + 41 := zI_nat (by omega)
  have n53 : (Int32.ofNat (77 * k + 53)).toNatClampNeg = 77 * k + 53 := zI_nat (by omega)
  have n65 : (Int32.ofNat (77 * k + 65)).toNatClampNeg = 77 * k + 65 := zI_nat (by omega)
  have c3 : cpB (0 : Int32) (Int32.ofNat (77 * k + 3)) (6 : Int32) 6 1540 = true := cpB_t (sp := 0) (n := 6) (by omega) (by omega) (by decide) (by decide)
  have c9 : cpB (0 : Int32) (Int32.ofNat (77 * k + 9)) (8 : Int32) 8 1540 = true := cpB_t (sp := 0) (n := 8) (by omega) (by omega) (by decide) (by decide)
  have c17 : cpB (0 : Int32) (Int32.ofNat (77 * k + 17)) (8 : Int32) 8 1540 = true := cpB_t (sp := 0) (n := 8) (by omega) (by omega) (by decide) (by decide)
  have c25 : cpB (0 : Int32) (Int32.ofNat (77 * k + 25)) (8 : Int32) 8 1540 = true := cpB_t (sp := 0) (n := 8) (by omega) (by omega) (by decide) (by decide)
  have c33 : cpB (0 : Int32) (Int32.ofNat (77 * k + 33)) (8 : Int32) 8 1540 = true := cpB_t (sp := 0) (n := 8) (by omega) (by omega) (by decide) (by decide)
  have c41 : cpB (0 : Int32) (Int32.ofNat (77 * k + 41)) (12 : Int32) 12 1540 = true := cpB_t (sp := 0) (n := 12) (by omega) (by omega) (by decide) (by decide)
  have c53 : cpB (0 : Int32) (Int32.ofNat (77 * k + 53)) (12 : Int32) 12 1540 = true := cpB_t (sp := 0) (n := 12) (by omega) (by omega) (by decide) (by decide)
  have c65 : cpB (0 : Int32) (Int32.ofNat (77 * k + 65)) (12 : Int32) 12 1540 = true := cpB_t (sp := 0) (n := 12) (by omega) (by omega) (by decide) (by decide)
  unfold f1_lays
  simp only [m77, p1, p2, p3, p9, p17, p25, p33, p41, p53, p65, i0, i1, i2, c3, c9, c17, c25, c33, c41, c53, c65, n0, n1, n2, n3, n9, n17, n25, n33, n41, n53, n65, chk_t, ltv_s]
  rfl
/-- laid so far: the row's first p -/
def LIv (F : Bl) (k p : Nat) (s : Bl) : Prop := Ff [24] [] F s ∧ ∀ x, s.2.1 24 x = if 77 * k ≤ x ∧ x < 77 * k + p then rowS (mF F) (x - 77 * k) else F.2.1 24 x
theorem LIv_sc {F s : Bl} {k p : Nat} {v : Int32} (h : LIv F k p s) (hv : v = rowS (mF F) p) : LIv F k (p + 1) (bA s 24 (77 * k + p) v) := by
  refine ⟨(h.1.trans Ff.ba).weak, fun x => ?_⟩
  have e9 : (bA s 24 (77 * k + p) v).2.1 24 x = if x = 77 * k + p then v else s.2.1 24 x := by simp [bA, bS, upd]
  rw [e9, h.2 x]
  by_cases e : x = 77 * k + p
  · rw [if_pos e, if_pos (by omega), hv, e, Nat.add_sub_cancel_left]
  · rw [if_neg e]
    by_cases c : 77 * k ≤ x ∧ x < 77 * k + p
    · rw [if_pos c, if_pos (by omega)]
    · rw [if_neg c, if_neg (by omega)]
theorem LIv_row {F s : Bl} {k p f n : Nat} (h : LIv F k p s) (hf : f ≠ 24) (hv : ∀ i, i < n → F.2.1 f i = rowS (mF F) (p + i)) : LIv F k (p + n) (Lr s f (77 * k + p) n) := by
  refine ⟨(h.1.trans Ff.bs).weak, fun x => ?_⟩
  have e9 : (Lr s f (77 * k + p) n).2.1 24 x = if 77 * k + p ≤ x ∧ x < 77 * k + p + n then s.2.1 f (0 + (x - (77 * k + p))) else s.2.1 24 x := by simp [Lr, bS, va_cpy]
  rw [e9, h.2 x, h.1.arr f (by simpa using hf)]
  by_cases e : 77 * k + p ≤ x ∧ x < 77 * k + p + n
  · rw [if_pos e, if_pos (by omega), Nat.zero_add, hv _ (by omega)]
    congr 1; omega
  · rw [if_neg e]
    by_cases c : 77 * k ≤ x ∧ x < 77 * k + p
    · rw [if_pos c, if_pos (by omega)]
    · rw [if_neg c, if_neg (by omega)]
theorem f1_lays_eq {F : Bl} {k : Nat} (hk : k < 20) : ∃ F' : Bl, f1_lays F (Int32.ofNat k) = some F' ∧ LIv F k 77 F' := by
  refine ⟨layF F k, f1_lays_def hk, ?_⟩
  have h0 : LIv F k 0 F := ⟨(Ff.refl (F := F)).weak, fun x => by rw [if_neg (by omega)]⟩
  have h1 := LIv_sc (v := F.1 6) h0 rfl
  have h2 := LIv_sc (v := F.1 4) h1 rfl
  have h3 := LIv_sc (v := F.1 5) h2 rfl
  have h4 := LIv_row (f := 11) (n := 6) h3 (by decide) (fun i hi => (rowS_3 (g := mF F) hi).symm)
  have h5 := LIv_row (f := 12) (n := 8) h4 (by decide) (fun i hi => (rowS_4 (g := mF F) hi).symm)
  have h6 := LIv_row (f := 14) (n := 8) h5 (by decide) (fun i hi => (rowS_5 (g := mF F) hi).symm)
  have h7 := LIv_row (f := 16) (n := 8) h6 (by decide) (fun i hi => (rowS_6 (g := mF F) hi).symm)
  have h8 := LIv_row (f := 17) (n := 8) h7 (by decide) (fun i hi => (rowS_7 (g := mF F) hi).symm)
  have h9 := LIv_row (f := 18) (n := 12) h8 (by decide) (fun i hi => (rowS_8 (g := mF F) hi).symm)
  have h10 := LIv_row (f := 19) (n := 12) h9 (by decide) (fun i hi => (rowS_9 (g := mF F) hi).symm)
  have h11 := LIv_row (f := 20) (n := 12) h10 (by decide) (fun i hi => (rowS_10 (g := mF F) hi).symm)
  exact h11
theorem mU_of {F F' : Bl} {k : Nat} (h : LIv F k 77 F') : mU F' k 0 0 = mF F 0 0 ∧ mU F' k 1 0 = mF F 1 0 ∧ mU F' k 2 0 = mF F 2 0 ∧ (∀ i, i < 6 → mU F' k 3 i = mF F 3 i) ∧ (∀ i, i < 8 → mU F' k 4 i = mF F 4 i ∧ mU F' k 5 i = mF F 5 i ∧ mU F' k 6 i = mF F 6 i ∧ mU F' k 7 i = mF F 7 i) ∧ ∀ i, i < 12 → mU F' k 8 i = mF F 8 i ∧ mU F' k 9 i = mF F 9 i ∧ mU F' k 10 i = mF F 10 i := by
  have key : ∀ x, x < 77 → F'.2.1 24 (77 * k + x) = rowS (mF F) x := fun x hx => by rw [h.2, if_pos (by omega), Nat.add_sub_cancel_left]
  refine ⟨key 0 (by omega), key 1 (by omega), key 2 (by omega), fun i hi => ?_, fun i hi => ⟨?_, ?_, ?_, ?_⟩, fun i hi => ⟨?_, ?_, ?_⟩⟩
  · rw [← rowS_3 (g := mF F) hi, ← key _ (by omega)]; show F'.2.1 24 (77 * k + 3 + i) = _; rw [Nat.add_assoc]
  · rw [← rowS_4 (g := mF F) hi, ← key _ (by omega)]; show F'.2.1 24 (77 * k + 9 + i) = _; rw [Nat.add_assoc]
  · rw [← rowS_5 (g := mF F) hi, ← key _ (by omega)]; show F'.2.1 24 (77 * k + 17 + i) = _; rw [Nat.add_assoc]
  · rw [← rowS_6 (g := mF F) hi, ← key _ (by omega)]; show F'.2.1 24 (77 * k + 25 + i) = _; rw [Nat.add_assoc]
  · rw [← rowS_7 (g := mF F) hi, ← key _ (by omega)]; show F'.2.1 24 (77 * k + 33 + i) = _; rw [Nat.add_assoc]
  · rw [← rowS_8 (g := mF F) hi, ← key _ (by omega)]; show F'.2.1 24 (77 * k + 41 + i) = _; rw [Nat.add_assoc]
  · rw [← rowS_9 (g := mF F) hi, ← key _ (by omega)]; show F'.2.1 24 (77 * k + 53 + i) = _; rw [Nat.add_assoc]
  · rw [← rowS_10 (g := mF F) hi, ← key _ (by omega)]; show F'.2.1 24 (77 * k + 65 + i) = _; rw [Nat.add_assoc]
def tak (s : Bl) (f q n : Nat) : Bl := bS s f (va_cpy (s.2.1 24) (s.2.1 f) q 0 n)
def takF (F : Bl) (k : Nat) : Bl := tak (tak (tak (tak (tak (tak (tak (tak (bI (bI (bI F 6 (F.2.1 24 (77 * k))) 4 (F.2.1 24 (77 * k + 1))) 5 (F.2.1 24 (77 * k + 2))) 11 (77 * k + 3) 6) 12 (77 * k + 9) 8) 14 (77 * k + 17) 8) 16 (77 * k + 25) 8) 17 (77 * k + 33) 8) 18 (77 * k + 41) 12) 19 (77 * k + 53) 12) 20 (77 * k + 65) 12
theorem f1_takes_def {F : Bl} {k : Nat} (hk : k < 20) : f1_takes F (Int32.ofNat k) = some (takF F k) := by
  have m77 : (77 : Int32) * Int32.ofNat k = Int32.ofNat (77 * k) := (Int32.ofNat_mul 77 k).symm
  have p1 : Int32.ofNat (77 * k) + (1 : Int32) = Int32.ofNat (77 * k + 1) := (Int32.ofNat_add _ 1).symm
  have p2 : Int32.ofNat (77 * k) + (2 : Int32) = Int32.ofNat (77 * k + 2) := (Int32.ofNat_add _ 2).symm
  have p3 : Int32.ofNat (77 * k) + (3 : Int32) = Int32.ofNat (77 * k + 3) := (Int32.ofNat_add _ 3).symm
  have p9 : Int32.ofNat (77 * k) + (9 : Int32) = Int32.ofNat (77 * k + 9) := (Int32.ofNat_add _ 9).symm
  have p17 : Int32.ofNat (77 * k) + (17 : Int32) = Int32.ofNat (77 * k + 17) := (Int32.ofNat_add _ 17).symm
  have p25 : Int32.ofNat (77 * k) + (25 : Int32) = Int32.ofNat (77 * k + 25) := (Int32.ofNat_add _ 25).symm
  have p33 : Int32.ofNat (77 * k) + (33 : Int32) = Int32.ofNat (77 * k + 33) := (Int32.ofNat_add _ 33).symm
  have p41 : Int32.ofNat (77 * k) + (41 : Int32) = Int32.ofNat (77 * k + 41) := (Int32.ofNat_add _ 41).symm
  have p53 : Int32.ofNat (77 * k) + (53 : Int32) = Int32.ofNat (77 * k + 53) := (Int32.ofNat_add _ 53).symm
  have p65 : Int32.ofNat (77 * k) + (65 : Int32) = Int32.ofNat (77 * k + 65) := (Int32.ofNat_add _ 65).symm
  have i0 : inB (Int32.ofNat (77 * k)) 1540 = true := zI_in (by omega) (by decide)
  have i1 : inB (Int32.ofNat (77 * k + 1)) 1540 = true := zI_in (by omega) (by decide)
  have i2 : inB (Int32.ofNat (77 * k + 2)) 1540 = true := zI_in (by omega) (by decide)
  have n0 : (Int32.ofNat (77 * k)).toNatClampNeg = 77 * k := zI_nat (by omega)
  have n1 : (Int32.ofNat (77 * k + 1)).toNatClampNeg = 77 * k + 1 := zI_nat (by omega)
  have n2 : (Int32.ofNat (77 * k + 2)).toNatClampNeg = 77 * k + 2 := zI_nat (by omega)
  have n3 : (Int32.ofNat (77 * k + 3)).toNatClampNeg = 77 * k + 3 := zI_nat (by omega)
  have n9 : (Int32.ofNat (77 * k + 9)).toNatClampNeg = 77 * k + 9 := zI_nat (by omega)
  have n17 : (Int32.ofNat (77 * k + 17)).toNatClampNeg = 77 * k + 17 := zI_nat (by omega)
  have n25 : (Int32.ofNat (77 * k + 25)).toNatClampNeg = 77 * k + 25 := zI_nat (by omega)
  have n33 : (Int32.ofNat (77 * k + 33)).toNatClampNeg = 77 * k + 33 := zI_nat (by omega)
  have n41 : (Int32.ofNat (77 * k + 41)).toNatClampNeg = 77 * k + 41 := zI_nat (by omega)
  have n53 : (Int32.ofNat (77 * k + 53)).toNatClampNeg = 77 * k + 53 := zI_nat (by omega)
  have n65 : (Int32.ofNat (77 * k + 65)).toNatClampNeg = 77 * k + 65 := zI_nat (by omega)
  have c3 : cpB (Int32.ofNat (77 * k + 3)) (0 : Int32) (6 : Int32) 1540 6 = true := cpB_t (dp := 0) (n := 6) (by omega) (by omega) (by decide) (by decide)
  have c9 : cpB (Int32.ofNat (77 * k + 9)) (0 : Int32) (8 : Int32) 1540 8 = true := cpB_t (dp := 0) (n := 8) (by omega) (by omega) (by decide) (by decide)
  have c17 : cpB (Int32.ofNat (77 * k + 17)) (0 : Int32) (8 : Int32) 1540 8 = true := cpB_t (dp := 0) (n := 8) (by omega) (by omega) (by decide) (by decide)
  have c25 : cpB (Int32.ofNat (77 * k + 25)) (0 : Int32) (8 : Int32) 1540 8 = true := cpB_t (dp := 0) (n := 8) (by omega) (by omega) (by decide) (by decide)
  have c33 : cpB (Int32.ofNat (77 * k + 33)) (0 : Int32) (8 : Int32) 1540 8 = true := cpB_t (dp := 0) (n := 8) (by omega) (by omega) (by decide) (by decide)
  have c41 : cpB (Int32.ofNat (77 * k + 41)) (0 : Int32) (12 : Int32) 1540 12 = true := cpB_t (dp := 0) (n := 12) (by omega) (by omega) (by decide) (by decide)
  have c53 : cpB (Int32.ofNat (77 * k + 53)) (0 : Int32) (12 : Int32) 1540 12 = true := cpB_t (dp := 0) (n := 12) (by omega) (by omega) (by decide) (by decide)
  have c65 : cpB (Int32.ofNat (77 * k + 65)) (0 : Int32) (12 : Int32) 1540 12 = true := cpB_t (dp := 0) (n := 12) (by omega) (by omega) (by decide) (by decide)
  unfold f1_takes
  simp only [m77, p1, p2, p3, p9, p17, p25, p33, p41, p53, p65, i0, i1, i2, c3, c9, c17, c25, c33, c41, c53, c65, n0, n1, n2, n3, n9, n17, n25, n33, n41, n53, n65, chk_t, ltv_s]
  rfl
theorem cpy_at {f g : Nat → Int32} {q n i : Nat} (h : i < n) : va_cpy f g q 0 n i = f (q + i) := by simp [va_cpy, h]
theorem f1_takes_eq {F : Bl} {k : Nat} (hk : k < 20) : ∃ F' : Bl, f1_takes F (Int32.ofNat k) = some F' ∧ Ff [11, 12, 14, 16, 17, 18, 19, 20] [4, 5, 6] F F' ∧ mF F' 0 0 = mU F k 0 0 ∧ mF F' 1 0 = mU F k 1 0 ∧ mF F' 2 0 = mU F k 2 0 ∧ (∀ i, i < 6 → mF F' 3 i = mU F k 3 i) ∧ (∀ i, i < 8 → mF F' 4 i = mU F k 4 i ∧ mF F' 5 i = mU F k 5 i ∧ mF F' 6 i = mU F k 6 i ∧ mF F' 7 i = mU F k 7 i) ∧ ∀ i, i < 12 → mF F' 8 i = mU F k 8 i ∧ mF F' 9 i = mU F k 9 i ∧ mF F' 10 i = mU F k 10 i := by
  refine ⟨takF F k, f1_takes_def hk, ?_, rfl, rfl, rfl, fun i hi => ?_, fun i hi => ⟨?_, ?_, ?_, ?_⟩, fun i hi => ⟨?_, ?_, ?_⟩⟩
  · unfold takF tak
    exact ((((((((((Ff.bi.trans Ff.bi).trans Ff.bi).trans Ff.bs).trans Ff.bs).trans Ff.bs).trans Ff.bs).trans Ff.bs).trans Ff.bs).trans Ff.bs).trans Ff.bs).weak
  · show va_cpy (F.2.1 24) (F.2.1 11) (77 * k + 3) 0 6 i = _; rw [cpy_at hi]; rfl
  · show va_cpy (F.2.1 24) (F.2.1 12) (77 * k + 9) 0 8 i = _; rw [cpy_at hi]; rfl
  · show va_cpy (F.2.1 24) (F.2.1 14) (77 * k + 17) 0 8 i = _; rw [cpy_at hi]; rfl
  · show va_cpy (F.2.1 24) (F.2.1 16) (77 * k + 25) 0 8 i = _; rw [cpy_at hi]; rfl
  · show va_cpy (F.2.1 24) (F.2.1 17) (77 * k + 33) 0 8 i = _; rw [cpy_at hi]; rfl
  · show va_cpy (F.2.1 24) (F.2.1 18) (77 * k + 41) 0 12 i = _; rw [cpy_at hi]; rfl
  · show va_cpy (F.2.1 24) (F.2.1 19) (77 * k + 53) 0 12 i = _; rw [cpy_at hi]; rfl
  · show va_cpy (F.2.1 24) (F.2.1 20) (77 * k + 65) 0 12 i = _; rw [cpy_at hi]; rfl
def cpR (s t : Bl) (f n : Nat) : Bl := bS s f (va_cpy (t.2.1 f) (s.2.1 f) 0 0 n)
def stdF (s t : Bl) : Bl := cpR (cpR (cpR (cpR (cpR (cpR (cpR (cpR (bI (bI (bI s 6 (t.1 6)) 4 (t.1 4)) 5 (t.1 5)) t 11 6) t 12 8) t 14 8) t 16 8) t 17 8) t 18 12) t 19 12) t 20 12
def cpsF (s t : Bl) : Bl := stdF (cpR (cpR (cpR (cpR (cpR (cpR (cpR (cpR (bI (bI (bI (bI (bI (bI s 0 (t.1 0)) 1 (t.1 1)) 2 (t.1 2)) 3 (t.1 3)) 7 (t.1 7)) 8 (t.1 8)) t 9 6) t 10 6) t 13 8) t 15 8) t 21 6) t 22 6) t 23 18) t 24 1540) t
theorem f1_standsAs_def (s t : Bl) : f1_standsAs s t = some (stdF s t) := rfl
theorem f1_copies_def (s t : Bl) : f1_copies s t = some (cpsF s t) := rfl
theorem stdF_frame (s t : Bl) : Ff [11, 12, 14, 16, 17, 18, 19, 20] [4, 5, 6] s (stdF s t) := by
  unfold stdF cpR
  exact ((((((((((Ff.bi.trans Ff.bi).trans Ff.bi).trans Ff.bs).trans Ff.bs).trans Ff.bs).trans Ff.bs).trans Ff.bs).trans Ff.bs).trans Ff.bs).trans Ff.bs).weak
theorem stdF_eq (s t : Bl) : mF (stdF s t) 0 0 = mF t 0 0 ∧ mF (stdF s t) 1 0 = mF t 1 0 ∧ mF (stdF s t) 2 0 = mF t 2 0 ∧ (∀ i, i < 6 → mF (stdF s t) 3 i = mF t 3 i) ∧ (∀ i, i < 8 → mF (stdF s t) 4 i = mF t 4 i ∧ mF (stdF s t) 5 i = mF t 5 i ∧ mF (stdF s t) 6 i = mF t 6 i ∧ mF (stdF s t) 7 i = mF t 7 i) ∧ ∀ i, i < 12 → mF (stdF s t) 8 i = mF t 8 i ∧ mF (stdF s t) 9 i = mF t 9 i ∧ mF (stdF s t) 10 i = mF t 10 i := by
  refine ⟨rfl, rfl, rfl, fun i hi => ?_, fun i hi => ⟨?_, ?_, ?_, ?_⟩, fun i hi => ⟨?_, ?_, ?_⟩⟩
  · show va_cpy (t.2.1 11) (s.2.1 11) 0 0 6 i = _; rw [cpy_at hi, Nat.zero_add]; rfl
  · show va_cpy (t.2.1 12) (s.2.1 12) 0 0 8 i = _; rw [cpy_at hi, Nat.zero_add]; rfl
  · show va_cpy (t.2.1 14) (s.2.1 14) 0 0 8 i = _; rw [cpy_at hi, Nat.zero_add]; rfl
  · show va_cpy (t.2.1 16) (s.2.1 16) 0 0 8 i = _; rw [cpy_at hi, Nat.zero_add]; rfl
  · show va_cpy (t.2.1 17) (s.2.1 17) 0 0 8 i = _; rw [cpy_at hi, Nat.zero_add]; rfl
  · show va_cpy (t.2.1 18) (s.2.1 18) 0 0 12 i = _; rw [cpy_at hi, Nat.zero_add]; rfl
  · show va_cpy (t.2.1 19) (s.2.1 19) 0 0 12 i = _; rw [cpy_at hi, Nat.zero_add]; rfl
  · show va_cpy (t.2.1 20) (s.2.1 20) 0 0 12 i = _; rw [cpy_at hi, Nat.zero_add]; rfl
theorem cpsF_eq (s t : Bl) : (∀ f, f ∈ [0, 1, 2, 3, 4, 5, 6, 7, 8] → (cpsF s t).1 f = t.1 f) ∧ (∀ i, i < 6 → (cpsF s t).2.1 9 i = t.2.1 9 i ∧ (cpsF s t).2.1 10 i = t.2.1 10 i ∧ (cpsF s t).2.1 11 i = t.2.1 11 i ∧ (cpsF s t).2.1 21 i = t.2.1 21 i ∧ (cpsF s t).2.1 22 i = t.2.1 22 i) ∧ (∀ i, i < 8 → (cpsF s t).2.1 12 i = t.2.1 12 i ∧ (cpsF s t).2.1 13 i = t.2.1 13 i ∧ (cpsF s t).2.1 14 i = t.2.1 14 i ∧ (cpsF s t).2.1 15 i = t.2.1 15 i ∧ (cpsF s t).2.1 16 i = t.2.1 16 i ∧ (cpsF s t).2.1 17 i = t.2.1 17 i) ∧ (∀ i, i < 12 → (cpsF s t).2.1 18 i = t.2.1 18 i ∧ (cpsF s t).2.1 19 i = t.2.1 19 i ∧ (cpsF s t).2.1 20 i = t.2.1 20 i) ∧ (∀ i, i < 18 → (cpsF s t).2.1 23 i = t.2.1 23 i) ∧ ∀ i, i < 1540 → (cpsF s t).2.1 24 i = t.2.1 24 i := by
  refine ⟨fun f hf => ?_, fun i hi => ⟨?_, ?_, ?_, ?_, ?_⟩, fun i hi => ⟨?_, ?_, ?_, ?_, ?_, ?_⟩, fun i hi => ⟨?_, ?_, ?_⟩, fun i hi => ?_, fun i hi => ?_⟩
  · simp only [List.mem_cons, List.not_mem_nil, or_false] at hf
    rcases hf with rfl | rfl | rfl | rfl | rfl | rfl | rfl | rfl | rfl <;> rfl
  · show va_cpy (t.2.1 9) (s.2.1 9) 0 0 6 i = _; rw [cpy_at hi, Nat.zero_add]
  · show va_cpy (t.2.1 10) (s.2.1 10) 0 0 6 i = _; rw [cpy_at hi, Nat.zero_add]
  · show va_cpy (t.2.1 11) (s.2.1 11) 0 0 6 i = _; rw [cpy_at hi, Nat.zero_add]
  · show va_cpy (t.2.1 21) (s.2.1 21) 0 0 6 i = _; rw [cpy_at hi, Nat.zero_add]
  · show va_cpy (t.2.1 22) (s.2.1 22) 0 0 6 i = _; rw [cpy_at hi, Nat.zero_add]
  · show va_cpy (t.2.1 12) (s.2.1 12) 0 0 8 i = _; rw [cpy_at hi, Nat.zero_add]
  · show va_cpy (t.2.1 13) (s.2.1 13) 0 0 8 i = _; rw [cpy_at hi, Nat.zero_add]
  · show va_cpy (t.2.1 14) (s.2.1 14) 0 0 8 i = _; rw [cpy_at hi, Nat.zero_add]
  · show va_cpy (t.2.1 15) (s.2.1 15) 0 0 8 i = _; rw [cpy_at hi, Nat.zero_add]
  · show va_cpy (t.2.1 16) (s.2.1 16) 0 0 8 i = _; rw [cpy_at hi, Nat.zero_add]
  · show va_cpy (t.2.1 17) (s.2.1 17) 0 0 8 i = _; rw [cpy_at hi, Nat.zero_add]
  · show va_cpy (t.2.1 18) (s.2.1 18) 0 0 12 i = _; rw [cpy_at hi, Nat.zero_add]
  · show va_cpy (t.2.1 19) (s.2.1 19) 0 0 12 i = _; rw [cpy_at hi, Nat.zero_add]
  · show va_cpy (t.2.1 20) (s.2.1 20) 0 0 12 i = _; rw [cpy_at hi, Nat.zero_add]
  · show va_cpy (t.2.1 23) (s.2.1 23) 0 0 18 i = _; rw [cpy_at hi, Nat.zero_add]
  · show va_cpy (t.2.1 24) (s.2.1 24) 0 0 1540 i = _; rw [cpy_at hi, Nat.zero_add]

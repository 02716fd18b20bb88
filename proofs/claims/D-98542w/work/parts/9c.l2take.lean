/-! PLAIN LAW: what is taken along -/
set_option maxRecDepth 100000
theorem sum_in {n : Nat} {f : Nat → Int32} (hn : n ≤ 8) (hf : ∀ t, t < n → 0 ≤ (f t).toInt ∧ (f t).toInt ≤ 99) : 0 ≤ (sumI n f).toInt ∧ (sumI n f).toInt ≤ 800 := by
  have e : ∀ m, m ≤ n → 0 ≤ (sumI m f).toInt ∧ (sumI m f).toInt ≤ 99 * m := by
    intro m
    induction m with
    | zero => intro _; exact ⟨Int.le_refl _, by show (0 : Int) ≤ _; omega⟩
    | succ m ih =>
      intro hm
      have ih := ih (by omega)
      have h1 := hf m (by omega)
      simp only [sumI]
      rw [tI_add (by omega) (by omega)]; omega
  have := e _ (Nat.le_refl _); omega
def skd (b s m : Int32) : Int32 := if b - s * m ≤ 0 then 0 else b - s * m
theorem f3_soaked_eq {b s m : Int32} : f3_soaked b s m = some (skd b s m) := by
  unfold f3_soaked skd; split <;> rfl
theorem skd_f0 {b s m : Int32} : (if (0 : Int32) < b - m * s then b - m * s else 0) = skd b s m := by
  unfold skd
  rw [Int32.mul_comm m s]
  by_cases h : b - s * m ≤ 0
  · rw [if_pos h, if_neg (Int32.not_lt.mpr h)]
  · rw [if_neg h, if_pos (Int32.not_le.mp h)]
theorem skd_in {b s : Int32} {m : Nat} (hm : m ≤ 100) (hb : 0 ≤ b.toInt ∧ b.toInt ≤ 99) (hs : 0 ≤ s.toInt ∧ s.toInt ≤ 9) : 0 ≤ (skd b s (Int32.ofNat m)).toInt ∧ (skd b s (Int32.ofNat m)).toInt ≤ 99 := by
  have p1 : 0 ≤ s.toInt * (m : Int) := Int.mul_nonneg hs.1 (by omega)
  have p2 : s.toInt * (m : Int) ≤ 9 * 100 := Int.mul_le_mul hs.2 (by omega) (by omega) (by omega)
  have em : (s * Int32.ofNat m).toInt = s.toInt * m := by
    rw [tI_mul (by rw [zI_int (by omega)]; omega) (by rw [zI_int (by omega)]; omega), zI_int (by omega)]
  have es : (b - s * Int32.ofNat m).toInt = b.toInt - s.toInt * m := by
    rw [tI_sub (by rw [em]; omega) (by rw [em]; omega), em]
  unfold skd
  by_cases h : b - s * Int32.ofNat m ≤ 0
  · rw [if_pos h]; exact ⟨Int.le_refl _, by show (0 : Int) ≤ 99; omega⟩
  · rw [if_neg h]
    rw [Int32.le_iff_toInt_le, es] at h
    have h : ¬ b.toInt - s.toInt * m ≤ (0 : Int) := h
    rw [es]; omega
/-- what a set bears after m miles -/
def stB (a : Ar) (P m : Int32) : Int32 := sumI (cT a) (fun t => if bit P t = true then skd (a 7 t) (a 8 t) m else 0)
def offS (a : Ar) (m : Int32) : Option Nat → Int32
  | none => 0
  | some i => skd (a 17 i) (a 18 i) m
def offW (a : Ar) : Option Nat → Int32
  | none => 0
  | some i => a 16 i
noncomputable def failT (a : Ar) (P : Int32) (o : Option Nat) (m : Nat) : Bool := decide (offS a (Int32.ofNat m) o + stB a P (Int32.ofNat m) < (sWt a P + sRd a (sRp a) P) + offW a o)
def oJ : Option Nat → Int32
  | none => -1
  | some i => Int32.ofNat i
section T
variable {x : Nat → Bl} {M : Bl} {v v1 v2 v3 : Int32}
theorem f0_bearsThen_eq (hz : ¬ (x 0).1 0 = 0) (g : GR M.2.1) (hf : FR (x 1) M.2.1) {P m : Int32} : f0_bearsThen x P m = some (stB M.2.1 P m - sWt M.2.1 P) := by
  have h8 := g.1.2.1.2
  have hcf : decide (¬ (x 0).1 0 = 0) = true := decide_eq_true hz
  have e : stB M.2.1 P m - sWt M.2.1 P = sumI (cT M.2.1) (fun t => if bit P t = true then skd (M.2.1 7 t) (M.2.1 8 t) m - M.2.1 6 t else 0) := by
    unfold stB sWt
    rw [← sumI_sub]
    refine sumI_congr (fun k _ => ?_)
    cases bit P k <;> simp
  rw [e]
  unfold f0_bearsThen
  refine loop_seq (fun k => (sumI k (fun t => if bit P t = true then skd (M.2.1 7 t) (M.2.1 8 t) m - M.2.1 6 t else 0), Int32.ofNat k)) (cT M.2.1) (by omega) ?_ ?_
  · intro K k hk
    simp only [g0_bearsThen_5, hcf, chk_t]
    rw [hf.nT g.1, if_on hk (by omega), has_bit0 (by omega), bnd_s, if_bit]
    simp only [sumI]
    cases hb : bit P k with
    | false => rw [if_neg (by decide), if_neg (by decide), zI_succ]
    | true =>
      have hin : inB (Int32.ofNat k) 8 = true := zI_in (by omega) (by decide)
      have hkk : (Int32.ofNat k).toNatClampNeg = k := zI_nat (by omega)
      rw [if_pos rfl, if_pos rfl, hin, chk_t, chk_t, chk_t, ltv_s, hkk, hf.bears hk, hf.soak hk, hf.weight hk, skd_f0, zI_succ]
  · intro K
    simp only [g0_bearsThen_5, hcf, chk_t]
    rw [hf.nT g.1, if_off]
theorem take_bd (g : GR M.2.1) (hO : ∀ i, i < cF M.2.1 → (0 ≤ (M.2.1 16 i).toInt ∧ (M.2.1 16 i).toInt ≤ 50) ∧ (0 ≤ (M.2.1 17 i).toInt ∧ (M.2.1 17 i).toInt ≤ 99) ∧ (0 ≤ (M.2.1 18 i).toInt ∧ (M.2.1 18 i).toInt ≤ 9)) {P : Int32} {o : Option Nat} (ho : ∀ i, o = some i → i < cF M.2.1) {m : Nat} (hm : m ≤ 100) : (0 ≤ (stB M.2.1 P (Int32.ofNat m)).toInt ∧ (stB M.2.1 P (Int32.ofNat m)).toInt ≤ 800) ∧ (0 ≤ (sRd M.2.1 (sRp M.2.1) P).toInt ∧ (sRd M.2.1 (sRp M.2.1) P).toInt ≤ 800) ∧ (0 ≤ (offS M.2.1 (Int32.ofNat m) o).toInt ∧ (offS M.2.1 (Int32.ofNat m) o).toInt ≤ 99) ∧ (0 ≤ (offW M.2.1 o).toInt ∧ (offW M.2.1 o).toInt ≤ 50) := by
  have z : 0 ≤ (0 : Int32).toInt ∧ (0 : Int32).toInt ≤ 50 := ⟨Int.le_refl _, by show (0 : Int) ≤ 50; omega⟩
  have h6 := g.1.1.2
  refine ⟨sum_in g.1.2.1.2 (fun t ht => ?_), sum_in (by omega) (fun q hq => ?_), ?_, ?_⟩
  · have hgt := g.2.2.1 t ht
    by_cases c : bit P t = true
    · rw [if_pos c]; exact skd_in hm hgt.2.1 hgt.2.2.1
    · rw [if_neg c]; exact ⟨z.1, by omega⟩
  · have hgq := (g.2.2.2.1 q hq).1
    by_cases c : rin M.2.1 (sRp M.2.1) P q = true
    · rw [if_pos c]; exact ⟨hgq.1, by omega⟩
    · rw [if_neg c]; exact ⟨z.1, by omega⟩
  · cases o with
    | none => exact ⟨z.1, by have := z.2; show (0 : Int32).toInt ≤ 99; omega⟩
    | some i => have := hO i (ho i rfl); exact skd_in hm this.2.1 this.2.2
  · cases o with
    | none => exact z
    | some i => exact (hO i (ho i rfl)).1
theorem f0_staysWith_eq (hz : ¬ (x 0).1 0 = 0) (g : GR M.2.1) (hf : FR (x 1) M.2.1) (hO : FO (x 1) M.2.1) {P : Int32} {o : Option Nat} (ho : ∀ i, o = some i → i < cF M.2.1) : f0_staysWith x P (sRd M.2.1 (sRp M.2.1) P) (oJ o) = some (Int32.ofNat (fsN (failT M.2.1 P o) 100)) := by
  have hcf : decide (¬ (x 0).1 0 = 0) = true := decide_eq_true hz
  have hs := fsN_spec (failT M.2.1 P o) 100
  have hl := fsN_le (failT M.2.1 P o) 100
  have hF6 := g.1.2.2.2.2.2
  have body : ∀ (K : Int32 → Option Int32) (m : Nat), m < 100 → g0_staysWith_3 x P (sRd M.2.1 (sRp M.2.1) P) (oJ o) K (Int32.ofNat m) = if failT M.2.1 P o m = true then some (Int32.ofNat m) else K (Int32.ofNat (m + 1)) := by
    intro K m hm
    have e100 : (100 : Int32) = Int32.ofNat 100 := rfl
    simp only [g0_staysWith_3]
    rw [e100, if_on hm (by omega), f0_bearsThen_eq hz g hf, bnd_s, zI_succ]
    obtain ⟨b1, b2, b3, b4⟩ := take_bd g (fun i hi => (hO.2 i hi).2) (P := P) ho (show m ≤ 100 by omega)
    obtain ⟨-, w1, w2⟩ := sums_bd g P
    have d1 : (stB M.2.1 P (Int32.ofNat m) - sWt M.2.1 P).toInt = (stB M.2.1 P (Int32.ofNat m)).toInt - (sWt M.2.1 P).toInt := tI_sub (by omega) (by omega)
    have d2 : (stB M.2.1 P (Int32.ofNat m) - sWt M.2.1 P - sRd M.2.1 (sRp M.2.1) P).toInt = (stB M.2.1 P (Int32.ofNat m)).toInt - (sWt M.2.1 P).toInt - (sRd M.2.1 (sRp M.2.1) P).toInt := by rw [tI_sub (by omega) (by omega), d1]
    have d3 : (offS M.2.1 (Int32.ofNat m) o - offW M.2.1 o).toInt = (offS M.2.1 (Int32.ofNat m) o).toInt - (offW M.2.1 o).toInt := tI_sub (by omega) (by omega)
    have d4 : (stB M.2.1 P (Int32.ofNat m) - sWt M.2.1 P - sRd M.2.1 (sRp M.2.1) P + (offS M.2.1 (Int32.ofNat m) o - offW M.2.1 o)).toInt = (stB M.2.1 P (Int32.ofNat m)).toInt - (sWt M.2.1 P).toInt - (sRd M.2.1 (sRp M.2.1) P).toInt + ((offS M.2.1 (Int32.ofNat m) o).toInt - (offW M.2.1 o).toInt) := by rw [tI_add (by omega) (by omega), d2, d3]
    have d5 : (offS M.2.1 (Int32.ofNat m) o + stB M.2.1 P (Int32.ofNat m)).toInt = (offS M.2.1 (Int32.ofNat m) o).toInt + (stB M.2.1 P (Int32.ofNat m)).toInt := tI_add (by omega) (by omega)
    have d6 : (sWt M.2.1 P + sRd M.2.1 (sRp M.2.1) P).toInt = (sWt M.2.1 P).toInt + (sRd M.2.1 (sRp M.2.1) P).toInt := tI_add (by omega) (by omega)
    have d7 : (sWt M.2.1 P + sRd M.2.1 (sRp M.2.1) P + offW M.2.1 o).toInt = (sWt M.2.1 P).toInt + (sRd M.2.1 (sRp M.2.1) P).toInt + (offW M.2.1 o).toInt := by rw [tI_add (by omega) (by omega), d6]
    have hcond : (0 ≤ stB M.2.1 P (Int32.ofNat m) - sWt M.2.1 P - sRd M.2.1 (sRp M.2.1) P + (offS M.2.1 (Int32.ofNat m) o - offW M.2.1 o)) ↔ ¬ offS M.2.1 (Int32.ofNat m) o + stB M.2.1 P (Int32.ofNat m) < (sWt M.2.1 P + sRd M.2.1 (sRp M.2.1) P) + offW M.2.1 o := by
      rw [Int32.le_iff_toInt_le, Int32.lt_iff_toInt_lt, d4, d5, d7]
      show (0 : Int) ≤ _ ↔ _
      omega
    have hfin : (if 0 ≤ stB M.2.1 P (Int32.ofNat m) - sWt M.2.1 P - sRd M.2.1 (sRp M.2.1) P + (offS M.2.1 (Int32.ofNat m) o - offW M.2.1 o) then K (Int32.ofNat (m + 1)) else some (Int32.ofNat m)) = if failT M.2.1 P o m = true then some (Int32.ofNat m) else K (Int32.ofNat (m + 1)) := by
      unfold failT
      by_cases hc : offS M.2.1 (Int32.ofNat m) o + stB M.2.1 P (Int32.ofNat m) < (sWt M.2.1 P + sRd M.2.1 (sRp M.2.1) P) + offW M.2.1 o
      · rw [if_neg (fun z => hcond.mp z hc), if_pos (decide_eq_true hc)]
      · rw [if_pos (hcond.mpr hc), if_neg (by simpa using hc)]
    rw [← hfin]
    cases o with
    | none =>
      rw [show oJ none = -1 from rfl, if_pos rfl]
      have e0 : offS M.2.1 (Int32.ofNat m) none - offW M.2.1 none = 0 := (by decide : (0 : Int32) - 0 = 0)
      rw [e0, Int32.add_zero]
    | some i =>
      have hi := ho i rfl
      have e3 : (3 : Int32) * Int32.ofNat i = Int32.ofNat (3 * i) := (Int32.ofNat_mul 3 i).symm
      have e32 : Int32.ofNat (3 * i) + (2 : Int32) = Int32.ofNat (3 * i + 2) := (Int32.ofNat_add (3 * i) 2).symm
      have i0 : inB (Int32.ofNat (3 * i)) 18 = true := zI_in (by omega) (by decide)
      have i1 : inB (Int32.ofNat (3 * i + 1)) 18 = true := zI_in (by omega) (by decide)
      have i2 : inB (Int32.ofNat (3 * i + 2)) 18 = true := zI_in (by omega) (by decide)
      have n0 : (Int32.ofNat (3 * i)).toNatClampNeg = 3 * i := zI_nat (by omega)
      have n1 : (Int32.ofNat (3 * i + 1)).toNatClampNeg = 3 * i + 1 := zI_nat (by omega)
      have n2 : (Int32.ofNat (3 * i + 2)).toNatClampNeg = 3 * i + 2 := zI_nat (by omega)
      obtain ⟨q1, q2, q3⟩ := (hO.2 i hi).1
      have hne : ¬ oJ (some i) = -1 := fun z => by
        have := congrArg Int32.toInt z
        rw [show oJ (some i) = Int32.ofNat i from rfl, zI_int (by omega)] at this
        have e : Int32.toInt (-1) = -1 := rfl
        omega
      rw [if_neg hne, show oJ (some i) = Int32.ofNat i from rfl]
      simp only [e3, e32, zI_succ, i0, i1, i2, n0, n1, n2, hcf, chk_t, ltv_s, q1, q2, q3, skd_f0]
      rfl
  unfold f0_staysWith
  refine loop_seq (fun m => Int32.ofNat m) (fsN (failT M.2.1 P o) 100) (by omega) ?_ ?_
  · intro K m hm
    rw [body K m (by omega), hs.1 m hm, if_neg (by decide)]
  · intro K
    by_cases hc : fsN (failT M.2.1 P o) 100 < 100
    · rw [body K _ hc, hs.2 hc, if_pos rfl]
    · rw [show fsN (failT M.2.1 P o) 100 = 100 by omega]
      simp only [g0_staysWith_3]
      rw [show (100 : Int32) = Int32.ofNat 100 from rfl, if_off]
theorem f3_milesWith_eq (g : GR M.2.1) {u : Nat} (hu : u < cT M.2.1) {o : Option Nat} (ho : ∀ i, o = some i → i < 6) : f3_milesWith M (pc M.2.1 (sRp M.2.1) u) (oJ o) = some (Int32.ofNat (fsN (failT M.2.1 (pc M.2.1 (sRp M.2.1) u) o) 100)) := by
  obtain ⟨hT, h8⟩ := g.1.2.1
  generalize hP : pc M.2.1 (sRp M.2.1) u = P
  have hs := fsN_spec (failT M.2.1 P o) 100
  have hl := fsN_le (failT M.2.1 P o) 100
  have inner : ∀ (K : Int32 × Int32 → Option Int32) (m : Nat) (z : Int32), z = offS M.2.1 (Int32.ofNat m) o → loop (g3_milesWith_81 M P (oJ o) ((sWt M.2.1 P + sRd M.2.1 (sRp M.2.1) P) + offW M.2.1 o) (Int32.ofNat m) K) FU (z, (0 : Int32)) = if failT M.2.1 P o m = true then K (Int32.ofNat m, 0) else K (Int32.ofNat (m + 1), 1) := by
    intro K m z hzz
    refine Eq.trans ?_ (loop_seq (body := g3_milesWith_81 M P (oJ o) ((sWt M.2.1 P + sRd M.2.1 (sRp M.2.1) P) + offW M.2.1 o) (Int32.ofNat m) K) (fun k => (z + sumI k (fun t => if bit P t = true then skd (M.2.1 7 t) (M.2.1 8 t) (Int32.ofNat m) else 0), Int32.ofNat k)) (cT M.2.1) (by omega) ?_ ?_)
    · (try dsimp only); rw [show sumI 0 (fun t => if bit P t = true then skd (M.2.1 7 t) (M.2.1 8 t) (Int32.ofNat m) else 0) = 0 from rfl, Int32.add_zero]; rfl
    · intro K2 k hk
      simp only [g3_milesWith_81]
      rw [hT, if_on hk (by omega), has_bit (by omega), bnd_s, if_bit, zI_succ]
      simp only [sumI]
      cases hb : bit P k with
      | false => rw [if_neg (by decide), if_neg (by decide), Int32.add_zero, Int32.add_zero]
      | true => rw [if_pos rfl, if_pos rfl, chk_h (zI_in (by omega) (by decide)), chk_h (zI_in (by omega) (by decide)), zI_nat (by omega), f3_soaked_eq, bnd_s, Int32.add_assoc]
    · intro K2
      simp only [g3_milesWith_81]
      rw [hT, if_off]
      unfold failT g3_milesWith_146
      rw [hzz]
      show (if offS M.2.1 (Int32.ofNat m) o + stB M.2.1 P (Int32.ofNat m) < _ then _ else _) = _
      by_cases hc : offS M.2.1 (Int32.ofNat m) o + stB M.2.1 P (Int32.ofNat m) < (sWt M.2.1 P + sRd M.2.1 (sRp M.2.1) P) + offW M.2.1 o
      · rw [if_pos hc, if_pos rfl, if_pos (decide_eq_true hc), Int32.add_zero]
      · rw [if_neg hc, if_neg (show ¬ (1 : Int32) = 0 by decide), if_neg (by simpa using hc), zI_succ]
  have body : ∀ (K : Int32 × Int32 → Option Int32) (m : Nat), m < 100 → g3_milesWith_38 M P (oJ o) ((sWt M.2.1 P + sRd M.2.1 (sRp M.2.1) P) + offW M.2.1 o) K (Int32.ofNat m, 1) = if failT M.2.1 P o m = true then K (Int32.ofNat m, 0) else K (Int32.ofNat (m + 1), 1) := by
    intro K m hm
    simp only [g3_milesWith_38]
    rw [show (100 : Int32) = Int32.ofNat 100 from rfl, if_on hm (by omega), if_neg (show ¬ (1 : Int32) = 0 by decide)]
    cases o with
    | none => rw [if_pos (show oJ none = -1 from rfl)]; exact inner K m 0 rfl
    | some i =>
      have hi := ho i rfl
      have hne : ¬ oJ (some i) = -1 := fun z => by
        have := congrArg Int32.toInt z
        rw [show oJ (some i) = Int32.ofNat i from rfl, zI_int (by omega)] at this
        have e : Int32.toInt (-1) = -1 := rfl
        omega
      have hin : inB (oJ (some i)) 6 = true := zI_in hi (by decide)
      have hkk : (oJ (some i)).toNatClampNeg = i := zI_nat (by omega)
      rw [if_neg hne, hin, chk_t, chk_t, hkk, f3_soaked_eq, bnd_s]
      exact inner K m _ rfl
  have top : loop (g3_milesWith_38 M P (oJ o) ((sWt M.2.1 P + sRd M.2.1 (sRp M.2.1) P) + offW M.2.1 o)) FU ((0 : Int32), (1 : Int32)) = some (Int32.ofNat (fsN (failT M.2.1 P o) 100)) := by
    by_cases hc : fsN (failT M.2.1 P o) 100 < 100
    · refine loop_seq (body := g3_milesWith_38 M P (oJ o) ((sWt M.2.1 P + sRd M.2.1 (sRp M.2.1) P) + offW M.2.1 o)) (fun j => if j ≤ fsN (failT M.2.1 P o) 100 then (Int32.ofNat j, (1 : Int32)) else (Int32.ofNat (fsN (failT M.2.1 P o) 100), (0 : Int32))) (fsN (failT M.2.1 P o) 100 + 1) (by omega) ?_ ?_
      · intro K j hj
        rw [if_pos (show j ≤ fsN (failT M.2.1 P o) 100 by omega), body K j (by omega)]
        by_cases e : j = fsN (failT M.2.1 P o) 100
        · rw [if_neg (show ¬ j + 1 ≤ fsN (failT M.2.1 P o) 100 by omega)]
          have : failT M.2.1 P o j = true := by rw [e]; exact hs.2 hc
          rw [if_pos this, ← e]
        · rw [if_pos (show j + 1 ≤ fsN (failT M.2.1 P o) 100 by omega), hs.1 j (by omega), if_neg (by decide)]
      · intro K
        rw [if_neg (show ¬ fsN (failT M.2.1 P o) 100 + 1 ≤ fsN (failT M.2.1 P o) 100 by omega)]
        simp only [g3_milesWith_38]
        rw [show (100 : Int32) = Int32.ofNat 100 from rfl, if_on hc (by omega), if_true]
    · refine loop_seq (body := g3_milesWith_38 M P (oJ o) ((sWt M.2.1 P + sRd M.2.1 (sRp M.2.1) P) + offW M.2.1 o)) (fun j => (Int32.ofNat j, (1 : Int32))) 100 (by omega) ?_ ?_
      · intro K j hj
        rw [body K j (by omega), hs.1 j (by omega), if_neg (by decide)]
      · intro K
        simp only [g3_milesWith_38]
        rw [show (100 : Int32) = Int32.ofNat 100 from rfl, if_off, show fsN (failT M.2.1 P o) 100 = 100 by omega]
  unfold f3_milesWith
  rw [f3_weightOf_eq g.1, bnd_s, f3_allRopes_eq g.1, bnd_s, ← hP, f3_ridersOf_eq g.1 g.2.1 hu, hP, bnd_s]
  cases o with
  | none => rw [if_pos (show oJ none = -1 from rfl)]; exact top
  | some i =>
    have hi := ho i rfl
    have hne : ¬ oJ (some i) = -1 := fun z => by
      have := congrArg Int32.toInt z
      rw [show oJ (some i) = Int32.ofNat i from rfl, zI_int (by omega)] at this
      have e : Int32.toInt (-1) = -1 := rfl
      omega
    have hin : inB (oJ (some i)) 6 = true := zI_in hi (by decide)
    have hkk : (oJ (some i)).toNatClampNeg = i := zI_nat (by omega)
    rw [if_neg hne, hin, chk_t, hkk]; exact top
theorem take_sim (h : RL x M) : ∃ r x', f0_take x v1 v2 = some (r, x') ∧ f3_take M v1 v2 = some r ∧ RL x' M ∧ Kx x x' := by
  have hV := h.1
  unfold f0_take f3_take
  rw [f0_isAfloat_eq hV, f3_isAfloat_eq hV.gc]
  simp only [bnd_s, if_bit]
  cases hk : isAf M.2.1 v1 with
  | false => exact ⟨_, x, rfl, rfl, h, Kx.refl⟩
  | true =>
    obtain ⟨hz, hv⟩ := hV.of_K (Or.inl rfl) (isAf_K hk)
    have hcf : decide (¬ (x 0).1 0 = 0) = true := decide_eq_true hz
    have h8 := hv.2.1.1.2.1.2
    obtain ⟨i, hi, rfl⟩ := (isK_iff (by omega)).mp (isAf_K hk)
    have hkk : (Int32.ofNat i).toNatClampNeg = i := zI_nat (by omega)
    have hin : inB (Int32.ofNat i) 8 = true := zI_in (by omega) (by decide)
    have h9 : M.2.1 9 i = 0 := by
      unfold isAf at hk; rw [Bool.and_eq_true, hkk] at hk; exact of_decide_eq_true hk.2
    simp only [if_true]
    have e0 := f0_in32 v2 0 1
    have e3 := f3_in32 v2 0 1
    change f0_in v2.toInt64 (0 : Int64) (1 : Int64) = _ at e0
    change f3_in v2.toInt64 (0 : Int64) (1 : Int64) = _ at e3
    rw [e0, e3, bnd_s, bnd_s, if_bit, if_bit]
    cases hc : (decide (0 ≤ v2) && decide (v2 ≤ 1)) with
    | false => exact ⟨_, x, rfl, rfl, h, Kx.refl⟩
    | true =>
      simp only [if_true]
      rw [Bool.and_eq_true, decide_eq_true_eq, decide_eq_true_eq] at hc
      obtain ⟨n2, rfl, hn2, -⟩ := nn_le hc.1 hc.2
      have z1 : (1 : Int32).toInt = 1 := rfl
      obtain ⟨hF, hF6⟩ := hv.2.1.1.2.2.2.2
      have hp := PA_parts (F := x 1) (a := M.2.1) (rp := sRp M.2.1) i hi
      rw [if_pos h9] at hp
      simp only [hcf, chk_t]
      rw [f1_allRopes_eq hv.2.1.1 hv.1, bnd_s, f1_parts_eq hv.2.1.1 hv.2.1.2.1.1 hv.1, bnd_s, f3_pieceOf_eq hv.2.1 (by omega), bnd_s]
      have kx : Kx x (upX x 1 (bS (x 1) 28 (paV (x 1) M.2.1 (sRp M.2.1) (cT M.2.1)))) := Kx.up1
      have hRL : RL (upX x 1 (bS (x 1) 28 (paV (x 1) M.2.1 (sRp M.2.1) (cT M.2.1)))) M := h.part
      have y1 : (upX x 1 (bS (x 1) 28 (paV (x 1) M.2.1 (sRp M.2.1) (cT M.2.1)))) 1 = bS (x 1) 28 (paV (x 1) M.2.1 (sRp M.2.1) (cT M.2.1)) := upX_self _ _ _
      have hzy : ¬ ((upX x 1 (bS (x 1) 28 (paV (x 1) M.2.1 (sRp M.2.1) (cT M.2.1)))) 0).1 0 = 0 := by rw [upX_10]; exact hz
      have hvy : RVa ((upX x 1 (bS (x 1) 28 (paV (x 1) M.2.1 (sRp M.2.1) (cT M.2.1)))) 1) M.2.1 (M.1 55) := by rw [y1]; exact hv.part
      have hpy : PA ((upX x 1 (bS (x 1) 28 (paV (x 1) M.2.1 (sRp M.2.1) (cT M.2.1)))) 1) M.2.1 (sRp M.2.1) := by rw [y1]; exact PA_parts
      rw [← y1] at hp
      generalize upX x 1 (bS (x 1) 28 (paV (x 1) M.2.1 (sRp M.2.1) (cT M.2.1))) = y at kx hRL hzy hvy hpy hp ⊢
      have hcfy : decide (¬ (y 0).1 0 = 0) = true := decide_eq_true hzy
      simp only [hcfy, hin, hkk, chk_t, hp]
      rw [f1_ridersOf_eq hvy.2.1.1 hvy.2.1.2.1 hvy.1 hpy, bnd_s]
      have es := f0_staysWith_eq hzy hvy.2.1 hvy.1 hvy.2.2.1 (P := pc M.2.1 (sRp M.2.1) i) (o := none) (fun i h => by cases h)
      have em := f3_milesWith_eq hv.2.1 hi (o := none) (fun i h => by cases h)
      change f0_staysWith _ _ _ (-1) = _ at es
      change f3_milesWith _ _ (-1) = _ at em
      rw [es, em, bnd_s, bnd_s]
      have key : Bo (fun (a : Int32 × (Nat → Bl)) b => a.1 = b ∧ a.2 = y) (loop (g0_take_70 y (Int32.ofNat n2) (pc M.2.1 (sRp M.2.1) i) (sRd M.2.1 (sRp M.2.1) (pc M.2.1 (sRp M.2.1) i))) FU ((-1 : Int32), Int32.ofNat (fsN (failT M.2.1 (pc M.2.1 (sRp M.2.1) i) none) 100), (0 : Int32))) (loop (g3_take_41 M (Int32.ofNat n2) (pc M.2.1 (sRp M.2.1) i)) FU ((-2 : Int32), Int32.ofNat (fsN (failT M.2.1 (pc M.2.1 (sRp M.2.1) i) none) 100), (0 : Int32))) := by
        refine loop_sim (fun a b => ∃ k, k ≤ cF M.2.1 ∧ a.2.2 = Int32.ofNat k ∧ b.2.2 = Int32.ofNat k ∧ a.2.1 = b.2.1 ∧ ((a.1 = -1 ∧ b.1 = -2) ∨ (a.1 = b.1 ∧ ¬ a.1 = -1))) (fun b => 7 - b.2.2.toNatClampNeg) _ ?_ ⟨0, by omega, rfl, rfl, rfl, Or.inl ⟨rfl, rfl⟩⟩ (by show 7 - _ < _; omega)
        rintro K1 K2 ⟨b, w, t⟩ ⟨b', w', t'⟩ ⟨k, hkc, et, et', ew, hb⟩ hK
        dsimp only at et et' ew hb
        subst et et' ew
        have hF8 : (y 1).1 8 = Int32.ofNat (cF M.2.1) := hvy.2.2.1.1.trans hF
        simp only [g0_take_70, g3_take_41]
        rw [hcfy, chk_t, hF8, hF, zif_le (by omega) (by omega), zif_le (by omega) (by omega)]
        by_cases hend : cF M.2.1 ≤ k
        · rw [if_pos hend, if_pos hend]
          rcases (show n2 = 0 ∨ n2 = 1 by omega) with rfl | rfl
          · rw [if_neg (show ¬ Int32.ofNat 0 = 1 by decide), if_pos (show Int32.ofNat 0 = 0 from rfl)]
            rcases hb with ⟨rfl, rfl⟩ | ⟨rfl, hb⟩
            · rw [if_pos rfl]; exact Bo.some ⟨rfl, rfl⟩
            · rw [if_neg hb]; exact Bo.some ⟨rfl, rfl⟩
          · rw [if_pos (show Int32.ofNat 1 = 1 from rfl), if_neg (show ¬ Int32.ofNat 1 = 0 by decide)]
            exact Bo.some ⟨rfl, rfl⟩
        · rw [if_neg hend, if_neg hend]
          have es := f0_staysWith_eq hzy hvy.2.1 hvy.1 hvy.2.2.1 (P := pc M.2.1 (sRp M.2.1) i) (o := some k) (fun j h => by cases h; omega)
          have em := f3_milesWith_eq hv.2.1 hi (o := some k) (fun j h => by cases h; omega)
          change f0_staysWith _ _ _ (Int32.ofNat k) = _ at es
          change f3_milesWith _ _ (Int32.ofNat k) = _ at em
          rw [es, em, bnd_s, bnd_s, zI_succ]
          have hms : 7 - (Int32.ofNat (k + 1)).toNatClampNeg < 7 - (Int32.ofNat k).toNatClampNeg := by
            rw [zI_nat (by omega), zI_nat (by omega)]; omega
          have hne : ¬ Int32.ofNat k = -1 := fun z => by
            have := congrArg Int32.toInt z
            rw [zI_int (by omega)] at this
            have e : Int32.toInt (-1) = -1 := rfl
            omega
          by_cases hq : w < Int32.ofNat (fsN (failT M.2.1 (pc M.2.1 (sRp M.2.1) i) (some k)) 100)
          · rw [if_pos hq, if_neg (Int32.not_le.mpr hq)]
            exact hK _ _ ⟨k + 1, by omega, rfl, rfl, rfl, Or.inr ⟨rfl, hne⟩⟩ hms
          · rw [if_neg hq, if_pos (Int32.not_lt.mp hq)]
            exact hK _ _ ⟨k + 1, by omega, rfl, rfl, rfl, hb⟩ hms
      obtain ⟨⟨r, y'⟩, b, q1, q2, q3, q4⟩ := key
      dsimp only at q3 q4
      subst q3 q4
      exact ⟨r, y', q1, q2, hRL, kx⟩
end T

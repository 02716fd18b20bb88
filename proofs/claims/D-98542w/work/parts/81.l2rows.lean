/-! PLAIN LAW: rows are moved, rows are carried -/
set_option maxRecDepth 100000
theorem bI_v {s : Bl} {f : Nat} {v : Int32} : (bI s f v).1 f = v := by simp [bI]
theorem bA_self (s : Bl) (f i : Nat) : bA s f i (s.2.1 f i) = s := by
  have : upd (s.2.1 f) i (s.2.1 f i) = s.2.1 f := by
    funext j; simp only [upd]; by_cases e : j = i
    · subst e; simp
    · simp [e]
  rw [bA, this, bS_self]
theorem bA_id {s : Bl} {f i : Nat} {v : Int32} (h : s.2.1 f i = v) : bA s f i v = s := by rw [← h]; exact bA_self s f i
section MV
variable {s : Bl} {p k1 n1 : Nat} {v : Int32}
theorem f3_moves_lay (h57 : s.1 57 = 0) (h56 : s.1 56 = Int32.ofNat p) (hp : p < 1540) : f3_moves s v = some (v, bI (bA s 53 p v) 56 (Int32.ofNat (p + 1))) := by
  unfold f3_moves g3_moves_20
  have e : (bA s 53 p v).1 56 = Int32.ofNat p := h56
  rw [if_pos h57, h56, chk_h (zI_in hp (by decide)), zI_nat (by omega), e, zI_succ]
theorem f3_moves_take (h57 : s.1 57 = 1) (h56 : s.1 56 = Int32.ofNat p) (hp : p < 1540) : f3_moves s v = some (s.2.1 53 p, bI s 56 (Int32.ofNat (p + 1))) := by
  unfold f3_moves g3_moves_20
  rw [if_neg (by rw [h57]; decide), h56, chk_h (zI_in hp (by decide)), chk_h (zI_in hp (by decide)), zI_nat (by omega), bA_self, h56, zI_succ]
theorem f3_movesRow_lay (hk : k1 ≠ 53) (h57 : s.1 57 = 0) (h56 : s.1 56 = Int32.ofNat p) (hp : p + n1 ≤ 1540) : ∃ s' : Bl, f3_movesRow s k1 n1 = some s' ∧ Ff [53] [56] s s' ∧ s'.1 56 = Int32.ofNat (p + n1) ∧ ∀ j, s'.2.1 53 j = if p ≤ j ∧ j < p + n1 then s.2.1 k1 (j - p) else s.2.1 53 j := by
  unfold f3_movesRow
  obtain ⟨s9, ⟨k, hk9, e1, i1, i2, i3⟩, hx, hG⟩ := loop_out (body := g3_movesRow_2 k1 n1)
    (fun t => ∃ k, k ≤ n1 ∧ t.2 = Int32.ofNat k ∧ Ff [53] [56] s t.1 ∧ t.1.1 56 = Int32.ofNat (p + k) ∧ ∀ j, t.1.2.1 53 j = if p ≤ j ∧ j < p + k then s.2.1 k1 (j - p) else s.2.1 53 j)
    (fun t => n1 - t.2.toNatClampNeg) (fun t => t.2 = Int32.ofNat n1) (fun t => some t.1) (by
      rintro ⟨t, w⟩ ⟨k, hk9, e1, i1, i2, i3⟩
      dsimp only at e1 i1 i2 i3
      subst e1
      by_cases hkn : k = n1
      · subst hkn
        refine Or.inl ⟨rfl, fun K => ?_⟩
        simp only [g3_movesRow_2]
        rw [if_off]
      · right
        have ek : t.2.1 k1 k = s.2.1 k1 k := congrFun (i1.arr k1 (by simpa using hk)) k
        refine ⟨(bI (bA t 53 (p + k) (s.2.1 k1 k)) 56 (Int32.ofNat (p + k + 1)), Int32.ofNat (k + 1)), ⟨k + 1, by omega, rfl, ((i1.trans Ff.ba).trans Ff.bi).weak, bI_v, fun j => ?_⟩, ?_, fun K => ?_⟩
        · have e9 : (bI (bA t 53 (p + k) (s.2.1 k1 k)) 56 (Int32.ofNat (p + k + 1))).2.1 53 j = if j = p + k then s.2.1 k1 k else t.2.1 53 j := by simp [bI, bA, bS, upd]
          show (bI (bA t 53 (p + k) (s.2.1 k1 k)) 56 (Int32.ofNat (p + k + 1))).2.1 53 j = _
          rw [e9, i3 j]
          by_cases e : j = p + k
          · rw [if_pos e, if_pos (by omega), e, Nat.add_sub_cancel_left]
          · rw [if_neg e]
            by_cases c : p ≤ j ∧ j < p + k
            · rw [if_pos c, if_pos (by omega)]
            · rw [if_neg c, if_neg (by omega)]
        · show n1 - (Int32.ofNat (k + 1)).toNatClampNeg < n1 - (Int32.ofNat k).toNatClampNeg
          rw [zI_nat (by omega), zI_nat (by omega)]; omega
        · simp only [g3_movesRow_2]
          have h57' : t.1 57 = 0 := by rw [i1.fld 57]; exact h57
          rw [if_on (by omega) (by omega), chk_h (zI_in (by omega) (by omega)), zI_nat (by omega), ek, f3_moves_lay h57' i2 (by omega), bnd2_s, chk_h (zI_in (by omega) (by omega)), zI_succ]
          have e8 : (bI (bA t 53 (p + k) (s.2.1 k1 k)) 56 (Int32.ofNat (p + k + 1))).2.1 k1 k = s.2.1 k1 k := by
            rw [← ek]; simp [bI, bA, bS, hk]
          rw [bA_id e8])
    (s := (s, (0 : Int32))) ⟨0, by omega, rfl, (Ff.refl (F := s)).weak, h56, fun j => by rw [if_neg (by omega)]⟩ (by omega)
  have ek : k = n1 := by rw [e1] at hx; exact (zI_inj (by omega) (by omega)).mp hx
  subst ek
  exact ⟨s9.1, hG, i1, i2, i3⟩
theorem f3_movesRow_take (hk : k1 ≠ 53) (h57 : s.1 57 = 1) (h56 : s.1 56 = Int32.ofNat p) (hp : p + n1 ≤ 1540) : ∃ s' : Bl, f3_movesRow s k1 n1 = some s' ∧ Ff [k1] [56] s s' ∧ s'.1 56 = Int32.ofNat (p + n1) ∧ ∀ j, s'.2.1 k1 j = if j < n1 then s.2.1 53 (p + j) else s.2.1 k1 j := by
  unfold f3_movesRow
  obtain ⟨s9, ⟨k, hk9, e1, i1, i2, i3⟩, hx, hG⟩ := loop_out (body := g3_movesRow_2 k1 n1)
    (fun t => ∃ k, k ≤ n1 ∧ t.2 = Int32.ofNat k ∧ Ff [k1] [56] s t.1 ∧ t.1.1 56 = Int32.ofNat (p + k) ∧ ∀ j, t.1.2.1 k1 j = if j < k then s.2.1 53 (p + j) else s.2.1 k1 j)
    (fun t => n1 - t.2.toNatClampNeg) (fun t => t.2 = Int32.ofNat n1) (fun t => some t.1) (by
      rintro ⟨t, w⟩ ⟨k, hk9, e1, i1, i2, i3⟩
      dsimp only at e1 i1 i2 i3
      subst e1
      by_cases hkn : k = n1
      · subst hkn
        refine Or.inl ⟨rfl, fun K => ?_⟩
        simp only [g3_movesRow_2]
        rw [if_off]
      · right
        have e53 : t.2.1 53 = s.2.1 53 := i1.arr 53 (by simpa using fun z => hk z.symm)
        refine ⟨(bA (bI t 56 (Int32.ofNat (p + k + 1))) k1 k (s.2.1 53 (p + k)), Int32.ofNat (k + 1)), ⟨k + 1, by omega, rfl, ?_, (bI_v (s := t) (f := 56)), fun j => ?_⟩, ?_, fun K => ?_⟩
        · have := ((i1.trans (Ff.bi (f := 56) (v := Int32.ofNat (p + k + 1)))).trans (Ff.ba (k := k1) (i := k) (v := s.2.1 53 (p + k))))
          exact this.weak (by simp) (by decide)
        · have e9 : (bA (bI t 56 (Int32.ofNat (p + k + 1))) k1 k (s.2.1 53 (p + k))).2.1 k1 j = if j = k then s.2.1 53 (p + k) else t.2.1 k1 j := by simp [bI, bA, bS, upd]
          show (bA (bI t 56 (Int32.ofNat (p + k + 1))) k1 k (s.2.1 53 (p + k))).2.1 k1 j = _
          rw [e9, i3 j]
          by_cases e : j = k
          · rw [if_pos e, if_pos (by omega), e]
          · rw [if_neg e]
            by_cases c : j < k
            · rw [if_pos c, if_pos (by omega)]
            · rw [if_neg c, if_neg (by omega)]
        · show n1 - (Int32.ofNat (k + 1)).toNatClampNeg < n1 - (Int32.ofNat k).toNatClampNeg
          rw [zI_nat (by omega), zI_nat (by omega)]; omega
        · simp only [g3_movesRow_2]
          have h57' : t.1 57 = 1 := by rw [i1.fld 57]; exact h57
          rw [if_on (by omega) (by omega), chk_h (zI_in (by omega) (by omega)), zI_nat (by omega), f3_moves_take h57' i2 (by omega), bnd2_s, chk_h (zI_in (by omega) (by omega)), zI_succ, e53])
    (s := (s, (0 : Int32))) ⟨0, by omega, rfl, (Ff.refl (F := s)).weak (by simp) (by decide), h56, fun j => by rw [if_neg (by omega)]⟩ (by omega)
  have ek : k = n1 := by rw [e1] at hx; exact (zI_inj (by omega) (by omega)).mp hx
  subst ek
  exact ⟨s9.1, hG, i1, i2, i3⟩
theorem f3_carryRow_lay (hk : k1 ≠ 69) (h72 : s.1 72 = 0) (h71 : s.1 71 = Int32.ofNat p) (hp : p + n1 ≤ 9500) : ∃ s' : Bl, f3_carryRow s k1 n1 = some s' ∧ Ff [69] [71] s s' ∧ s'.1 71 = Int32.ofNat (p + n1) ∧ ∀ j, s'.2.1 69 j = if p ≤ j ∧ j < p + n1 then s.2.1 k1 (j - p) else s.2.1 69 j := by
  unfold f3_carryRow
  obtain ⟨s9, ⟨k, hk9, e1, i1, i2, i3⟩, hx, hG⟩ := loop_out (body := g3_carryRow_2 k1 n1)
    (fun t => ∃ k, k ≤ n1 ∧ t.2 = Int32.ofNat k ∧ Ff [69] [71] s t.1 ∧ t.1.1 71 = Int32.ofNat (p + k) ∧ ∀ j, t.1.2.1 69 j = if p ≤ j ∧ j < p + k then s.2.1 k1 (j - p) else s.2.1 69 j)
    (fun t => n1 - t.2.toNatClampNeg) (fun t => t.2 = Int32.ofNat n1) (fun t => some t.1) (by
      rintro ⟨t, w⟩ ⟨k, hk9, e1, i1, i2, i3⟩
      dsimp only at e1 i1 i2 i3
      subst e1
      by_cases hkn : k = n1
      · subst hkn
        refine Or.inl ⟨rfl, fun K => ?_⟩
        simp only [g3_carryRow_2]
        rw [if_off]
      · right
        have ek : t.2.1 k1 k = s.2.1 k1 k := congrFun (i1.arr k1 (by simpa using hk)) k
        refine ⟨(bI (bA t 69 (p + k) (s.2.1 k1 k)) 71 (Int32.ofNat (p + k + 1)), Int32.ofNat (k + 1)), ⟨k + 1, by omega, rfl, ((i1.trans Ff.ba).trans Ff.bi).weak, bI_v, fun j => ?_⟩, ?_, fun K => ?_⟩
        · have e9 : (bI (bA t 69 (p + k) (s.2.1 k1 k)) 71 (Int32.ofNat (p + k + 1))).2.1 69 j = if j = p + k then s.2.1 k1 k else t.2.1 69 j := by simp [bI, bA, bS, upd]
          show (bI (bA t 69 (p + k) (s.2.1 k1 k)) 71 (Int32.ofNat (p + k + 1))).2.1 69 j = _
          rw [e9, i3 j]
          by_cases e : j = p + k
          · rw [if_pos e, if_pos (by omega), e, Nat.add_sub_cancel_left]
          · rw [if_neg e]
            by_cases c : p ≤ j ∧ j < p + k
            · rw [if_pos c, if_pos (by omega)]
            · rw [if_neg c, if_neg (by omega)]
        · show n1 - (Int32.ofNat (k + 1)).toNatClampNeg < n1 - (Int32.ofNat k).toNatClampNeg
          rw [zI_nat (by omega), zI_nat (by omega)]; omega
        · simp only [g3_carryRow_2]
          have h72' : t.1 72 = 0 := by rw [i1.fld 72]; exact h72
          have e71 : (bA t 69 (p + k) (s.2.1 k1 k)).1 71 = Int32.ofNat (p + k) := i2
          rw [if_on (by omega) (by omega), if_pos h72', chk_h (zI_in (by omega) (by omega)), i2, chk_h (zI_in (by omega) (by decide)), zI_nat (by omega), zI_nat (by omega), ek, ltv_s, e71, zI_succ, zI_succ])
    (s := (s, (0 : Int32))) ⟨0, by omega, rfl, (Ff.refl (F := s)).weak, h71, fun j => by rw [if_neg (by omega)]⟩ (by omega)
  have ek : k = n1 := by rw [e1] at hx; exact (zI_inj (by omega) (by omega)).mp hx
  subst ek
  exact ⟨s9.1, hG, i1, i2, i3⟩
theorem f3_carryRow_take (hk : k1 ≠ 69) (h72 : s.1 72 = 1) (h71 : s.1 71 = Int32.ofNat p) (hp : p + n1 ≤ 9500) : ∃ s' : Bl, f3_carryRow s k1 n1 = some s' ∧ Ff [k1] [71] s s' ∧ s'.1 71 = Int32.ofNat (p + n1) ∧ ∀ j, s'.2.1 k1 j = if j < n1 then s.2.1 69 (p + j) else s.2.1 k1 j := by
  unfold f3_carryRow
  obtain ⟨s9, ⟨k, hk9, e1, i1, i2, i3⟩, hx, hG⟩ := loop_out (body := g3_carryRow_2 k1 n1)
    (fun t => ∃ k, k ≤ n1 ∧ t.2 = Int32.ofNat k ∧ Ff [k1] [71] s t.1 ∧ t.1.1 71 = Int32.ofNat (p + k) ∧ ∀ j, t.1.2.1 k1 j = if j < k then s.2.1 69 (p + j) else s.2.1 k1 j)
    (fun t => n1 - t.2.toNatClampNeg) (fun t => t.2 = Int32.ofNat n1) (fun t => some t.1) (by
      rintro ⟨t, w⟩ ⟨k, hk9, e1, i1, i2, i3⟩
      dsimp only at e1 i1 i2 i3
      subst e1
      by_cases hkn : k = n1
      · subst hkn
        refine Or.inl ⟨rfl, fun K => ?_⟩
        simp only [g3_carryRow_2]
        rw [if_off]
      · right
        have e69 : t.2.1 69 = s.2.1 69 := i1.arr 69 (by simpa using fun z => hk z.symm)
        refine ⟨(bI (bA t k1 k (s.2.1 69 (p + k))) 71 (Int32.ofNat (p + k + 1)), Int32.ofNat (k + 1)), ⟨k + 1, by omega, rfl, ?_, bI_v, fun j => ?_⟩, ?_, fun K => ?_⟩
        · have := ((i1.trans (Ff.ba (k := k1) (i := k) (v := s.2.1 69 (p + k)))).trans (Ff.bi (f := 71) (v := Int32.ofNat (p + k + 1))))
          exact this.weak (by simp) (by decide)
        · have e9 : (bI (bA t k1 k (s.2.1 69 (p + k))) 71 (Int32.ofNat (p + k + 1))).2.1 k1 j = if j = k then s.2.1 69 (p + k) else t.2.1 k1 j := by simp [bI, bA, bS, upd]
          show (bI (bA t k1 k (s.2.1 69 (p + k))) 71 (Int32.ofNat (p + k + 1))).2.1 k1 j = _
          rw [e9, i3 j]
          by_cases e : j = k
          · rw [if_pos e, if_pos (by omega), e]
          · rw [if_neg e]
            by_cases c : j < k
            · rw [if_pos c, if_pos (by omega)]
            · rw [if_neg c, if_neg (by omega)]
        · show n1 - (Int32.ofNat (k + 1)).toNatClampNeg < n1 - (Int32.ofNat k).toNatClampNeg
          rw [zI_nat (by omega), zI_nat (by omega)]; omega
        · simp only [g3_carryRow_2]
          have h72' : t.1 72 = 1 := by rw [i1.fld 72]; exact h72
          have e71 : (bA t k1 k (s.2.1 69 (p + k))).1 71 = Int32.ofNat (p + k) := i2
          rw [if_on (by omega) (by omega), if_neg (by rw [h72']; decide), i2, chk_h (zI_in (by omega) (by decide)), chk_h (zI_in (by omega) (by omega)), zI_nat (by omega), zI_nat (by omega), e69, ltv_s, e71, zI_succ, zI_succ])
    (s := (s, (0 : Int32))) ⟨0, by omega, rfl, (Ff.refl (F := s)).weak (by simp) (by decide), h71, fun j => by rw [if_neg (by omega)]⟩ (by omega)
  have ek : k = n1 := by rw [e1] at hx; exact (zI_inj (by omega) (by omega)).mp hx
  subst ek
  exact ⟨s9.1, hG, i1, i2, i3⟩
end MV

/-! PLAIN LAW: numbers and words, as both read them -/
set_option maxRecDepth 100000
def dgN (T : Nat) (bt : Nat → Int32) (p : Nat) : Nat := fsN (fun d => !dgB T bt (p + d)) (T - p)
def vN (bt : Nat → Int32) (p : Nat) : Nat → Nat
  | 0 => 0
  | j + 1 => if j < 5 then 10 * vN bt p j + ((bt (p + j)).toNatClampNeg - 48) else vN bt p j
theorem dgN_le {T p : Nat} {bt : Nat → Int32} (hp : p ≤ T) : p + dgN T bt p ≤ T := by
  have := fsN_le (fun d => !dgB T bt (p + d)) (T - p)
  unfold dgN; omega
theorem dgN_at {T p : Nat} {bt : Nat → Int32} : dgB T bt (p + dgN T bt p) = false := by
  have hl := fsN_le (fun d => !dgB T bt (p + d)) (T - p)
  have hs := fsN_spec (fun d => !dgB T bt (p + d)) (T - p)
  by_cases c : dgN T bt p < T - p
  · have := hs.2 c
    simp only [Bool.not_eq_true'] at this
    exact this
  · unfold dgN at c
    unfold dgB dgN
    rw [decide_eq_false (by omega), Bool.false_and]
theorem dgN_pos {T p : Nat} {bt : Nat → Int32} (h : dgB T bt p = true) : 0 < dgN T bt p := by
  rcases Nat.eq_zero_or_pos (dgN T bt p) with e | e
  · have := dgN_at (T := T) (p := p) (bt := bt)
    rw [e, Nat.add_zero, h] at this; cases this
  · exact e
theorem dgN_d {T p d : Nat} {bt : Nat → Int32} (h : d < dgN T bt p) : dgB T bt (p + d) = true := by
  have := (fsN_spec (fun d => !dgB T bt (p + d)) (T - p)).1 d h
  simp only [Bool.not_eq_false'] at this
  exact this
theorem dgB_k {T p : Nat} {bt : Nat → Int32} (hB : TpB T bt) (h : dgB T bt p = true) : p < T ∧ (bt p &&& 255) = bt p ∧ ∃ k, k < 10 ∧ bt p = Int32.ofNat (48 + k) := by
  unfold dgB at h
  rw [Bool.and_eq_true, decide_eq_true_iff] at h
  exact ⟨h.1, byte_n (hB.2 p h.1).1 (hB.2 p h.1).2 h.2⟩
theorem vN_lt {T p : Nat} {bt : Nat → Int32} (hB : TpB T bt) : ∀ j, j ≤ dgN T bt p → vN bt p j < 10 ^ (min j 5)
  | 0, _ => by show 0 < 10 ^ (min 0 5); simp
  | j + 1, h => by
    have ih := vN_lt (p := p) hB j (by omega)
    obtain ⟨h1, h2, k, hk, e⟩ := dgB_k hB (dgN_d (T := T) (p := p) (bt := bt) (d := j) (by omega))
    unfold vN
    by_cases c : j < 5
    · rw [if_pos c, e, zI_nat (by omega)]
      rw [show min j 5 = j by omega] at ih
      rw [show min (j + 1) 5 = j + 1 by omega, Nat.pow_succ]; omega
    · rw [if_neg c]
      rw [show min j 5 = 5 by omega] at ih
      rw [show min (j + 1) 5 = 5 by omega]; exact ih
theorem vN_max {T p j : Nat} {bt : Nat → Int32} (hB : TpB T bt) (h : j ≤ dgN T bt p) : vN bt p j ≤ 99999 := by
  have := vN_lt hB j h
  have h2 : 10 ^ (min j 5) ≤ 10 ^ 5 := Nat.pow_le_pow_right (by decide) (by omega)
  have h3 : (10 : Nat) ^ 5 = 100000 := rfl
  omega
/-- one digit more -/
theorem vN_step {T p j : Nat} {bt : Nat → Int32} (hB : TpB T bt) (h : j < dgN T bt p) (h5 : j < 5) : (10 : Int32) * Int32.ofNat (vN bt p j) + bt (p + j) - (48 : Int32) = Int32.ofNat (vN bt p (j + 1)) := by
  obtain ⟨h1, h2, k, hk, e⟩ := dgB_k hB (dgN_d h)
  have hm := vN_max hB (show j ≤ dgN T bt p by omega)
  have e1 : vN bt p (j + 1) = 10 * vN bt p j + ((bt (p + j)).toNatClampNeg - 48) := by
    show (if j < 5 then _ else _) = _
    rw [if_pos h5]
  rw [e1, e, zI_nat (by omega), show (10 : Int32) = Int32.ofNat 10 from rfl, ← Int32.ofNat_mul, ← Int32.ofNat_add, show (48 : Int32) = Int32.ofNat 48 from rfl, show 10 * vN bt p j + (48 + k) = (10 * vN bt p j + k) + 48 by omega, Int32.ofNat_add, Int32.add_sub_cancel]
  congr 1; omega
theorem vN_stay {p j : Nat} {bt : Nat → Int32} (h5 : ¬ j < 5) : vN bt p (j + 1) = vN bt p j := by
  show (if j < 5 then _ else vN bt p j) = _
  rw [if_neg h5]
/-- the fault is laid -/
def flt (y : Nat → Bl) (k pl : Int32) : Nat → Bl := upX y 13 (bI (bI (y 13) 6 k) 7 pl)
theorem f4_demand_t {y : Nat → Bl} {k pl : Int32} : f4_demand y 1 k pl = some (.inr y) := rfl
theorem f4_demand_f {y : Nat → Bl} {k pl : Int32} : f4_demand y 0 k pl = some (.inl (flt y k pl)) := by
  unfold f4_demand flt
  rw [if_pos rfl, upX_upX, upX_self]
theorem flt_13 {y : Nat → Bl} {k pl : Int32} : (flt y k pl 13).1 6 = k ∧ (flt y k pl 13).1 7 = pl := by
  unfold flt; rw [upX_self]; exact ⟨by simp [bI], by simp [bI]⟩
theorem flt_ne {y : Nat → Bl} {k pl : Int32} {j : Nat} (h : j ≠ 13) : flt y k pl j = y j := upX_ne h
def okN (lo hi : Int32) (n v : Nat) : Bool := decide (n ≤ 5) && (decide (lo ≤ Int32.ofNat v) && decide (Int32.ofNat v ≤ hi))
section P
variable {y : Nat → Bl} {s : Bl} {T p : Nat} {bt : Nat → Int32} {lo hi : Int32}
theorem f4_number_eq (hB : TpB T bt) (hO : TpO y T bt) (hp : p ≤ T) (h2 : (y 14).1 2 = Int32.ofNat p) : f4_number y lo hi = some (if dgB T bt (skp T bt p) = true then (if okN lo hi (dgN T bt (skp T bt p)) (vN bt (skp T bt p) (dgN T bt (skp T bt p))) = true then .inr (Int32.ofNat (vN bt (skp T bt p) (dgN T bt (skp T bt p))), nx y (skp T bt p + dgN T bt (skp T bt p))) else .inl (flt (nx y (skp T bt p + dgN T bt (skp T bt p))) 1 (Int32.ofNat (skp T bt p)))) else .inl (flt (nx y (skp T bt p)) 0 (Int32.ofNat (skp T bt p)))) := by
  have hT := hB.1
  unfold f4_number
  rw [f4_see_eq hB hO hp h2, bnd2_s, nx_at]
  have hq := skp_le (bt := bt) hp
  generalize skp T bt p = q at hq ⊢
  rw [f4_isDigit_eq hB hO.nx hq, bnd_s]
  cases hd : dgB T bt q with
  | false =>
    rw [show b2 false = (0 : Int32) from rfl, f4_demand_f]; rfl
  | true =>
    rw [show b2 true = (1 : Int32) from rfl, f4_demand_t, if_pos rfl]
    show loop (g4_number_24 lo hi (Int32.ofNat q)) FU (nx y q, (0 : Int32)) = _
    have hn := dgN_le (bt := bt) hq
    have key : loop (g4_number_24 lo hi (Int32.ofNat q)) FU (nx y (q + 0), Int32.ofNat (vN bt q 0)) = some (if okN lo hi (dgN T bt q) (vN bt q (dgN T bt q)) = true then .inr (Int32.ofNat (vN bt q (dgN T bt q)), nx y (q + dgN T bt q)) else .inl (flt (nx y (q + dgN T bt q)) 1 (Int32.ofNat q))) := by
      refine loop_seq (fun j => (nx y (q + j), Int32.ofNat (vN bt q j))) (dgN T bt q) (by omega) ?_ ?_
      · intro K j hj
        have hdj := dgN_d hj
        have hin : inB (Int32.ofNat (q + j)) 400 = true := zI_in (by omega) (by decide)
        simp only [g4_number_24]
        rw [nx_at, f4_isDigit_eq hB hO.nx (by omega), bnd_s, hdj, if_neg (by decide), show Int32.ofNat (q + j) - Int32.ofNat q = Int32.ofNat j by rw [Nat.add_comm, Int32.ofNat_add, Int32.add_sub_cancel], show (5 : Int32) = Int32.ofNat 5 from rfl, zif_le (by omega) (by omega), zI_succ]
        have e : upX (nx y (q + j)) 14 (bI (nx y (q + j) 14) 2 (Int32.ofNat (q + j + 1))) = nx y (q + (j + 1)) := nx_nx (p := q + j) (q := q + j + 1)
        rw [e]
        by_cases c : 5 ≤ j
        · rw [if_pos c, vN_stay (by omega)]
        · rw [if_neg c, chk_h hin, ltv_s, nx_ne (by decide), zI_nat (by omega), hO.2 _ (by omega), vN_step hB hj (by omega)]
      · intro K
        have hm := vN_max hB (Nat.le_refl (dgN T bt q))
        simp only [g4_number_24]
        rw [nx_at, f4_isDigit_eq hB hO.nx hn, bnd_s, dgN_at, if_pos (show b2 false = 0 from rfl), show Int32.ofNat (q + dgN T bt q) - Int32.ofNat q = Int32.ofNat (dgN T bt q) by rw [Nat.add_comm, Int32.ofNat_add, Int32.add_sub_cancel], show (5 : Int32) = Int32.ofNat 5 from rfl, zif_lt (by omega) (by omega), f0_in32, f4_demand_f, f4_demand_t, bnd_s, if_bit]
        unfold okN
        by_cases c : 5 < dgN T bt q
        · rw [if_pos c, decide_eq_false (show ¬ dgN T bt q ≤ 5 by omega), Bool.false_and]; rfl
        · rw [if_neg c, decide_eq_true (show dgN T bt q ≤ 5 by omega), Bool.true_and]
          cases (decide (lo ≤ Int32.ofNat (vN bt q (dgN T bt q))) && decide (Int32.ofNat (vN bt q (dgN T bt q)) ≤ hi)) with
          | false => rfl
          | true => rfl
    rw [← key]; rfl
theorem f4_takesSign_eq (hB : TpB T bt) (hO : TpO y T bt) (hp : p ≤ T) (h2 : (y 14).1 2 = Int32.ofNat p) {c : Int32} : f4_takesSign y c = some (if sgn T bt (skp T bt p) = c then ((1 : Int32), nx y (skp T bt p + 1)) else ((0 : Int32), nx y (skp T bt p))) := by
  unfold f4_takesSign
  rw [f4_see_eq hB hO hp h2, bnd2_s, nx_at, zI_succ]
  have e : upX (nx y (skp T bt p)) 14 (bI (nx y (skp T bt p) 14) 2 (Int32.ofNat (skp T bt p + 1))) = nx y (skp T bt p + 1) := nx_nx
  rw [e]
  split <;> rfl
theorem f4_takesWord_eq (hB : TpB T bt) (hO : TpO y T bt) (hp : p ≤ T) (h2 : (y 14).1 2 = Int32.ofNat p) {k : Nat} (hk : k < 23) : f4_takesWord y k = some (if isW T bt (skp T bt p) k = true then ((1 : Int32), nx y (skp T bt p + (sBy k).length)) else ((0 : Int32), nx y (skp T bt p))) := by
  unfold f4_takesWord
  rw [f4_isWord_eq hB hO hp h2 hk, bnd2_s, if_bit, chk_h (decide_eq_true hk), nx_at, ← Int32.ofNat_add]
  have e : upX (nx y (skp T bt p)) 14 (bI (nx y (skp T bt p) 14) 2 (Int32.ofNat (skp T bt p + (sBy k).length))) = nx y (skp T bt p + (sBy k).length) := nx_nx
  rw [e]
  split <;> rfl
/-- which word of n from b on; n -/
def wdK (T : Nat) (bt : Nat → Int32) (p n b : Nat) : Nat := fsN (fun k => isW T bt p (b + k)) n
theorem f4_oneOf_eq (hB : TpB T bt) (hO : TpO y T bt) (hp : p ≤ T) (h2 : (y 14).1 2 = Int32.ofNat p) {n b : Nat} (hn : 0 < n) (hb : b + n ≤ 23) : f4_oneOf y n b = some (if wdK T bt (skp T bt p) n b < n then Int32.ofNat (wdK T bt (skp T bt p) n b) else -1, nx y (skp T bt p)) := by
  have hq := skp_le (bt := bt) hp
  have hl := fsN_le (fun k => isW T bt (skp T bt p) (b + k)) n
  have hs := fsN_spec (fun k => isW T bt (skp T bt p) (b + k)) n
  have first : ∀ (K : (Nat → Bl) × Int32 → Option (Int32 × (Nat → Bl))) (k : Nat) (y1 : Nat → Bl), k < n → (y1 = y ∨ y1 = nx y (skp T bt p)) → g4_oneOf_2 n b K (y1, Int32.ofNat k) = if isW T bt (skp T bt p) (b + k) = true then some (Int32.ofNat k, nx y (skp T bt p)) else K (nx y (skp T bt p), Int32.ofNat (k + 1)) := by
    intro K k y1 hk hy
    have hin : inB (Int32.ofNat k) n = true := zI_in hk (by omega)
    have e : f4_isWord y1 (b + k) = some (b2 (isW T bt (skp T bt p) (b + k)), nx y (skp T bt p)) := by
      rcases hy with rfl | rfl
      · exact f4_isWord_eq hB hO hp h2 (by omega)
      · rw [f4_isWord_eq hB hO.nx hq nx_at (by omega), skp_skp, nx_nx]
    simp only [g4_oneOf_2]
    rw [zif_le (by omega) (by omega), if_neg (by omega), chk_h hin, zI_nat (by omega), e, bnd2_s, if_bit, zI_succ]
  unfold f4_oneOf
  refine loop_seq (fun k => (if k = 0 then y else nx y (skp T bt p), Int32.ofNat k)) (wdK T bt (skp T bt p) n b) (by unfold wdK; omega) ?_ ?_
  · intro K k hk
    unfold wdK at hk
    rw [first K k _ (by omega) (by split <;> simp), hs.1 k hk, if_neg (show ¬ k + 1 = 0 by omega)]
    rfl
  · intro K
    by_cases c : wdK T bt (skp T bt p) n b < n
    · have hb2 : isW T bt (skp T bt p) (b + wdK T bt (skp T bt p) n b) = true := hs.2 c
      rw [first K _ _ c (by split <;> simp), hb2, if_pos rfl, if_pos c]
    · have e : wdK T bt (skp T bt p) n b = n := by unfold wdK at c ⊢; omega
      rw [if_neg c, e, if_neg (by omega)]
      simp only [g4_oneOf_2]
      rw [zif_le (by omega) (by omega), if_pos (Nat.le_refl _)]
/-- the Model's fault, when it has none yet -/
def fcd (k pl : Nat) : Int32 := (1 : Int32) + (8 : Int32) * Int32.ofNat pl + Int32.ofNat k
theorem fcd_eq {k pl : Nat} : fcd k pl = Int32.ofNat (1 + 8 * pl + k) := by
  unfold fcd
  rw [show (1 : Int32) = Int32.ofNat 1 from rfl, show (8 : Int32) = Int32.ofNat 8 from rfl, ← Int32.ofNat_mul, ← Int32.ofNat_add, ← Int32.ofNat_add]
theorem fcd_nz {k pl : Nat} (hk : k ≤ 4) (hp : pl ≤ 400) : ¬ fcd k pl = 0 ∧ 0 < fcd k pl := by
  rw [fcd_eq]
  constructor
  · rw [show (0 : Int32) = Int32.ofNat 0 from rfl, zI_inj (by omega) (by omega)]; omega
  · have : (Int32.ofNat 0 < Int32.ofNat (1 + 8 * pl + k)) = (0 < 1 + 8 * pl + k) := zI_lt (by omega) (by omega)
    show Int32.ofNat 0 < _
    rw [this]; omega
theorem f3_fails_good (h : s.1 33 = 0) {k pl : Nat} : f3_fails s (Int32.ofNat k) (Int32.ofNat pl) = some (bI s 33 (fcd k pl)) := by
  unfold f3_fails; rw [if_pos h]; rfl
theorem f3_fails_bad (h : ¬ s.1 33 = 0) {k pl : Int32} : f3_fails s k pl = some s := by
  unfold f3_fails; rw [if_neg h, bI_id rfl]
theorem f3_digits_eq (hB : TpB T bt) (hM : TpM s T bt) (hp : p ≤ T) (h2 : s.1 32 = Int32.ofNat p) (hd : dgB T bt p = true) : f3_digits s (99999 : Int32) = if dgN T bt p ≤ 5 then some (Int32.ofNat (vN bt p (dgN T bt p)), ps s (p + dgN T bt p)) else bnd (f3_fails (ps s (p + dgN T bt p)) (1 : Int32) (Int32.ofNat p)) (fun s3 => some (Int32.ofNat (vN bt p (dgN T bt p)), s3)) := by
  have hT := hB.1
  have hn := dgN_le (bt := bt) hp
  unfold f3_digits
  rw [f3_isDigit_eq hB hM hp h2, bnd_s, hd, if_neg (by decide)]
  have key : loop (g3_digits_25 (99999 : Int32) (Int32.ofNat p)) FU (ps s (p + 0), Int32.ofNat (vN bt p 0)) = if dgN T bt p ≤ 5 then some (Int32.ofNat (vN bt p (dgN T bt p)), ps s (p + dgN T bt p)) else bnd (f3_fails (ps s (p + dgN T bt p)) (1 : Int32) (Int32.ofNat p)) (fun s3 => some (Int32.ofNat (vN bt p (dgN T bt p)), s3)) := by
    refine loop_seq (fun j => (ps s (p + j), Int32.ofNat (vN bt p j))) (dgN T bt p) (by omega) ?_ ?_
    · intro K j hj
      have hdj := dgN_d hj
      obtain ⟨d1, d2, -⟩ := dgB_k hB hdj
      simp only [g3_digits_25]
      rw [f3_isDigit_eq hB hM.ps (by omega) ps_at, bnd_s, hdj, if_neg (by decide), ps_at, show Int32.ofNat (p + j) - Int32.ofNat p = Int32.ofNat j by rw [Nat.add_comm, Int32.ofNat_add, Int32.add_sub_cancel], show (5 : Int32) = Int32.ofNat 5 from rfl, zif_le (by omega) (by omega), zI_succ]
      have e : bI (ps s (p + j)) 32 (Int32.ofNat (p + j + 1)) = ps s (p + (j + 1)) := ps_ps (p := p + j) (q := p + j + 1)
      rw [e]
      by_cases c : 5 ≤ j
      · rw [if_pos c, vN_stay (by omega)]
      · have es : sgn T bt (p + j) = bt (p + j) := by unfold sgn; rw [if_pos d1, d2]
        rw [if_neg c, f3_sign_eq hB hM.ps (by omega) ps_at, bnd_s, es, vN_step hB hj (by omega)]
    · intro K
      have hm := vN_max hB (Nat.le_refl (dgN T bt p))
      simp only [g3_digits_25]
      rw [f3_isDigit_eq hB hM.ps hn ps_at, bnd_s, dgN_at, if_pos (show b2 false = 0 from rfl), ps_at, show Int32.ofNat (p + dgN T bt p) - Int32.ofNat p = Int32.ofNat (dgN T bt p) by rw [Nat.add_comm, Int32.ofNat_add, Int32.add_sub_cancel], show (5 : Int32) = Int32.ofNat 5 from rfl, zif_lt (by omega) (by omega), show (99999 : Int32) = Int32.ofNat 99999 from rfl, zif_le (by omega) (by omega), if_pos hm]
      by_cases c : 5 < dgN T bt p
      · rw [if_pos c, if_neg (by omega)]
      · rw [if_neg c, if_pos (by omega)]
  rw [Nat.add_zero, ps_id h2] at key
  rw [h2]; exact key
end P

/-! PLAIN LAW: compares, read by both -/
set_option maxRecDepth 100000
section P
variable {T : Nat} {bt : Nat → Int32} {sl : Nat} {y : Nat → Bl} {s : Bl} {p c d e : Nat}
/-- at a place, with a fault -/
def Bq (T : Nat) (bt : Nat → Int32) (s : Bl) (p : Nat) : Prop := ¬ s.1 33 = 0 ∧ s.1 32 = Int32.ofNat p ∧ p ≤ T ∧ s.1 40 = 12 ∧ TpM s T bt
/-- goes on with its fault -/
def Bg (T sl : Nat) (s : Bl) (o : Option Bl) : Prop := ∃ s', o = some s' ∧ Fz sl s s' ∧ s'.1 33 = s.1 33 ∧ ∃ p2, p2 ≤ T ∧ s'.1 32 = Int32.ofNat p2
theorem Bq.of {s s' : Bl} {p2 : Nat} (h : Bq T bt s p) (hz : Fz sl s s') (h3 : s'.1 33 = s.1 33) (h2 : s'.1 32 = Int32.ofNat p2) (hp : p2 ≤ T) : Bq T bt s' p2 := ⟨by rw [h3]; exact h.1, h2, hp, by rw [hz.1 40 (by omega)]; exact h.2.2.2.1, hz.tpm h.2.2.2.2⟩
theorem Bq.ps {q : Nat} (h : Bq T bt s p) (hq : q ≤ T) : Bq T bt (ps s q) q := ⟨by rw [ps_f (by decide)]; exact h.1, ps_at, hq, by rw [ps_f (by decide)]; exact h.2.2.2.1, h.2.2.2.2.ps⟩
theorem Bg.tr {s1 : Bl} {o : Option Bl} (hz : Fz sl s s1) (h3 : s1.1 33 = s.1 33) (h : Bg T sl s1 o) : Bg T sl s o := by
  obtain ⟨s', g1, g2, g3, g4⟩ := h
  exact ⟨s', g1, hz.trans g2, g3.trans h3, g4⟩
theorem Bg.bnd {o : Option Bl} {K : Bl → Option Bl} (hq : Bq T bt s p) (h : Bg T sl s o) (hK : ∀ s1 p1, Bq T bt s1 p1 → Bg T sl s1 (K s1)) : Bg T sl s (bnd o K) := by
  obtain ⟨s', rfl, g2, g3, p2, g4, g5⟩ := h
  rw [bnd_s]
  exact Bg.tr g2 g3 (hK s' p2 (hq.of g2 g3 g5 g4))
theorem Bg.self (hq : Bq T bt s p) : Bg T sl s (some s) := ⟨s, rfl, Fz.refl, rfl, p, hq.2.2.1, hq.2.1⟩
theorem Bg.entry {k n : Int32} (hq : Bq T bt s p) : Bg T sl s (f3_entry s k n) := by rw [f3_entry_bad hq.1]; exact Bg.self hq
theorem Bg.blanks (hB : TpB T bt) (hq : Bq T bt s p) : Bg T sl s (f3_blanks s) := by
  rw [f3_blanks_eq hB hq.2.2.2.2 hq.2.2.1 hq.2.1]
  exact ⟨_, rfl, (Ks.ps (e := 0)).fz, by rw [ps_f (by decide)], _, skp_le hq.2.2.1, ps_at⟩
theorem Bg.cnt {pl : Int32} (hq : Bq T bt s p) : Bg T sl s (f3_isCounted s pl) := by
  rw [f3_isCounted_bad hq.1]
  exact ⟨_, rfl, (Ks.bi (sl := sl) (e := 0) (by omega)).fz, rfl, p, hq.2.2.1, hq.2.1⟩
theorem value_bad (hB : TpB T bt) (hq : Bq T bt s p) : Bg T sl s (f3_value s) := by
  have hT := hB.1
  unfold f3_value
  refine Bg.bnd hq (Bg.blanks hB hq) (fun s1 p1 h1 => ?_)
  rw [f3_isDigit_eq hB h1.2.2.2.2 h1.2.2.1 h1.2.1, bnd_s]
  cases hdg : dgB T bt p1 with
  | true =>
    rw [if_neg (by decide), f3_digits_eq hB h1.2.2.2.2 h1.2.2.1 h1.2.1 hdg]
    have hn := dgN_le (bt := bt) h1.2.2.1
    have h2 := h1.ps hn
    have fin : Bg T sl s1 (bnd2 (some (Int32.ofNat (vN bt p1 (dgN T bt p1)), ps s1 (p1 + dgN T bt p1))) (fun r9 s9 => bnd (f3_isCounted s9 (s1.1 32)) (fun s10 => bnd (f3_entry s10 0 r9) (fun s11 => some s11)))) := by
      rw [bnd2_s]
      refine Bg.tr (Ks.ps (e := 0)).fz (by rw [ps_f (by decide)]) (Bg.bnd h2 (Bg.cnt h2) (fun s3 p3 h3 => Bg.bnd h3 (Bg.entry h3) (fun s4 p4 h4 => Bg.self h4)))
    by_cases c5 : dgN T bt p1 ≤ 5
    · rw [if_pos c5]; exact fin
    · rw [if_neg c5, f3_fails_bad h2.1, bnd_s]; exact fin
  | false =>
    rw [if_pos (show b2 false = 0 from rfl), f3_find_eq hB h1.2.2.2.2 h1.2.2.1 h1.2.1 h1.2.2.2.1]
    unfold g3_value_63
    have hwl : wdK T bt p1 12 7 ≤ 12 := fsN_le _ _
    by_cases cw : wdK T bt p1 12 7 < 12
    · have hw := isW_len h1.2.2.1 (wdK_at cw)
      generalize wdK T bt p1 12 7 = w at cw hw hwl ⊢
      rw [h1.2.2.2.1, show (12 : Int32) = Int32.ofNat 12 from rfl, zif_eq (by omega) (by omega), if_neg (show ¬ w = 12 by omega), f3_isCounted_bad h1.1, bnd_s, f3_wordOf_eq cw, bnd_s, chk_h (decide_eq_true (show 7 + w < 23 by omega))]
      have e32 : (bI s1 38 (s1.1 38 + 1)).1 32 + Int32.ofNat (sBy (7 + w)).length = Int32.ofNat (p1 + (sBy (7 + w)).length) := by
        show s1.1 32 + _ = _
        rw [h1.2.1, ← Int32.ofNat_add]
      rw [e32]
      have hk : Fz sl s1 (bI (bI s1 38 (s1.1 38 + 1)) 32 (Int32.ofNat (p1 + (sBy (7 + w)).length))) := ((Ks.bi (sl := sl) (e := 0) (by omega)).trans (Ks.bi (sl := sl) (e := 0) (by omega)) (Nat.le_refl 0)).fz
      have h2 := h1.of (p2 := p1 + (sBy (7 + w)).length) hk rfl bI_v hw
      exact Bg.tr hk rfl (Bg.bnd h2 (Bg.entry h2) (fun s4 p4 h4 => Bg.self h4))
    · have ew : wdK T bt p1 12 7 = 12 := by omega
      rw [ew, h1.2.2.2.1, if_pos (show Int32.ofNat 12 = 12 from rfl), f3_fails_bad h1.1, bnd_s]
      exact Bg.self h1
theorem term_bad (hB : TpB T bt) (hq : Bq T bt s p) : Bg T sl s (f3_term s) := by
  unfold f3_term
  refine Bg.bnd hq (value_bad hB hq) (fun s1 p1 h1 => Bg.bnd h1 (Bg.blanks hB h1) (fun s2 p2 h2 => ?_))
  have : loop (g3_term_8) FU s2 = some s2 := by
    refine loop_seq (fun _ => s2) 0 (by omega) (fun _ k hk => absurd hk (Nat.not_lt_zero k)) (fun K => ?_)
    unfold g3_term_8; rw [if_neg h2.1]
  rw [this]; exact Bg.self h2
theorem sum_bad (hB : TpB T bt) (hq : Bq T bt s p) : Bg T sl s (f3_sum s) := by
  unfold f3_sum
  refine Bg.bnd hq (term_bad hB hq) (fun s2 p2 h2 => ?_)
  have : loop (g3_sum_4) FU s2 = some s2 := by
    refine loop_seq (fun _ => s2) 0 (by omega) (fun _ k hk => absurd hk (Nat.not_lt_zero k)) (fun K => ?_)
    unfold g3_sum_4; rw [if_neg h2.1]
  rw [this]; exact Bg.self h2
theorem c90_bad (hB : TpB T bt) (hq : Bq T bt s p) {v1 v2 z0 z1 : Int32} {q : Nat} (hz : z1 + z0 = Int32.ofNat q) (hqT : q ≤ T) : Bg T sl s (g3_compared_90 s v1 v2 z0 z1) := by
  unfold g3_compared_90
  rw [hz]
  have h1 := hq.ps hqT
  refine Bg.tr (s1 := ps s q) (Ks.ps (e := 0)).fz (by rw [ps_f (by decide)]) (Bg.bnd h1 (sum_bad hB h1) (fun s2 p2 h2 => ?_))
  have fin : ∀ k, Bg T sl s2 (bnd (f3_entry s2 k 0) (fun s9 => some s9)) := fun k => Bg.bnd h2 (Bg.entry h2) (fun s4 p4 h4 => Bg.self h4)
  by_cases c1 : v1 = 61
  · rw [if_pos c1]; exact fin 6
  · rw [if_neg c1]
    by_cases c2 : v1 = 60
    · rw [if_pos c2]
      by_cases c3 : v2 = 0
      · rw [if_pos c3]; exact fin 4
      · rw [if_neg c3]; exact fin 5
    · rw [if_neg c2]
      by_cases c3 : v2 = 0
      · rw [if_pos c3]; exact fin 8
      · rw [if_neg c3]; exact fin 7
/-- after the sign, with a fault; s3 has counted -/
theorem c37r_bad (hB : TpB T bt) (hq : Bq T bt s p) (hp : p < T) {v1 : Int32} : Bg T sl s (if v1 = (61 : Int32) then g3_compared_90 (bI s 32 ((s.1 32) + (1 : Int32))) v1 (0 : Int32) (0 : Int32) ((bI s 32 ((s.1 32) + (1 : Int32))).1 32) else bnd (f3_sign (bI s 32 ((s.1 32) + (1 : Int32)))) (fun r10 => if r10 = (61 : Int32) then g3_compared_90 (bI s 32 ((s.1 32) + (1 : Int32))) v1 (1 : Int32) (1 : Int32) ((bI s 32 ((s.1 32) + (1 : Int32))).1 32) else g3_compared_90 (bI s 32 ((s.1 32) + (1 : Int32))) v1 (0 : Int32) (0 : Int32) ((bI s 32 ((s.1 32) + (1 : Int32))).1 32))) := by
  have hT := hB.1
  have e1 : bI s 32 (s.1 32 + (1 : Int32)) = ps s (p + 1) := by rw [hq.2.1, zI_succ]; rfl
  rw [e1, ps_at]
  have h1 := hq.ps (q := p + 1) (by omega)
  have f1 : Fz sl s (ps s (p + 1)) := (Ks.ps (e := 0)).fz
  have f2 : (ps s (p + 1)).1 33 = s.1 33 := ps_f (by decide)
  by_cases c1 : v1 = 61
  · rw [if_pos c1]
    exact Bg.tr f1 f2 (c90_bad hB h1 (q := p + 1) (Int32.add_zero _) (by omega))
  · rw [if_neg c1, f3_sign_eq hB h1.2.2.2.2 h1.2.2.1 h1.2.1, bnd_s]
    have e61 := sgn_c (p := p + 1) hB (c := 61) (by omega)
    change (sgn T bt (p + 1) = 61 ↔ p + 1 < T ∧ bt (p + 1) = 61) at e61
    by_cases c2 : sgn T bt (p + 1) = 61
    · rw [if_pos c2]
      exact Bg.tr f1 f2 (c90_bad hB h1 (q := p + 2) (zI_succ _) (by have := (e61.mp c2).1; omega))
    · rw [if_neg c2]
      exact Bg.tr f1 f2 (c90_bad hB h1 (q := p + 1) (Int32.add_zero _) (by omega))
theorem c37_bad (hB : TpB T bt) (hq : Bq T bt s p) (hp : p < T) {v1 : Int32} : Bg T sl s (g3_compared_37 s v1) := by
  unfold g3_compared_37
  rw [f3_isCounted_bad hq.1, bnd_s]
  have hk : Fz sl s (bI s 38 (s.1 38 + 1)) := (Ks.bi (sl := sl) (e := 0) (by omega)).fz
  exact Bg.tr hk rfl (c37r_bad hB (hq.of (p2 := p) hk rfl hq.2.1 hq.2.2.1) hp)
/-- a sign's number, and the Model's entry -/
def cSg (T : Nat) (bt : Nat → Int32) (p : Nat) : Int32 := if sgn T bt p = 61 then 2 else if sgn T bt (p + 1) = 61 then (if sgn T bt p = 60 then 1 else 3) else (if sgn T bt p = 60 then 0 else 4)
def cLn (T : Nat) (bt : Nat → Int32) (p : Nat) : Nat := if sgn T bt p = 61 then 1 else if sgn T bt (p + 1) = 61 then 2 else 1
def cEn (T : Nat) (bt : Nat → Int32) (p : Nat) : Int32 := if sgn T bt p = 61 then 6 else if sgn T bt (p + 1) = 61 then (if sgn T bt p = 60 then 5 else 7) else (if sgn T bt p = 60 then 4 else 8)
def cIs (T : Nat) (bt : Nat → Int32) (p : Nat) : Prop := sgn T bt p = 60 ∨ sgn T bt p = 61 ∨ sgn T bt p = 62
theorem cEn_bop (a b : Int64) : tL (compV (cSg T bt p) a b) = bop (cEn T bt p) a b := by
  unfold cSg cEn
  split
  · simp [compV, bop]
  · split
    · split
      · simp [compV, bop]
      · simp [compV, bop]
    · split
      · simp [compV, bop]
      · simp [compV, bop]
theorem cEn_ok : ¬ cEn T bt p = 0 ∧ ¬ cEn T bt p = 1 ∧ ¬ cEn T bt p = 9 := by
  unfold cEn
  split
  · decide
  · split <;> split <;> decide
theorem cIs_lt (hB : TpB T bt) (h : cIs T bt p) : p < T := by
  rcases h with h | h | h
  · exact ((sgn_c (p := p) hB (c := 60) (by omega)).mp h).1
  · exact ((sgn_c (p := p) hB (c := 61) (by omega)).mp h).1
  · exact ((sgn_c (p := p) hB (c := 62) (by omega)).mp h).1
theorem cLn_le (hB : TpB T bt) (hp : p < T) : p + cLn T bt p ≤ T ∧ 1 ≤ cLn T bt p := by
  unfold cLn
  split
  · omega
  · split
    · rename_i h2
      have := ((sgn_c (p := p + 1) hB (c := 61) (by omega)).mp h2).1
      omega
    · omega
theorem f4_sign_eq (hB : TpB T bt) (hO : TpO y T bt) (hp : p ≤ T) (h2 : (y 14).1 2 = Int32.ofNat p) (hq : skp T bt p = p) : (cIs T bt p → f4_sign y = some (.inr (cSg T bt p, nx y (p + cLn T bt p)))) ∧ (¬ cIs T bt p → f4_sign y = some (.inl (flt y 0 (Int32.ofNat p)))) := by
  have hT := hB.1
  have g29 : cIs T bt p → g4_sign_29 y (sgn T bt p) 1 = some (.inr (cSg T bt p, nx y (p + cLn T bt p))) := by
    intro hc
    have hlt := cIs_lt hB hc
    unfold g4_sign_29 cSg cLn
    rw [f4_demand_t]
    have e1 : upX y 14 (bI (y 14) 2 ((y 14).1 2 + (1 : Int32))) = nx y (p + 1) := by rw [h2, zI_succ]; rfl
    show (if sgn T bt p = 61 then _ else _) = _
    by_cases c1 : sgn T bt p = 61
    · rw [if_pos c1, if_pos c1, if_pos c1, e1]
    · rw [if_neg c1, if_neg c1, if_neg c1]
      have e61 := sgn_c (p := p + 1) hB (c := 61) (by omega)
      change (sgn T bt (p + 1) = 61 ↔ p + 1 < T ∧ bt (p + 1) = 61) at e61
      rw [e1, nx_ne (show 0 ≠ 14 by decide), hO.1, nx_at, zif_le (by omega) (by omega)]
      by_cases c2 : p + 1 < T
      · have hin : inB (Int32.ofNat (p + 1)) 400 = true := zI_in (by omega) (by decide)
        rw [if_neg (by omega), chk_h hin, zI_nat (by omega), hO.2 _ c2, ltv_s]
        have e2 : upX (nx y (p + 1)) 14 (bI (nx y (p + 1) 14) 2 (Int32.ofNat (p + 1) + (1 : Int32))) = nx y (p + 2) := by rw [zI_succ]; exact nx_nx
        rw [e2]
        by_cases c3 : bt (p + 1) = 61
        · rw [if_pos c3, if_pos (e61.mpr ⟨c2, c3⟩), if_pos (e61.mpr ⟨c2, c3⟩)]
          unfold g4_sign_106
          by_cases c4 : sgn T bt p = 60
          · rw [if_pos c4, if_pos c4, if_neg (by decide)]
          · rw [if_neg c4, if_neg c4, if_neg (by decide)]
        · rw [if_neg c3, if_neg (fun z => c3 (e61.mp z).2), if_neg (fun z => c3 (e61.mp z).2)]
          unfold g4_sign_106
          by_cases c4 : sgn T bt p = 60
          · rw [if_pos c4, if_pos c4, if_pos rfl]
          · rw [if_neg c4, if_neg c4, if_pos rfl]
      · rw [if_pos (by omega), if_neg (fun z => c2 (e61.mp z).1), if_neg (fun z => c2 (e61.mp z).1)]
        unfold g4_sign_106
        by_cases c4 : sgn T bt p = 60
        · rw [if_pos c4, if_pos c4, if_pos rfl]
        · rw [if_neg c4, if_neg c4, if_pos rfl]
  unfold f4_sign
  rw [f4_see_eq hB hO hp h2, hq, nx_id h2, bnd2_s]
  constructor
  · intro hc
    rw [g29 hc]
    rcases hc with h | h | h
    · rw [if_pos h]
    · rw [if_neg (by rw [h]; decide), if_pos h]
    · rw [if_neg (by rw [h]; decide), if_neg (by rw [h]; decide), if_pos h]
  · intro hc
    rw [if_neg (fun z => hc (Or.inl z)), if_neg (fun z => hc (Or.inr (Or.inl z))), if_neg (fun z => hc (Or.inr (Or.inr z)))]
    unfold g4_sign_29
    rw [f4_demand_f, h2]; rfl
end P

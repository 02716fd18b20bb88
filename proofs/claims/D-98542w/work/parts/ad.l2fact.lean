/-! PLAIN LAW: facts, read by both -/
set_option maxRecDepth 100000
def TBd (T sl : Nat) {α : Type} (y : Nat → Bl) (σ : Bl × Int32 × Int32) (s : Bl) (p m : Nat) (o : Option (Cn α)) : Prop := ∃ (y' : Nat → Bl) (k pl : Nat) (cn : Nat × Nat) (sb : Bl) (w on : Int32) (cc : Nat), o = some (.inl y', cn) ∧ Rch g3_test_9 cc σ (sb, w, on) ∧ cc + m ≤ 800 ∧ (∀ j, j ≠ 13 → j ≠ 14 → y' j = y j) ∧ ((y' 13).1 6 = Int32.ofNat k ∧ (y' 13).1 7 = Int32.ofNat pl) ∧ Fz sl s sb ∧ sb.1 33 = fcd k pl ∧ (∃ p2, p2 ≤ T + 1 ∧ sb.1 32 = Int32.ofNat p2) ∧ (k ≤ 4 ∧ pl ≤ T) ∧ cn.1 + p ≤ T ∧ cn.2 + 3 * p ≤ 3 * T
def TGd (T : Nat) (bt : Nat → Int32) (sl : Nat) (L : List Int32) (y : Nat → Bl) (s : Bl) (p c d e : Nat) (o : Option (Cn Tf)) : Prop := ∃ (y' : Nat → Bl) (f : Tf) (cn : Nat × Nat) (s1 s2 : Bl) (p' c' e' cc ca : Nat), o = some (.inr (f, y'), cn) ∧ Rch g3_test_9 cc (s, 1, 1) (s1, 0, 1) ∧ cc + (6 * c + p) ≤ 6 * c' + p' ∧ s1.1 33 = 0 ∧ Rch (g3_answers_0 9) ca s1 s2 ∧ ca + p ≤ p' ∧ RdS T bt sl y' s2 p' c' d e' ∧ Sk s2 L ∧ Ky y y' ∧ Kt sl e s s2 ∧ EV (soA s2.2.1 sl) (nuA s2.2.1 sl) e e' (fT f) ∧ (cn.1 + p ≤ p' ∧ cn.2 + 3 * p ≤ 3 * p') ∧ (c ≤ c' ∧ e ≤ e') ∧ 3 * e' + 6 * c + p + 3 ≤ 3 * e + 6 * c' + p'
def TTd (T : Nat) (bt : Nat → Int32) (sl : Nat) (L : List Int32) (y : Nat → Bl) (s : Bl) (p c d e : Nat) (o : Option (Cn Tf)) : Prop := ∃ (y' : Nat → Bl) (f : Tf) (cn : Nat × Nat) (s1 s2 s5 s8 : Bl) (p1 p' c' e' cc : Nat), o = some (.inr (f, y'), cn) ∧ Rch g3_test_9 cc (s, 1, 1) (s1, 0, 1) ∧ cc + (6 * c + p) ≤ 6 * c' + p' ∧ s1.1 33 = 0 ∧ (f3_answers s1 9 = some s2 ∧ s2.1 32 = Int32.ofNat p1 ∧ p1 ≤ T ∧ TpM s2 T bt ∧ p' = skp T bt p1) ∧ (isW T bt p' 21 = false ∧ isW T bt p' 22 = false) ∧ (f3_answers (ps s2 p') 10 = some s5 ∧ f3_answers s5 11 = some s8) ∧ RdS T bt sl y' s8 p' c' d e' ∧ Sk s8 L ∧ Ky y y' ∧ Kt sl e s s8 ∧ EV (soA s8.2.1 sl) (nuA s8.2.1 sl) e e' (fT f) ∧ (cn.1 + p ≤ p' ∧ cn.2 + 3 * p ≤ 3 * p') ∧ (c ≤ c' ∧ e ≤ e') ∧ 3 * e' + 6 * c + p + 3 ≤ 3 * e + 6 * c' + p'
def FaC (T : Nat) (bt : Nat → Int32) (sl n : Nat) : Prop := ∀ (y : Nat → Bl) (s : Bl) (p c d e : Nat) (L : List Int32), RdS T bt sl y s p c d e → Sk s L → L.length ≤ p → 11 ≤ n + d → TBd T sl y (s, 1, 1) s p (6 * c + p) (f4_fact n y) ∨ TGd T bt sl L y s p c d e (f4_fact n y)
def TeC (T : Nat) (bt : Nat → Int32) (sl n : Nat) : Prop := ∀ (y : Nat → Bl) (s : Bl) (p c d e : Nat) (L : List Int32), RdS T bt sl y s p c d e → Sk s L → L.length ≤ p → 11 ≤ n + d → (¬ tpL L = 9 ∧ ¬ tpL L = 10 ∧ ¬ tpL L = 11) → TBd T sl y (s, 1, 1) s p (6 * c + p) (fB (fB (f4_fact n) 21 1) 22 0 y) ∨ TTd T bt sl L y s p c d e (fB (fB (f4_fact n) 21 1) 22 0 y)
theorem tL_not (b : Bool) : 1 - tL b = tL (!b) := by cases b <;> rfl
section P
variable {T : Nat} {bt : Nat → Int32} {sl : Nat} {y : Nat → Bl} {s : Bl} {p c d e : Nat} {L : List Int32}
/-- a turn that reads a fact -/
theorem turn_fact (h33 : s.1 33 = 0) (K : Bl × Int32 × Int32 → Option Bl) : g3_test_9 K (s, 1, 1) = bnd2 (f3_fact s) (fun r13 s13 => if r13 = 0 then K (s13, (1 : Int32), (1 : Int32)) else K (s13, (0 : Int32), (1 : Int32))) := by
  simp only [g3_test_9]
  rw [if_neg (by decide), if_pos h33, if_neg (by decide)]
theorem TBd.pre {α β : Type} {y1 : Nat → Bl} {s1 : Bl} {σ σ1 : Bl × Int32 × Int32} {p1 m m1 cc a b : Nat} {o : Option (Cn α)} {K : α → (Nat → Bl) → Option (Cn β)} (h : TBd T sl y1 σ1 s1 p1 m1 o) (hr : Rch g3_test_9 cc σ σ1) (hc : cc + m ≤ m1) (hy : Ky y y1) (hs : Fz sl s s1) (ha : a + p ≤ p1) (hb : b + 3 * p ≤ 3 * p1) : TBd T sl y σ s p m (cnt a b (bndC o K)) := by
  obtain ⟨y', k, pl, cn, sb, w, on, c2, h1, h2, h3, h4, h5, h6, h7, h8, h9, h10, h11⟩ := h
  exact ⟨y', k, pl, (a + cn.1, b + cn.2), sb, w, on, cc + c2, by rw [h1]; rfl, hr.trans h2, by omega, fun j j1 j2 => (h4 j j1 j2).trans (hy.1 j j2), h5, hs.trans h6, h7, h8, h9, by dsimp only; omega, by dsimp only; omega⟩
/-- thrown at once -/
theorem TBd.mk2 {α : Type} {o : Option (Cn α)} {y1 : Nat → Bl} {sb : Bl} {σ : Bl × Int32 × Int32} {k pl a b cc m : Nat} {w on : Int32} (hy : ∀ j, j ≠ 14 → y1 j = y j) (ho : o = some (.inl (flt y1 (Int32.ofNat k) (Int32.ofNat pl)), (a, b))) (hr : Rch g3_test_9 cc σ (sb, w, on)) (hc : cc + m ≤ 800) (hz : Fz sl s sb) (h33 : sb.1 33 = fcd k pl) (hp : ∃ p2, p2 ≤ T + 1 ∧ sb.1 32 = Int32.ofNat p2) (hk : k ≤ 4) (hpl : pl ≤ T) (ha : a + p ≤ T) (hb : b + 3 * p ≤ 3 * T) : TBd T sl y σ s p m o :=
  ⟨_, k, pl, (a, b), sb, w, on, cc, ho, hr, hc, fun j h1 h2 => (flt_ne h1).trans (hy j h2), flt_13, hz, h33, hp, ⟨hk, hpl⟩, ha, hb⟩
/-- the turn after a whole test -/
theorem turn_end (hB : TpB T bt) {s1 s2 s5 s8 : Bl} {p1 p' : Nat} (h33 : s1.1 33 = 0) (h1 : f3_answers s1 9 = some s2) (h2 : s2.1 32 = Int32.ofNat p1) (h3 : p1 ≤ T) (h4 : TpM s2 T bt) (h5 : p' = skp T bt p1) (h6 : isW T bt p' 21 = false) (h7 : isW T bt p' 22 = false) (h8 : f3_answers (ps s2 p') 10 = some s5) (h9 : f3_answers s5 11 = some s8) (K : Bl × Int32 × Int32 → Option Bl) : g3_test_9 K (s1, 0, 1) = bnd (f3_top s8) (fun r9 => if r9 = (12 : Int32) then bnd (f3_sign s8) (fun r10 => if r10 = (93 : Int32) then g3_test_164 K s8 0 1 else bnd (f3_fails s8 (0 : Int32) (s8.1 32)) (fun s12 => g3_test_164 K s12 0 1)) else K (s8, (0 : Int32), (0 : Int32))) := by
  have hq := skp_le (bt := bt) h3
  simp only [g3_test_9]
  rw [if_neg (by decide), if_pos h33, if_pos trivial, h1, bnd_s, f3_blanks_eq hB h4 h3 h2, bnd_s, ← h5]
  rw [f3_stood_eq hB h4.ps (by omega) ps_at (by omega), bnd_s, f3_stood_eq hB h4.ps (by omega) ps_at (by omega), bnd_s, h6, h7, h8, bnd_s, if_pos (show b2 false = 0 from rfl), if_pos (show b2 false = 0 from rfl), h9, bnd_s]
theorem fact_step {n : Nat} (hB : TpB T bt) (hsl : sl < 6) (hF : FaC T bt sl n) (hTs : TeC T bt sl n) : FaC T bt sl (n + 1) := by
  intro y s p c d e L h hk hL hn
  have hT := hB.1
  have hp := h.2.2.1.1
  have hd := h.2.2.1.2.2.1
  have he := h.2.2.1.2.2.2
  have hc := h.2.2.1.2.1
  have hq := skp_le (bt := bt) hp
  have hqp := skp_ge (T := T) (bt := bt) (p := p)
  have hqq := skp_skp (T := T) (bt := bt) (p := p)
  have hR := h.mv hqp hq
  have hkq : Sk (ps s (skp T bt p)) L := hk.ks (Ks.ps (sl := sl) (e := e))
  have turn : ∀ K : Bl × Int32 × Int32 → Option Bl, g3_test_9 K (s, 1, 1) = bnd2 (f3_fact s) (fun r13 s13 => if r13 = 0 then K (s13, (1 : Int32), (1 : Int32)) else K (s13, (0 : Int32), (1 : Int32))) := turn_fact h.2.1.2.1
  have ef : f3_fact s = (if isW T bt (skp T bt p) 20 = true then bnd (f3_opens (ps s (skp T bt p)) 9) (fun s6 => some ((0 : Int32), bI s6 32 (s6.1 32 + 3))) else if sgn T bt (skp T bt p) = 91 then bnd (f3_opens (ps s (skp T bt p)) 12) (fun s5 => some ((0 : Int32), bI s5 32 (s5.1 32 + 1))) else bnd (f3_compared (ps s (skp T bt p))) (fun s4 => some ((1 : Int32), s4))) := by
    unfold f3_fact
    rw [f3_blanks_eq hB h.2.2.2.2 hp h.2.1.1, bnd_s, f3_stood_eq hB hR.2.2.2.2 hq ps_at (by omega), bnd_s, if_bit, f3_sign_eq hB hR.2.2.2.2 hq ps_at, bnd_s]
  have eo : f4_fact (n + 1) y = (if isW T bt (skp T bt p) 20 = true then bndXc (f4_opens (nx y (skp T bt p)) (Int32.ofNat (skp T bt p))) (fun s3 => cnt 1 1 (bndC (f4_fact n (upX s3 14 (bI (s3 14) 2 ((s3 14).1 2 + (3 : Int32))))) (fun t s5 => some (.inr (((fun wds => !t.1 wds), t.2 + 1), upX s5 14 (bI (s5 14) 3 ((s5 14).1 3 - (1 : Int32)))), (0, 0))))) else if sgn T bt (skp T bt p) = 91 then bndXc (f4_opens (nx y (skp T bt p)) (Int32.ofNat (skp T bt p))) (fun s3 => bndC (fB (fB (f4_fact n) 21 1) 22 0 (upX s3 14 (bI (s3 14) 2 ((s3 14).1 2 + (1 : Int32))))) (fun t s4 => bnd2 (f4_takesSign s4 93) (fun r5 s5 => bndXc (f4_demand s5 r5 0 ((s5 14).1 2)) (fun s6 => some (.inr (t, upX s6 14 (bI (s6 14) 3 ((s6 14).1 3 - (1 : Int32)))), (0, 0)))))) else f4_comp (nx y (skp T bt p))) := by
    show bnd2 (f4_see y) _ = _
    rw [f4_see_eq hB h.2.2.2.1 hp h.1.1, bnd2_s, f4_isWord_eq hB hR.2.2.2.1 hq nx_at (by omega), hqq, nx_nx, bnd2_s, if_bit, nx_at]
    by_cases cw : isW T bt (skp T bt p) 20 = true
    · rw [if_pos cw, if_pos cw]
    · rw [if_neg cw, if_neg cw]
      by_cases c91 : sgn T bt (skp T bt p) = 91
      · rw [if_pos c91, if_pos c91]
      · rw [if_neg c91, if_neg c91]; rfl
  rw [eo]
  generalize skp T bt p = q at hq hqp hqq hR hkq turn ef eo ⊢
  have hOq := hR.2.2.2.1
  have hMq := hR.2.2.2.2
  have hnz := fun k (hk : k ≤ 4) => (fcd_nz (k := k) (pl := q) hk (by omega)).1
  by_cases cw : isW T bt q 20 = true
  · rw [if_pos cw] at ef ⊢
    have h3 : q + 3 ≤ T := isW_len hq cw
    rw [f3_opens_nb (d := d) (p := q) (Or.inl rfl) hkq.1 (by omega) hR.2.1.2.2.2.2.1 hd ps_at hR.2.1.2.1, bnd_s] at ef
    rw [f4_opens_eq hR.1.2.1 hd]
    by_cases c10 : d = 10
    · rw [if_pos c10] at ef ⊢
      left
      have fz : Fz sl s (bI (pushS (bI (bI (ps s q) 33 (fcd 2 q)) 37 (Int32.ofNat (d + 1))) L 9) 32 (Int32.ofNat (q + 3))) := ((((Kt.bi (sl := sl) (e := 0) (by omega)).trans (Kt.bi (by omega)) (Nat.le_refl 0)).trans (Kt.bi (by omega)) (Nat.le_refl 0)).trans pushS_kt (Nat.le_refl 0)).trans (Kt.bi (by omega)) (Nat.le_refl 0) |>.fz
      have e32 : (pushS (bI (bI (ps s q) 33 (fcd 2 q)) 37 (Int32.ofNat (d + 1))) L 9).1 32 + 3 = Int32.ofNat (q + 3) := by
        rw [pushS_f (by decide), show (3 : Int32) = Int32.ofNat 3 from rfl]
        show (ps s q).1 32 + _ = _
        rw [ps_at, ← Int32.ofNat_add]
      rw [e32] at ef
      exact TBd.mk2 (k := 2) (pl := q) (a := 0) (b := 0) (cc := 1) (w := 1) (on := 1) (y1 := nx y q) (fun j hj => nx_ne hj) rfl (Rch.step fun K => by rw [turn K, ef, bnd2_s, if_pos rfl]) (by omega) fz (by
        show (pushS (bI (bI (ps s q) 33 (fcd 2 q)) 37 (Int32.ofNat (d + 1))) L 9).1 33 = _
        rw [pushS_f (by decide)]; rfl) ⟨q + 3, by omega, bI_v⟩ (by omega) hq (by omega) (by omega)
    · rw [if_neg c10] at ef ⊢
      have hR1 := ((hR.deep (d2 := d + 1) (by omega)).push (L := L) (v := 9)).mv (show q ≤ q + 3 by omega) h3
      have hk1 : Sk (ps (pushS (bI (ps s q) 37 (Int32.ofNat (d + 1))) L 9) (q + 3)) (L ++ [9]) := (pushS_sk (s := bI (ps s q) 37 (Int32.ofNat (d + 1))) (fun i hi => hkq.2 i hi)).ks (Ks.ps (sl := sl) (e := e))
      have e32 : bI (pushS (bI (ps s q) 37 (Int32.ofNat (d + 1))) L 9) 32 ((pushS (bI (ps s q) 37 (Int32.ofNat (d + 1))) L 9).1 32 + 3) = ps (pushS (bI (ps s q) 37 (Int32.ofNat (d + 1))) L 9) (q + 3) := by
        have : (pushS (bI (ps s q) 37 (Int32.ofNat (d + 1))) L 9).1 32 + 3 = Int32.ofNat (q + 3) := by
          rw [pushS_f (by decide), show (3 : Int32) = Int32.ofNat 3 from rfl]
          show (ps s q).1 32 + _ = _
          rw [ps_at, ← Int32.ofNat_add]
        rw [this]; rfl
      rw [e32] at ef
      have kt1 : Kt sl e s (ps (pushS (bI (ps s q) 37 (Int32.ofNat (d + 1))) L 9) (q + 3)) := (((Kt.bi (by omega)).trans (Kt.bi (by omega)) (Nat.le_refl e)).trans pushS_kt (Nat.le_refl e)).trans (Kt.bi (by omega)) (Nat.le_refl e)
      have r1 : Rch g3_test_9 1 (s, 1, 1) (ps (pushS (bI (ps s q) 37 (Int32.ofNat (d + 1))) L 9) (q + 3), 1, 1) := Rch.step fun K => by rw [turn K, ef, bnd2_s, if_pos rfl]
      have ky1 : Ky y (nx (upX (nx y q) 14 (bI (nx y q 14) 3 (Int32.ofNat (d + 1)))) (q + 3)) := (Ky.nx.trans (Ky.cnt (by decide))).trans Ky.nx
      have e2 : upX (upX (nx y q) 14 (bI (nx y q 14) 3 (Int32.ofNat (d + 1)))) 14 (bI ((upX (nx y q) 14 (bI (nx y q 14) 3 (Int32.ofNat (d + 1)))) 14) 2 (((upX (nx y q) 14 (bI (nx y q 14) 3 (Int32.ofNat (d + 1)))) 14).1 2 + (3 : Int32))) = nx (upX (nx y q) 14 (bI (nx y q 14) 3 (Int32.ofNat (d + 1)))) (q + 3) := by
        have : ((upX (nx y q) 14 (bI (nx y q 14) 3 (Int32.ofNat (d + 1)))) 14).1 2 = Int32.ofNat q := by rw [upX_self]; exact nx_at (y := y)
        rw [this, show (3 : Int32) = Int32.ofNat 3 from rfl, ← Int32.ofNat_add]; rfl
      show TBd T sl y (s, 1, 1) s p (6 * c + p) (cnt 1 1 (bndC (f4_fact n (upX (upX (nx y q) 14 (bI (nx y q 14) 3 (Int32.ofNat (d + 1)))) 14 (bI ((upX (nx y q) 14 (bI (nx y q 14) 3 (Int32.ofNat (d + 1)))) 14) 2 (((upX (nx y q) 14 (bI (nx y q 14) 3 (Int32.ofNat (d + 1)))) 14).1 2 + (3 : Int32))))) _)) ∨ TGd T bt sl L y s p c d e (cnt 1 1 (bndC (f4_fact n (upX (upX (nx y q) 14 (bI (nx y q 14) 3 (Int32.ofNat (d + 1)))) 14 (bI ((upX (nx y q) 14 (bI (nx y q 14) 3 (Int32.ofNat (d + 1)))) 14) 2 (((upX (nx y q) 14 (bI (nx y q 14) 3 (Int32.ofNat (d + 1)))) 14).1 2 + (3 : Int32))))) _))
      rw [e2]
      generalize nx (upX (nx y q) 14 (bI (nx y q 14) 3 (Int32.ofNat (d + 1)))) (q + 3) = y1 at hR1 ky1 ⊢
      generalize ps (pushS (bI (ps s q) 37 (Int32.ofNat (d + 1))) L 9) (q + 3) = s1 at hR1 hk1 kt1 r1 ⊢
      rcases hF y1 s1 (q + 3) c (d + 1) e (L ++ [9]) hR1 hk1 (by rw [List.length_append]; show L.length + 1 ≤ q + 3; omega) (by omega) with hbad | hgood
      · left
        exact hbad.pre r1 (by omega) ky1 kt1.fz (by omega) (by omega)
      · right
        obtain ⟨y', f, cn, sa, sb, p', c', e', cc, ca, g1, g2, g3, g4, g5, g6, g7, g8, g9, g10, g11, ⟨g12, g13⟩, ⟨g14, g15⟩, g16⟩ := hgood
        have hc' := g7.2.2.1
        have w1 := (popS_rd (L := L) (v := 9) g7 (by omega)).deep (d2 := d) hd
        have hl2 : L.length < 401 := by omega
        have w2 := ans_not hsl g7 hT g8 hl2
        have e3 : (y' 14).1 3 - (1 : Int32) = Int32.ofNat d := by rw [g7.1.2.1, zI_pred (by omega), Nat.add_sub_cancel]
        refine ⟨upX y' 14 (bI (y' 14) 3 (Int32.ofNat d)), ((fun wds => !f.1 wds), f.2 + 1), (1 + (cn.1 + 0), 1 + (cn.2 + 0)), sa, bI (popS sb sl e' L 9) 37 (Int32.ofNat d), p', c', e' + 1, 1 + cc, ca + 1, ?_, r1.trans g2, by omega, g4, g5.trans w2, by omega, w1, (popS_sk g8).cg rfl rfl, (ky1.trans g9).trans (Ky.cnt (by decide)), ((kt1.trans g10 (Nat.le_refl e)).trans (popS_kt g15) (Nat.le_refl e)).trans (Kt.bi (by omega)) (Nat.le_refl e), ?_, ⟨by dsimp only; omega, by dsimp only; omega⟩, ⟨g14, by omega⟩, by omega⟩
        · rw [g1]
          show some (Sum.inr (((fun wds => !f.1 wds), f.2 + 1), upX y' 14 (bI (y' 14) 3 ((y' 14).1 3 - (1 : Int32)))), _) = _
          rw [e3]
        · have k1 : Kt sl e' sb (bI (popS sb sl e' L 9) 37 (Int32.ofNat d)) := (popS_kt (Nat.le_refl e')).trans (Kt.bi (by omega)) (Nat.le_refl e')
          have := (k1.ev g11).not (show soA (bI (popS sb sl e' L 9) 37 (Int32.ofNat d)).2.1 sl e' = 9 from popS_so (L := L))
          have ef2 : fT ((fun wds => !f.1 wds), f.2 + 1) = fun w => 1 - fT f w := by funext w; exact (tL_not _).symm
          rw [ef2]; exact this
  · rw [if_neg cw] at ef ⊢
    by_cases c91 : sgn T bt q = 91
    · rw [if_pos c91] at ef ⊢
      have hqT : q < T := ((sgn_c (p := q) hB (c := 91) (by omega)).mp c91).1
      rw [f3_opens_nb (d := d) (p := q) (Or.inr rfl) hkq.1 (by omega) hR.2.1.2.2.2.2.1 hd ps_at hR.2.1.2.1, bnd_s] at ef
      rw [f4_opens_eq hR.1.2.1 hd]
      by_cases c10 : d = 10
      · rw [if_pos c10] at ef ⊢
        left
        have fz : Fz sl s (bI (pushS (bI (bI (ps s q) 33 (fcd 2 q)) 37 (Int32.ofNat (d + 1))) L 12) 32 (Int32.ofNat (q + 1))) := ((((Kt.bi (sl := sl) (e := 0) (by omega)).trans (Kt.bi (by omega)) (Nat.le_refl 0)).trans (Kt.bi (by omega)) (Nat.le_refl 0)).trans pushS_kt (Nat.le_refl 0)).trans (Kt.bi (by omega)) (Nat.le_refl 0) |>.fz
        have e32 : (pushS (bI (bI (ps s q) 33 (fcd 2 q)) 37 (Int32.ofNat (d + 1))) L 12).1 32 + 1 = Int32.ofNat (q + 1) := by
          rw [pushS_f (by decide)]
          show (ps s q).1 32 + _ = _
          rw [ps_at, zI_succ]
        rw [e32] at ef
        exact TBd.mk2 (k := 2) (pl := q) (a := 0) (b := 0) (cc := 1) (w := 1) (on := 1) (y1 := nx y q) (fun j hj => nx_ne hj) rfl (Rch.step fun K => by rw [turn K, ef, bnd2_s, if_pos rfl]) (by omega) fz (by
          show (pushS (bI (bI (ps s q) 33 (fcd 2 q)) 37 (Int32.ofNat (d + 1))) L 12).1 33 = _
          rw [pushS_f (by decide)]; rfl) ⟨q + 1, by omega, bI_v⟩ (by omega) hq (by omega) (by omega)
      · rw [if_neg c10] at ef ⊢
        have hR1 := ((hR.deep (d2 := d + 1) (by omega)).push (L := L) (v := 12)).mv (show q ≤ q + 1 by omega) (show q + 1 ≤ T by omega)
        have hk1 : Sk (ps (pushS (bI (ps s q) 37 (Int32.ofNat (d + 1))) L 12) (q + 1)) (L ++ [12]) := (pushS_sk (s := bI (ps s q) 37 (Int32.ofNat (d + 1))) (fun i hi => hkq.2 i hi)).ks (Ks.ps (sl := sl) (e := e))
        have e32 : bI (pushS (bI (ps s q) 37 (Int32.ofNat (d + 1))) L 12) 32 ((pushS (bI (ps s q) 37 (Int32.ofNat (d + 1))) L 12).1 32 + 1) = ps (pushS (bI (ps s q) 37 (Int32.ofNat (d + 1))) L 12) (q + 1) := by
          have : (pushS (bI (ps s q) 37 (Int32.ofNat (d + 1))) L 12).1 32 + 1 = Int32.ofNat (q + 1) := by
            rw [pushS_f (by decide)]
            show (ps s q).1 32 + _ = _
            rw [ps_at, zI_succ]
          rw [this]; rfl
        rw [e32] at ef
        have kt1 : Kt sl e s (ps (pushS (bI (ps s q) 37 (Int32.ofNat (d + 1))) L 12) (q + 1)) := (((Kt.bi (by omega)).trans (Kt.bi (by omega)) (Nat.le_refl e)).trans pushS_kt (Nat.le_refl e)).trans (Kt.bi (by omega)) (Nat.le_refl e)
        have r1 : Rch g3_test_9 1 (s, 1, 1) (ps (pushS (bI (ps s q) 37 (Int32.ofNat (d + 1))) L 12) (q + 1), 1, 1) := Rch.step fun K => by rw [turn K, ef, bnd2_s, if_pos rfl]
        have ky1 : Ky y (nx (upX (nx y q) 14 (bI (nx y q 14) 3 (Int32.ofNat (d + 1)))) (q + 1)) := (Ky.nx.trans (Ky.cnt (by decide))).trans Ky.nx
        have e2 : upX (upX (nx y q) 14 (bI (nx y q 14) 3 (Int32.ofNat (d + 1)))) 14 (bI ((upX (nx y q) 14 (bI (nx y q 14) 3 (Int32.ofNat (d + 1)))) 14) 2 (((upX (nx y q) 14 (bI (nx y q 14) 3 (Int32.ofNat (d + 1)))) 14).1 2 + (1 : Int32))) = nx (upX (nx y q) 14 (bI (nx y q 14) 3 (Int32.ofNat (d + 1)))) (q + 1) := by
          have : ((upX (nx y q) 14 (bI (nx y q 14) 3 (Int32.ofNat (d + 1)))) 14).1 2 = Int32.ofNat q := by rw [upX_self]; exact nx_at (y := y)
          rw [this, zI_succ]; rfl
        rw [← @cnt_00 Tf (bndXc _ _)]
        show TBd T sl y (s, 1, 1) s p (6 * c + p) (cnt 0 0 (bndC (fB (fB (f4_fact n) 21 1) 22 0 (upX (upX (nx y q) 14 (bI (nx y q 14) 3 (Int32.ofNat (d + 1)))) 14 (bI ((upX (nx y q) 14 (bI (nx y q 14) 3 (Int32.ofNat (d + 1)))) 14) 2 (((upX (nx y q) 14 (bI (nx y q 14) 3 (Int32.ofNat (d + 1)))) 14).1 2 + (1 : Int32))))) _)) ∨ TGd T bt sl L y s p c d e (cnt 0 0 (bndC (fB (fB (f4_fact n) 21 1) 22 0 (upX (upX (nx y q) 14 (bI (nx y q 14) 3 (Int32.ofNat (d + 1)))) 14 (bI ((upX (nx y q) 14 (bI (nx y q 14) 3 (Int32.ofNat (d + 1)))) 14) 2 (((upX (nx y q) 14 (bI (nx y q 14) 3 (Int32.ofNat (d + 1)))) 14).1 2 + (1 : Int32))))) _))
        rw [e2]
        generalize nx (upX (nx y q) 14 (bI (nx y q 14) 3 (Int32.ofNat (d + 1)))) (q + 1) = y1 at hR1 ky1 ⊢
        generalize ps (pushS (bI (ps s q) 37 (Int32.ofNat (d + 1))) L 12) (q + 1) = s1 at hR1 hk1 kt1 r1 ⊢
        rcases hTs y1 s1 (q + 1) c (d + 1) e (L ++ [12]) hR1 hk1 (by rw [List.length_append]; show L.length + 1 ≤ q + 1; omega) (by omega) (by rw [tpL_app]; decide) with hbad | hgood
        · left
          exact hbad.pre r1 (by omega) ky1 kt1.fz (by omega) (by omega)
        · obtain ⟨y', f, cn, sa, s2, s5, s8, p1, p', c', e', cc, g1, g2, g3, g4, ⟨t1, t2, t3, t4, t5⟩, ⟨t6, t7⟩, ⟨t8, t9⟩, g7, g8, g9, g10, g11, ⟨g12, g13⟩, ⟨g14, g15⟩, g16⟩ := hgood
          have hp' := g7.2.2.1.1
          have hqq' : skp T bt p' = p' := by rw [t5]; exact skp_skp
          have hend := turn_end hB g4 t1 t2 t3 t4 t5 t6 t7 t8 t9
          have htop : f3_top s8 = some 12 := by rw [f3_top_eq g8 (by rw [List.length_append]; show L.length + 1 ≤ 402; omega), tpL_app]
          rw [g1]
          by_cases c93 : sgn T bt p' = 93
          · right
            have hpT : p' < T := ((sgn_c (p := p') hB (c := 93) (by omega)).mp c93).1
            have w1 := (g7.mv (show p' ≤ p' + 1 by omega) (show p' + 1 ≤ T by omega)).deep (d2 := d) hd
            have e39 : (ps s8 (p' + 1)).1 39 - (1 : Int32) = Int32.ofNat L.length := by
              rw [ps_f (by decide), g8.1, List.length_append]
              show Int32.ofNat (L.length + 1) - 1 = _
              rw [zI_pred (by omega), Nat.add_sub_cancel]
            have e37 : (ps s8 (p' + 1)).1 37 - (1 : Int32) = Int32.ofNat d := by
              rw [ps_f (by decide), g7.2.1.2.2.2.2.1, zI_pred (by omega), Nat.add_sub_cancel]
            have r3 : Rch g3_test_9 1 (sa, 0, 1) (bI (bI (ps s8 (p' + 1)) 39 (Int32.ofNat L.length)) 37 (Int32.ofNat d), 0, 1) := Rch.step fun K => by
              rw [hend K, htop, bnd_s, if_pos rfl, f3_sign_eq hB g7.2.2.2.2 hp' g7.2.1.1, bnd_s, if_pos c93]
              unfold g3_test_164
              rw [ltv_s]
              have x1 : bI s8 32 (s8.1 32 + 1) = ps s8 (p' + 1) := by rw [g7.2.1.1, zI_succ]; rfl
              rw [x1, e39]
              show K (bI (bI (ps s8 (p' + 1)) 39 (Int32.ofNat L.length)) 37 ((ps s8 (p' + 1)).1 37 - 1), 0, 1) = _
              rw [e37]
            have e3 : (nx y' (p' + 1) 14).1 3 - (1 : Int32) = Int32.ofNat d := by rw [nx_f (by decide), g7.1.2.1, zI_pred (by omega), Nat.add_sub_cancel]
            have w3 : RdS T bt sl (upX (nx y' (p' + 1)) 14 (bI (nx y' (p' + 1) 14) 3 (Int32.ofNat d))) (bI (bI (ps s8 (p' + 1)) 39 (Int32.ofNat L.length)) 37 (Int32.ofNat d)) (p' + 1) c' d e' := by
              obtain ⟨a, ⟨b1, b2, b3, b4, b5, b6, b7⟩, cx, z1, z2⟩ := w1
              exact ⟨a, ⟨b1, b2, b3, b4, b5, b6, b7⟩, cx, z1, z2⟩
            have kt3 : Kt sl e' s8 (bI (bI (ps s8 (p' + 1)) 39 (Int32.ofNat L.length)) 37 (Int32.ofNat d)) := ((Kt.bi (by omega)).trans (Kt.bi (by omega)) (Nat.le_refl _)).trans (Kt.bi (by omega)) (Nat.le_refl _)
            refine ⟨upX (nx y' (p' + 1)) 14 (bI (nx y' (p' + 1) 14) 3 (Int32.ofNat d)), f, (0 + (cn.1 + 0), 0 + (cn.2 + 0)), _, _, p' + 1, c', e', (1 + cc) + 1, 0, ?_, (r1.trans g2).trans r3, by omega, g7.2.1.2.1, Rch.refl, by omega, w3, ⟨rfl, fun i hi => g8.app i hi⟩, ((ky1.trans g9).trans Ky.nx).trans (Ky.cnt (by decide)), (kt1.trans g10 (Nat.le_refl e)).trans kt3 g15, kt3.ev g11, ⟨by dsimp only; omega, by dsimp only; omega⟩, ⟨g14, g15⟩, by omega⟩
            show cnt 0 0 (cnt cn.1 cn.2 (bnd2 (f4_takesSign y' 93) _)) = _
            rw [f4_takesSign_eq hB g7.2.2.2.1 hp' g7.1.1, hqq', if_pos c93, bnd2_s, f4_demand_t]
            show some (Sum.inr (f, upX (nx y' (p' + 1)) 14 (bI (nx y' (p' + 1) 14) 3 ((nx y' (p' + 1) 14).1 3 - (1 : Int32)))), _) = _
            rw [e3]
          · left
            have e1 : cnt 0 0 (bndC (some (Sum.inr (f, y'), cn)) (fun t s4 => bnd2 (f4_takesSign s4 93) (fun r5 s5 => bndXc (f4_demand s5 r5 0 ((s5 14).1 2)) (fun s6 => (some (.inr (t, upX s6 14 (bI (s6 14) 3 ((s6 14).1 3 - (1 : Int32)))), (0, 0)) : Option (Cn Tf)))))) = some (.inl (flt y' (Int32.ofNat 0) (Int32.ofNat p')), (0 + (cn.1 + 0), 0 + (cn.2 + 0))) := by
              show cnt 0 0 (cnt cn.1 cn.2 (bnd2 (f4_takesSign y' 93) _)) = _
              rw [f4_takesSign_eq hB g7.2.2.2.1 hp' g7.1.1, hqq', if_neg c93, bnd2_s, nx_id g7.1.1, f4_demand_f, g7.1.1]
              rfl
            have ktb : Kt sl e' s8 (bI (bI (bI (bI s8 33 (fcd 0 p')) 32 (Int32.ofNat p' + 1)) 39 ((bI (bI s8 33 (fcd 0 p')) 32 (Int32.ofNat p' + 1)).1 39 - 1)) 37 ((bI (bI (bI s8 33 (fcd 0 p')) 32 (Int32.ofNat p' + 1)) 39 ((bI (bI s8 33 (fcd 0 p')) 32 (Int32.ofNat p' + 1)).1 39 - 1)).1 37 - 1)) := (((Kt.bi (by omega)).trans (Kt.bi (by omega)) (Nat.le_refl _)).trans (Kt.bi (by omega)) (Nat.le_refl _)).trans (Kt.bi (by omega)) (Nat.le_refl _)
            have r3 : Rch g3_test_9 1 (sa, 0, 1) (bI (bI (bI (bI s8 33 (fcd 0 p')) 32 (Int32.ofNat p' + 1)) 39 ((bI (bI s8 33 (fcd 0 p')) 32 (Int32.ofNat p' + 1)).1 39 - 1)) 37 ((bI (bI (bI s8 33 (fcd 0 p')) 32 (Int32.ofNat p' + 1)) 39 ((bI (bI s8 33 (fcd 0 p')) 32 (Int32.ofNat p' + 1)).1 39 - 1)).1 37 - 1), 0, 1) := Rch.step fun K => by
              rw [hend K, htop, bnd_s, if_pos rfl, f3_sign_eq hB g7.2.2.2.2 hp' g7.2.1.1, bnd_s, if_neg c93, g7.2.1.1, show (0 : Int32) = Int32.ofNat 0 from rfl, f3_fails_good g7.2.1.2.1, bnd_s]
              unfold g3_test_164
              rw [ltv_s]
              have x1 : (bI s8 33 (fcd 0 p')).1 32 = Int32.ofNat p' := g7.2.1.1
              rw [x1]
            have hc9 := g7.2.2.1
            exact TBd.mk2 (k := 0) (pl := p') (y1 := y') (fun j hj => (ky1.trans g9).1 j hj) e1 ((r1.trans g2).trans r3) (by omega) ((kt1.trans g10 (Nat.le_refl e)).trans ktb g15).fz rfl ⟨p' + 1, by omega, zI_succ p'⟩ (by omega) hp' (by omega) (by omega)
    · rw [if_neg c91] at ef ⊢
      rcases comp_sim hB hsl hR with ⟨y', k, pl, cn, s', h1, h2, h3, h4, h5, h6, h7, h8, h9, h10⟩ | ⟨y', f, cn, s', p', c', e', h1, h2, h3, h4, h5, h6, ⟨h7, h8⟩, ⟨h9, h10⟩, h11, h12⟩
      · left
        rw [h2, bnd_s] at ef
        exact ⟨y', k, pl, cn, s', 0, 1, 1, h1, Rch.step fun K => by rw [turn K, ef, bnd2_s, if_neg (by decide)], by omega, fun j j1 j2 => (h3 j j1 j2).trans (nx_ne j2), h4, (Ks.ps (e := 0)).fz.trans h5, h6, (by obtain ⟨p2, a1, a2⟩ := h7; exact ⟨p2, by omega, a2⟩), h8, by omega, by omega⟩
      · right
        rw [h2, bnd_s] at ef
        exact ⟨y', f, cn, s', s', p', c', e', 1, 0, h1, Rch.step fun K => by rw [turn K, ef, bnd2_s, if_neg (by decide)], by have := h6.lt; omega, h3.2.1.2.1, Rch.refl, by omega, h3, hkq.ks h5, Ky.nx.trans h4, (Ks.ps.trans h5 (Nat.le_refl e)).kt, h6, ⟨by omega, by omega⟩, ⟨h9, h10⟩, by omega⟩
end P

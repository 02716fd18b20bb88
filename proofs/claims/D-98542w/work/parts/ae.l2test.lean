/-! PLAIN LAW: tests, read by both -/
set_option maxRecDepth 100000
def PGd (T : Nat) (bt : Nat → Int32) (sl : Nat) (L : List Int32) (σ : Bl × Int32 × Int32) (sB : Bl) (eB : Nat) (y : Nat → Bl) (p c d e g : Nat) (o : Option (Cn Tf)) : Prop := ∃ (y' : Nat → Bl) (f : Tf) (cn : Nat × Nat) (s1 s2 s5 : Bl) (p1 p' c' e' cc : Nat), o = some (.inr (f, y'), cn) ∧ Rch g3_test_9 cc σ (s1, 0, 1) ∧ cc + (6 * c + p) ≤ 6 * c' + p' ∧ s1.1 33 = 0 ∧ (f3_answers s1 9 = some s2 ∧ s2.1 32 = Int32.ofNat p1 ∧ p1 ≤ T ∧ TpM s2 T bt ∧ p' = skp T bt p1) ∧ isW T bt p' 21 = false ∧ f3_answers (ps s2 p') 10 = some s5 ∧ RdS T bt sl y' s5 p' c' d e' ∧ Sk s5 L ∧ Ky y y' ∧ Kt sl eB sB s5 ∧ EV (soA s5.2.1 sl) (nuA s5.2.1 sl) eB e' (fT f) ∧ (cn.1 + p ≤ p' ∧ cn.2 + 3 * p ≤ 3 * p') ∧ (c ≤ c' ∧ e ≤ e') ∧ 3 * e' + 6 * c + p + 3 * g ≤ 3 * e + 6 * c' + p'
def PaC (T : Nat) (bt : Nat → Int32) (sl n : Nat) : Prop := ∀ (y : Nat → Bl) (s : Bl) (p c d e : Nat) (L : List Int32), RdS T bt sl y s p c d e → Sk s L → L.length ≤ p → 11 ≤ n + d → (¬ tpL L = 9 ∧ ¬ tpL L = 10) → TBd T sl y (s, 1, 1) s p (6 * c + p) (fB (f4_fact n) 21 1 y) ∨ PGd T bt sl L (s, 1, 1) s e y p c d e 1 (fB (f4_fact n) 21 1 y)
theorem tL_and (a b : Bool) : bop 10 (tL a) (tL b) = tL (bothV 1 a b) := by cases a <;> cases b <;> rfl
theorem tL_or (a b : Bool) : bop 11 (tL a) (tL b) = tL (bothV 0 a b) := by cases a <;> cases b <;> rfl
section P
variable {T : Nat} {bt : Nat → Int32} {sl : Nat} {y : Nat → Bl} {s : Bl} {p c d e : Nat} {L : List Int32}
theorem and_not_or (h : isW T bt p 21 = true) : isW T bt p 22 = false := by
  unfold isW at h ⊢
  rw [Bool.and_eq_true, decide_eq_true_iff] at h
  have h1 : lnN T bt p = 3 := h.1
  rw [h1]; rfl
/-- a turn that goes on with "and" -/
theorem turn_and (hB : TpB T bt) {s1 s2 s5 : Bl} {p1 q : Nat} (h33 : s1.1 33 = 0) (h1 : f3_answers s1 9 = some s2) (h2 : s2.1 32 = Int32.ofNat p1) (h3 : p1 ≤ T) (h4 : TpM s2 T bt) (h5 : q = skp T bt p1) (h6 : isW T bt q 21 = true) (h8 : f3_answers (ps s2 q) 10 = some s5) (hk : Sk s5 L) (hl : L.length < 402) (h32 : s5.1 32 = Int32.ofNat q) (K : Bl × Int32 × Int32 → Option Bl) : g3_test_9 K (s1, 0, 1) = K (ps (pushS s5 L 10) (q + 3), 1, 1) := by
  have hq := skp_le (bt := bt) h3
  simp only [g3_test_9]
  rw [if_neg (by decide), if_pos h33, if_pos trivial, h1, bnd_s, f3_blanks_eq hB h4 h3 h2, bnd_s, ← h5]
  rw [f3_stood_eq hB h4.ps (by omega) ps_at (by omega), bnd_s, f3_stood_eq hB h4.ps (by omega) ps_at (by omega), bnd_s, h6, and_not_or h6, h8, bnd_s, if_neg (show ¬ b2 true = 0 by decide)]
  unfold g3_test_82
  rw [if_pos (show b2 false = 0 from rfl), if_neg (show ¬ b2 true = 0 by decide)]
  unfold g3_test_105
  rw [f3_opens_ao (Or.inl rfl) hk.1 hl, bnd_s, if_neg (show ¬ b2 true = 0 by decide), pushS_f (by decide), h32, show (3 : Int32) = Int32.ofNat 3 from rfl, ← Int32.ofNat_add]
  rfl
theorem turn_or (hB : TpB T bt) {s1 s2 s5 s8 : Bl} {p1 q : Nat} (h33 : s1.1 33 = 0) (h1 : f3_answers s1 9 = some s2) (h2 : s2.1 32 = Int32.ofNat p1) (h3 : p1 ≤ T) (h4 : TpM s2 T bt) (h5 : q = skp T bt p1) (h6 : isW T bt q 21 = false) (h7 : isW T bt q 22 = true) (h8 : f3_answers (ps s2 q) 10 = some s5) (h9 : f3_answers s5 11 = some s8) (hk : Sk s8 L) (hl : L.length < 402) (h32 : s8.1 32 = Int32.ofNat q) (K : Bl × Int32 × Int32 → Option Bl) : g3_test_9 K (s1, 0, 1) = K (ps (pushS s8 L 11) (q + 2), 1, 1) := by
  have hq := skp_le (bt := bt) h3
  simp only [g3_test_9]
  rw [if_neg (by decide), if_pos h33, if_pos trivial, h1, bnd_s, f3_blanks_eq hB h4 h3 h2, bnd_s, ← h5]
  rw [f3_stood_eq hB h4.ps (by omega) ps_at (by omega), bnd_s, f3_stood_eq hB h4.ps (by omega) ps_at (by omega), bnd_s, h6, h7, h8, bnd_s, if_pos (show b2 false = 0 from rfl), if_neg (show ¬ b2 true = 0 by decide)]
  unfold g3_test_82
  rw [if_neg (show ¬ b2 true = 0 by decide), h9, bnd_s, if_pos (show b2 false = 0 from rfl)]
  unfold g3_test_105
  rw [f3_opens_ao (Or.inr rfl) hk.1 hl, bnd_s, if_pos (show b2 false = 0 from rfl), pushS_f (by decide), h32, show (2 : Int32) = Int32.ofNat 2 from rfl, ← Int32.ofNat_add]
  rfl
/-- a pending and is answered, wherever it stands -/
theorem pend {v : Int32} (hv : v = 10 ∨ v = 11) (hT : T ≤ 400) (hsl : sl < 6) {y : Nat → Bl} {s : Bl} (h : RdS T bt sl y s p c d e) (hk : Sk s (L ++ [v])) (hl : L.length < 401) (hL : ¬ tpL L = v) : f3_answers s v = some (popS s sl e L v) :=
  f3_answers_of (ans_ao hv hsl h hT hk hl) (by decide) (popS_sk hk) (by omega) hL
theorem and_loop {n : Nat} (hB : TpB T bt) (hsl : sl < 6) (hF : FaC T bt sl n) (hd : 11 ≤ n + d) {sB : Bl} {eB : Nat} (hLt : ¬ tpL L = 9 ∧ ¬ tpL L = 10) : ∀ (m p : Nat) (y : Nat → Bl) (s1 s2 : Bl) (c e : Nat) (t : Tf), T - p < m → L.length ≤ p → eB ≤ e → s1.1 33 = 0 → f3_answers s1 9 = some s2 → s2.1 32 = Int32.ofNat p → TpM s2 T bt → (y 14).1 2 = Int32.ofNat p → TpO y T bt → p ≤ T → (∀ q, p ≤ q → q ≤ T → ∃ s5, f3_answers (ps s2 q) 10 = some s5 ∧ RdS T bt sl (nx y q) s5 q c d e ∧ Sk s5 L ∧ Kt sl eB sB s5 ∧ EV (soA s5.2.1 sl) (nuA s5.2.1 sl) eB e (fT t)) → TBd T sl y (s1, 0, 1) sB p (6 * c + p) (loop (gB (f4_fact n) 21 1) m (t, y)) ∨ PGd T bt sl L (s1, 0, 1) sB eB y p c d e 0 (loop (gB (f4_fact n) 21 1) m (t, y)) := by
  intro m
  induction m with
  | zero => intro p y s1 s2 c e t hm; omega
  | succ m ih =>
    intro p y s1 s2 c e t hm hLp heB h33 h9 h32 hM hy2 hO hp hI
    have hT := hB.1
    have hq := skp_le (bt := bt) hp
    have hqp := skp_ge (T := T) (bt := bt) (p := p)
    obtain ⟨s5, i1, i2, i3, i4, i5⟩ := hI (skp T bt p) hqp hq
    show TBd T sl y (s1, 0, 1) sB p (6 * c + p) (gB (f4_fact n) 21 1 (loop (gB (f4_fact n) 21 1) m) (t, y)) ∨ PGd T bt sl L (s1, 0, 1) sB eB y p c d e 0 (gB (f4_fact n) 21 1 (loop (gB (f4_fact n) 21 1) m) (t, y))
    simp only [gB]
    rw [f4_takesWord_eq hB hO hp hy2 (by omega)]
    cases hw : isW T bt (skp T bt p) 21 with
    | false =>
      right
      exact ⟨nx y (skp T bt p), t, (0, 0), s1, s2, s5, p, skp T bt p, c, e, 0, rfl, Rch.refl, by omega, h33, ⟨h9, h32, hp, hM, rfl⟩, hw, i1, i2, i3, Ky.nx, i4, i5, ⟨by dsimp only; omega, by dsimp only; omega⟩, ⟨Nat.le_refl _, Nat.le_refl _⟩, by omega⟩
    | true =>
      have h3 : skp T bt p + 3 ≤ T := isW_len hq hw
      have r1 : Rch g3_test_9 1 (s1, 0, 1) (ps (pushS s5 L 10) (skp T bt p + 3), 1, 1) := Rch.step fun K => turn_and hB h33 h9 h32 hp hM rfl hw i1 i3 (by omega) i2.2.1.1 K
      have hR1 := (i2.push (L := L) (v := 10)).mv (show skp T bt p ≤ skp T bt p + 3 by omega) h3
      rw [nx_nx] at hR1
      have hk1 : Sk (ps (pushS s5 L 10) (skp T bt p + 3)) (L ++ [10]) := (pushS_sk i3.2).ks (Ks.ps (sl := sl) (e := e))
      have kt1 : Kt sl e s5 (ps (pushS s5 L 10) (skp T bt p + 3)) := pushS_kt.trans (Kt.bi (by omega)) (Nat.le_refl e)
      rw [if_pos rfl, bnd2_s, if_neg (show ¬ (1 : Int32) = 0 by decide)]
      show TBd T sl y (s1, 0, 1) sB p (6 * c + p) (cnt 1 3 (bndC (f4_fact n (nx y (skp T bt p + 3))) _)) ∨ PGd T bt sl L (s1, 0, 1) sB eB y p c d e 0 (cnt 1 3 (bndC (f4_fact n (nx y (skp T bt p + 3))) _))
      generalize skp T bt p = q at hq hqp i1 i2 hw h3 r1 hR1 hk1 kt1 ⊢
      generalize ps (pushS s5 L 10) (q + 3) = s6 at r1 hR1 hk1 kt1
      rcases hF (nx y (q + 3)) s6 (q + 3) c d e (L ++ [10]) hR1 hk1 (by rw [List.length_append]; show L.length + 1 ≤ q + 3; omega) hd with hbad | hgood
      · left
        exact hbad.pre r1 (by omega) Ky.nx (i4.fz.trans kt1.fz) (by omega) (by omega)
      · obtain ⟨y3, f3, cn, sa, sb, p3, c3, e3, cc, ca, g1, g2, g3, g4, g5, g6, g7, g8, g9, g10, g11, ⟨g12, g13⟩, ⟨g14, g15⟩, g16⟩ := hgood
        have hc3 := g7.2.2.1
        have hi2 := i2.2.2.1
        have ha9 : f3_answers sa 9 = some sb := f3_answers_of g5 (by omega) g8 (by rw [List.length_append]; show L.length + 1 ≤ 402; omega) (by rw [tpL_app]; decide)
        rw [g1]
        show TBd T sl y (s1, 0, 1) sB p (6 * c + p) (cnt 1 3 (cnt cn.1 cn.2 (loop (gB (f4_fact n) 21 1) m (bothF 1 t f3, y3)))) ∨ PGd T bt sl L (s1, 0, 1) sB eB y p c d e 0 (cnt 1 3 (cnt cn.1 cn.2 (loop (gB (f4_fact n) 21 1) m (bothF 1 t f3, y3))))
        have hnew := ih p3 y3 sa sb c3 (e3 + 1) (bothF 1 t f3) (by omega) (by omega) (by omega) g4 ha9 g7.2.1.1 g7.2.2.2.2 g7.1.1 g7.2.2.2.1 hc3.1 (fun q' hq1 hq2 => by
          have w1 := g7.mv hq1 hq2
          have w2 : Sk (ps sb q') (L ++ [10]) := g8.ks (Ks.ps (sl := sl) (e := e3))
          have w3 := popS_rd (L := L) (v := 10) w1 (by omega)
          have k5 : Kt sl e s5 (popS (ps sb q') sl e3 L 10) := ((kt1.trans g10 (Nat.le_refl e)).trans Ks.ps.kt g15).trans (popS_kt (Nat.le_refl e3)) g15
          refine ⟨popS (ps sb q') sl e3 L 10, pend (Or.inl rfl) hT hsl w1 w2 (by omega) hLt.2, w3, popS_sk w2, i4.trans k5 heB, ?_⟩
          have ha := k5.ev i5
          have hb := (Ks.ps.kt.trans (popS_kt (s := ps sb q') (sl := sl) (e := e3) (L := L) (v := 10) (Nat.le_refl e3)) (Nat.le_refl e3)).ev g11
          have := ha.bin hb (popS_so (s := ps sb q') (L := L)) (by decide : ¬ (10 : Int32) = 0 ∧ ¬ (10 : Int32) = 1 ∧ ¬ (10 : Int32) = 9)
          have ef : fT (bothF 1 t f3) = fun w => bop 10 (fT t w) (fT f3 w) := by funext w; exact (tL_and _ _).symm
          rw [ef]; exact this)
        rcases hnew with ⟨y', k, pl, cn2, sb2, w, on, c2, h1, h2, h3', h4, h5, h6, h7, h8, h9', h10, h11⟩ | ⟨y', f, cn2, sx1, sx2, sx5, px1, p', c', e', c2, h1, h2, h3', h4, h5, h6, h7, h8, h9', h10, h11, h12, ⟨h13, h14⟩, ⟨h15, h16⟩, h17⟩
        · left
          refine ⟨y', k, pl, (1 + (cn.1 + cn2.1), 3 + (cn.2 + cn2.2)), sb2, w, on, (1 + cc) + c2, by rw [h1]; rfl, (r1.trans g2).trans h2, by omega, fun j j1 j2 => ((h4 j j1 j2).trans (g9.1 j j2)).trans (nx_ne j2), h5, h6, h7, h8, h9', by dsimp only; omega, by dsimp only; omega⟩
        · right
          refine ⟨y', f, (1 + (cn.1 + cn2.1), 3 + (cn.2 + cn2.2)), sx1, sx2, sx5, px1, p', c', e', (1 + cc) + c2, by rw [h1]; rfl, (r1.trans g2).trans h2, by omega, h4, h5, h6, h7, h8, h9', (Ky.nx.trans g9).trans h10, h11, h12, ⟨by dsimp only; omega, by dsimp only; omega⟩, ⟨by omega, by omega⟩, by omega⟩
theorem parts_step {n : Nat} (hB : TpB T bt) (hsl : sl < 6) (hF : FaC T bt sl n) : PaC T bt sl n := by
  intro y s p c d e L h hk hL hn hLt
  have hT := hB.1
  have hFU := FU_big
  unfold fB
  rcases hF y s p c d e L h hk hL hn with hbad | hgood
  · left
    rw [← @cnt_00 Tf (bndC (f4_fact n y) _)]
    exact hbad.pre Rch.refl (by omega) Ky.refl Fz.refl (by omega) (by omega)
  · obtain ⟨y3, f3, cn, sa, sb, p3, c3, e3, cc, ca, g1, g2, g3, g4, g5, g6, g7, g8, g9, g10, g11, ⟨g12, g13⟩, ⟨g14, g15⟩, g16⟩ := hgood
    have hc3 := g7.2.2.1
    have ha9 : f3_answers sa 9 = some sb := f3_answers_of g5 (by omega) g8 (by omega) hLt.1
    rw [g1]
    show TBd T sl y (s, 1, 1) s p (6 * c + p) (cnt cn.1 cn.2 (loop (gB (f4_fact n) 21 1) FU (f3, y3))) ∨ PGd T bt sl L (s, 1, 1) s e y p c d e 1 (cnt cn.1 cn.2 (loop (gB (f4_fact n) 21 1) FU (f3, y3)))
    have hnew := and_loop (sB := s) (eB := e) hB hsl hF hn hLt FU p3 y3 sa sb c3 e3 f3 (by omega) (by omega) g15 g4 ha9 g7.2.1.1 g7.2.2.2.2 g7.1.1 g7.2.2.2.1 hc3.1 (fun q' hq1 hq2 => by
      have w1 := g7.mv hq1 hq2
      have w2 : Sk (ps sb q') L := g8.ks (Ks.ps (sl := sl) (e := e3))
      exact ⟨ps sb q', Rch.refl.fin (by decide) (ans_stop w2 (by omega) hLt.2), w1, w2, g10.trans Ks.ps.kt g15, Ks.ps.kt.ev g11⟩)
    rcases hnew with ⟨y', k, pl, cn2, sb2, w, on, c2, h1, h2, h3', h4, h5, h6, h7, h8, h9', h10, h11⟩ | ⟨y', f, cn2, sx1, sx2, sx5, px1, p', c', e', c2, h1, h2, h3', h4, h5, h6, h7, h8, h9', h10, h11, h12, ⟨h13, h14⟩, ⟨h15, h16⟩, h17⟩
    · left
      refine ⟨y', k, pl, (cn.1 + cn2.1, cn.2 + cn2.2), sb2, w, on, cc + c2, by rw [h1]; rfl, g2.trans h2, by omega, fun j j1 j2 => (h4 j j1 j2).trans (g9.1 j j2), h5, h6, h7, h8, h9', by dsimp only; omega, by dsimp only; omega⟩
    · right
      refine ⟨y', f, (cn.1 + cn2.1, cn.2 + cn2.2), sx1, sx2, sx5, px1, p', c', e', cc + c2, by rw [h1]; rfl, g2.trans h2, by omega, h4, h5, h6, h7, h8, h9', g9.trans h10, h11, h12, ⟨by dsimp only; omega, by dsimp only; omega⟩, ⟨by omega, by omega⟩, by omega⟩
end P

/-! PLAIN LAW: tests, read by both: whole tests -/
set_option maxRecDepth 100000
section P
variable {T : Nat} {bt : Nat → Int32} {sl : Nat} {y : Nat → Bl} {s : Bl} {p c d e : Nat} {L : List Int32}
def TTe (T : Nat) (bt : Nat → Int32) (sl : Nat) (L : List Int32) (σ : Bl × Int32 × Int32) (sB : Bl) (eB : Nat) (y : Nat → Bl) (p c d e g : Nat) (o : Option (Cn Tf)) : Prop := ∃ (y' : Nat → Bl) (f : Tf) (cn : Nat × Nat) (s1 s2 s5 s8 : Bl) (p1 p' c' e' cc : Nat), o = some (.inr (f, y'), cn) ∧ Rch g3_test_9 cc σ (s1, 0, 1) ∧ cc + (6 * c + p) ≤ 6 * c' + p' ∧ s1.1 33 = 0 ∧ (f3_answers s1 9 = some s2 ∧ s2.1 32 = Int32.ofNat p1 ∧ p1 ≤ T ∧ TpM s2 T bt ∧ p' = skp T bt p1) ∧ (isW T bt p' 21 = false ∧ isW T bt p' 22 = false) ∧ (f3_answers (ps s2 p') 10 = some s5 ∧ f3_answers s5 11 = some s8) ∧ RdS T bt sl y' s8 p' c' d e' ∧ Sk s8 L ∧ Ky y y' ∧ Kt sl eB sB s8 ∧ EV (soA s8.2.1 sl) (nuA s8.2.1 sl) eB e' (fT f) ∧ (cn.1 + p ≤ p' ∧ cn.2 + 3 * p ≤ 3 * p') ∧ (c ≤ c' ∧ e ≤ e') ∧ 3 * e' + 6 * c + p + 3 * g ≤ 3 * e + 6 * c' + p'
theorem or_loop {n : Nat} (hB : TpB T bt) (hsl : sl < 6) (hF : PaC T bt sl n) (hd : 11 ≤ n + d) {sB : Bl} {eB : Nat} (hLt : ¬ tpL L = 9 ∧ ¬ tpL L = 10 ∧ ¬ tpL L = 11) : ∀ (m p : Nat) (y : Nat → Bl) (s1 s2 s5 s8 : Bl) (p1 c e : Nat) (t : Tf), T - p < m → L.length ≤ p → eB ≤ e → s1.1 33 = 0 → (f3_answers s1 9 = some s2 ∧ s2.1 32 = Int32.ofNat p1 ∧ p1 ≤ T ∧ TpM s2 T bt ∧ p = skp T bt p1) → isW T bt p 21 = false → f3_answers (ps s2 p) 10 = some s5 → f3_answers s5 11 = some s8 → RdS T bt sl y s8 p c d e → Sk s8 L → Kt sl eB sB s8 → EV (soA s8.2.1 sl) (nuA s8.2.1 sl) eB e (fT t) → TBd T sl y (s1, 0, 1) sB p (6 * c + p) (loop (gB (fB (f4_fact n) 21 1) 22 0) m (t, y)) ∨ TTe T bt sl L (s1, 0, 1) sB eB y p c d e 0 (loop (gB (fB (f4_fact n) 21 1) 22 0) m (t, y)) := by
  intro m
  induction m with
  | zero => intro p y s1 s2 s5 s8 p1 c e t hm; omega
  | succ m ih =>
    intro p y s1 s2 s5 s8 p1 c e t hm hLp heB h33 ⟨h9, h32, hp1, hM, hpe⟩ hw1 h10 h11 hR hk hkt hE
    have hT := hB.1
    have hp := hR.2.2.1.1
    have hqq : skp T bt p = p := by rw [hpe]; exact skp_skp
    show TBd T sl y (s1, 0, 1) sB p (6 * c + p) (gB (fB (f4_fact n) 21 1) 22 0 (loop (gB (fB (f4_fact n) 21 1) 22 0) m) (t, y)) ∨ TTe T bt sl L (s1, 0, 1) sB eB y p c d e 0 (gB (fB (f4_fact n) 21 1) 22 0 (loop (gB (fB (f4_fact n) 21 1) 22 0) m) (t, y))
    simp only [gB]
    rw [f4_takesWord_eq hB hR.2.2.2.1 hp hR.1.1 (by omega), hqq, nx_id hR.1.1]
    cases hw : isW T bt p 22 with
    | false =>
      right
      exact ⟨y, t, (0, 0), s1, s2, s5, s8, p1, p, c, e, 0, rfl, Rch.refl, by omega, h33, ⟨h9, h32, hp1, hM, hpe⟩, ⟨hw1, hw⟩, ⟨h10, h11⟩, hR, hk, Ky.refl, hkt, hE, ⟨by dsimp only; omega, by dsimp only; omega⟩, ⟨Nat.le_refl _, Nat.le_refl _⟩, by omega⟩
    | true =>
      have h2 : p + 2 ≤ T := isW_len hp hw
      have r1 : Rch g3_test_9 1 (s1, 0, 1) (ps (pushS s8 L 11) (p + 2), 1, 1) := Rch.step fun K => turn_or hB h33 h9 h32 hp1 hM hpe hw1 hw h10 h11 hk (by omega) hR.2.1.1 K
      have hR1 := (hR.push (L := L) (v := 11)).mv (show p ≤ p + 2 by omega) h2
      have hk1 : Sk (ps (pushS s8 L 11) (p + 2)) (L ++ [11]) := (pushS_sk hk.2).ks (Ks.ps (sl := sl) (e := e))
      have kt1 : Kt sl e s8 (ps (pushS s8 L 11) (p + 2)) := pushS_kt.trans (Kt.bi (by omega)) (Nat.le_refl e)
      rw [if_pos rfl, bnd2_s, if_neg (show ¬ (1 : Int32) = 0 by decide)]
      show TBd T sl y (s1, 0, 1) sB p (6 * c + p) (cnt 1 3 (bndC (fB (f4_fact n) 21 1 (nx y (p + 2))) _)) ∨ TTe T bt sl L (s1, 0, 1) sB eB y p c d e 0 (cnt 1 3 (bndC (fB (f4_fact n) 21 1 (nx y (p + 2))) _))
      generalize ps (pushS s8 L 11) (p + 2) = s6 at r1 hR1 hk1 kt1
      rcases hF (nx y (p + 2)) s6 (p + 2) c d e (L ++ [11]) hR1 hk1 (by rw [List.length_append]; show L.length + 1 ≤ p + 2; omega) hd (by rw [tpL_app]; decide) with hbad | hgood
      · left
        exact hbad.pre r1 (by omega) Ky.nx (hkt.fz.trans kt1.fz) (by omega) (by omega)
      · obtain ⟨y3, f3, cn, sa, sb, sc, px, p3, c3, e3, cc, g1, g2, g3, g4, g5, g6, g6b, g7, g8, g9, g10, g11, ⟨g12, g13⟩, ⟨g14, g15⟩, g16⟩ := hgood
        have hc3 := g7.2.2.1
        have hi2 := hR.2.2.1
        have w3 := popS_rd (L := L) (v := 11) g7 (by omega)
        have k5 : Kt sl e s8 (popS sc sl e3 L 11) := (kt1.trans g10 (Nat.le_refl e)).trans (popS_kt (Nat.le_refl e3)) g15
        have hE2 : EV (soA (popS sc sl e3 L 11).2.1 sl) (nuA (popS sc sl e3 L 11).2.1 sl) eB (e3 + 1) (fT (bothF 0 t f3)) := by
          have ha := k5.ev hE
          have hb := (popS_kt (s := sc) (sl := sl) (e := e3) (L := L) (v := 11) (Nat.le_refl e3)).ev g11
          have := ha.bin hb (popS_so (s := sc) (L := L)) (by decide : ¬ (11 : Int32) = 0 ∧ ¬ (11 : Int32) = 1 ∧ ¬ (11 : Int32) = 9)
          have ef : fT (bothF 0 t f3) = fun w => bop 11 (fT t w) (fT f3 w) := by funext w; exact (tL_or _ _).symm
          rw [ef]; exact this
        rw [g1]
        show TBd T sl y (s1, 0, 1) sB p (6 * c + p) (cnt 1 3 (cnt cn.1 cn.2 (loop (gB (fB (f4_fact n) 21 1) 22 0) m (bothF 0 t f3, y3)))) ∨ TTe T bt sl L (s1, 0, 1) sB eB y p c d e 0 (cnt 1 3 (cnt cn.1 cn.2 (loop (gB (fB (f4_fact n) 21 1) 22 0) m (bothF 0 t f3, y3))))
        have hnew := ih p3 y3 sa sb sc (popS sc sl e3 L 11) px c3 (e3 + 1) (bothF 0 t f3) (by omega) (by omega) (by omega) g4 g5 g6 g6b (pend (Or.inr rfl) hT hsl g7 g8 (by omega) hLt.2.2) w3 (popS_sk g8) (hkt.trans k5 heB) hE2
        rcases hnew with ⟨y', k, pl, cn2, sb2, w, on, c2, h1, h2, h3', h4, h5, h6, h7, h8, h9', h10, h11⟩ | ⟨y', f, cn2, sx1, sx2, sx5, sx8, px1, p', c', e', c2, h1, h2, h3', h4, h5, h6, h7, h8, h9', h10, h11, h12, ⟨h13, h14⟩, ⟨h15, h16⟩, h17⟩
        · left
          refine ⟨y', k, pl, (1 + (cn.1 + cn2.1), 3 + (cn.2 + cn2.2)), sb2, w, on, (1 + cc) + c2, by rw [h1]; rfl, (r1.trans g2).trans h2, by omega, fun j j1 j2 => ((h4 j j1 j2).trans (g9.1 j j2)).trans (nx_ne j2), h5, h6, h7, h8, h9', by dsimp only; omega, by dsimp only; omega⟩
        · right
          refine ⟨y', f, (1 + (cn.1 + cn2.1), 3 + (cn.2 + cn2.2)), sx1, sx2, sx5, sx8, px1, p', c', e', (1 + cc) + c2, by rw [h1]; rfl, (r1.trans g2).trans h2, by omega, h4, h5, h6, h7, h8, h9', (Ky.nx.trans g9).trans h10, h11, h12, ⟨by dsimp only; omega, by dsimp only; omega⟩, ⟨by omega, by omega⟩, by omega⟩
theorem tests_step {n : Nat} (hB : TpB T bt) (hsl : sl < 6) (hF : PaC T bt sl n) : TeC T bt sl n := by
  intro y s p c d e L h hk hL hn hLt
  have hT := hB.1
  have hFU := FU_big
  show TBd T sl y (s, 1, 1) s p (6 * c + p) (bndC (fB (f4_fact n) 21 1 y) (fun t s => loop (gB (fB (f4_fact n) 21 1) 22 0) FU (t, s))) ∨ TTd T bt sl L y s p c d e (bndC (fB (f4_fact n) 21 1 y) (fun t s => loop (gB (fB (f4_fact n) 21 1) 22 0) FU (t, s)))
  rcases hF y s p c d e L h hk hL hn ⟨hLt.1, hLt.2.1⟩ with hbad | hgood
  · left
    rw [← @cnt_00 Tf (bndC (fB (f4_fact n) 21 1 y) _)]
    exact hbad.pre Rch.refl (by omega) Ky.refl Fz.refl (by omega) (by omega)
  · obtain ⟨y3, f3, cn, sa, sb, sc, px, p3, c3, e3, cc, g1, g2, g3, g4, g5, g6, g6b, g7, g8, g9, g10, g11, ⟨g12, g13⟩, ⟨g14, g15⟩, g16⟩ := hgood
    rw [g1]
    show TBd T sl y (s, 1, 1) s p (6 * c + p) (cnt cn.1 cn.2 (loop (gB (fB (f4_fact n) 21 1) 22 0) FU (f3, y3))) ∨ TTd T bt sl L y s p c d e (cnt cn.1 cn.2 (loop (gB (fB (f4_fact n) 21 1) 22 0) FU (f3, y3)))
    have hc3 := g7.2.2.1
    have hnew := or_loop (sB := s) (eB := e) hB hsl hF hn hLt FU p3 y3 sa sb sc sc px c3 e3 f3 (by omega) (by omega) g15 g4 g5 g6 g6b (Rch.refl.fin (by decide) (ans_stop g8 (by omega) hLt.2.2)) g7 g8 g10 g11
    rcases hnew with ⟨y', k, pl, cn2, sb2, w, on, c2, h1, h2, h3', h4, h5, h6, h7, h8, h9', h10, h11⟩ | ⟨y', f, cn2, sx1, sx2, sx5, sx8, px1, p', c', e', c2, h1, h2, h3', h4, h5, h6, h7, h8, h9', h10, h11, h12, ⟨h13, h14⟩, ⟨h15, h16⟩, h17⟩
    · left
      refine ⟨y', k, pl, (cn.1 + cn2.1, cn.2 + cn2.2), sb2, w, on, cc + c2, by rw [h1]; rfl, g2.trans h2, by omega, fun j j1 j2 => (h4 j j1 j2).trans (g9.1 j j2), h5, h6, h7, h8, h9', by dsimp only; omega, by dsimp only; omega⟩
    · right
      exact ⟨y', f, (cn.1 + cn2.1, cn.2 + cn2.2), sx1, sx2, sx5, sx8, px1, p', c', e', cc + c2, by rw [h1]; rfl, g2.trans h2, by omega, h4, h5, h6, h7, h8, h9', g9.trans h10, h11, h12, ⟨by dsimp only; omega, by dsimp only; omega⟩, ⟨by omega, by omega⟩, by omega⟩
theorem facts_all (hB : TpB T bt) (hsl : sl < 6) : ∀ n, FaC T bt sl n
  | 0 => fun y s p c d e L h hk hL hn => absurd h.2.2.1.2.2.1 (by omega)
  | n + 1 => fact_step hB hsl (facts_all hB hsl n) (tests_step hB hsl (parts_step hB hsl (facts_all hB hsl n)))
/-- a whole test: thrown, and a fault; or alike -/
theorem test_sim {n : Nat} (hn : 11 ≤ n) (hB : TpB T bt) (hsl : sl < 6) (h : RdS T bt sl y s p c 0 e) : (∃ (y' : Nat → Bl) (k pl : Nat) (cn : Nat × Nat) (s' : Bl), f4_tested n y = some (.inl y', cn) ∧ f3_test s = some s' ∧ (∀ j, j ≠ 13 → j ≠ 14 → y' j = y j) ∧ ((y' 13).1 6 = Int32.ofNat k ∧ (y' 13).1 7 = Int32.ofNat pl) ∧ Fz sl s s' ∧ s'.1 33 = fcd k pl ∧ (∃ p2, p2 ≤ T + 1 ∧ s'.1 32 = Int32.ofNat p2) ∧ (k ≤ 4 ∧ pl ≤ T) ∧ cn.1 + p ≤ T ∧ cn.2 + 3 * p ≤ 3 * T) ∨ (∃ (y' : Nat → Bl) (f : Tf) (cn : Nat × Nat) (s' : Bl) (p' c' e' : Nat), f4_tested n y = some (.inr (f, y'), cn) ∧ f3_test s = some s' ∧ RdS T bt sl y' s' p' c' 0 e' ∧ Ky y y' ∧ Kt sl e s s' ∧ EV (soA s'.2.1 sl) (nuA s'.2.1 sl) e e' (fT f) ∧ (cn.1 + p ≤ p' ∧ cn.2 + 3 * p ≤ 3 * p') ∧ (c ≤ c' ∧ e ≤ e') ∧ 3 * e' + 6 * c + p + 3 ≤ 3 * e + 6 * c' + p' ∧ skp T bt p' = p') := by
  have hT := hB.1
  have hpc := h.2.2.1
  have h0 : RdS T bt sl y (bI s 39 0) p c 0 e := by
    obtain ⟨a, ⟨b1, b2, b3, b4, b5, b6, b7⟩, cx, z1, z2⟩ := h
    exact ⟨a, ⟨b1, b2, b3, b4, b5, b6, b7⟩, cx, z1, z2⟩
  have hk0 : Sk (bI s 39 0) [] := ⟨bI_v, fun i hi => absurd hi (Nat.not_lt_zero i)⟩
  have kt0 : Kt sl e s (bI s 39 0) := Kt.bi (by omega)
  have hF := facts_all hB hsl n
  have hcl := tests_step hB hsl (parts_step hB hsl hF) y (bI s 39 0) p c 0 e [] h0 hk0 (Nat.zero_le _) (by omega) (by decide)
  unfold f4_tested f4_parted f3_test
  rcases hcl with ⟨y', k, pl, cn, sb, w, on, c2, h1, h2, h3', h4, h5, h6, h7, h8, h9', h10, h11⟩ | ⟨y', f, cn, s1, s2, s5, s8, p1, p', c', e', cc, g1, g2, g3, g4, ⟨t1, t2, t3, t4, t5⟩, ⟨t6, t7⟩, ⟨t8, t9⟩, g7, g8, g9, g10, g11, ⟨g12, g13⟩, ⟨g14, g15⟩, g16⟩
  · left
    refine ⟨y', k, pl, cn, sb, h1, h2.fin (by omega) (fun K => ?_), h4, h5, kt0.fz.trans h6, h7, h8, h9', h10, h11⟩
    simp only [g3_test_9]
    by_cases c0 : on = 0
    · rw [if_pos c0]
    · rw [if_neg c0, if_neg (by rw [h7]; exact (fcd_nz h9'.1 (by omega)).1)]
  · right
    have hend := turn_end hB g4 t1 t2 t3 t4 t5 t6 t7 t8 t9
    have htop : f3_top s8 = some (-1) := by rw [f3_top_eq g8 (by decide)]; rfl
    have hc7 := g7.2.2.1
    have r2 : Rch g3_test_9 1 (s1, 0, 1) (s8, 0, 0) := Rch.step fun K => by rw [hend K, htop, bnd_s, if_neg (by decide)]
    refine ⟨y', f, cn, s8, p', c', e', g1, (g2.trans r2).fin (by omega) (fun K => ?_), g7, g9, kt0.trans g10 (Nat.le_refl e), g11, ⟨g12, g13⟩, ⟨g14, g15⟩, g16, by rw [t5]; exact skp_skp⟩
    simp only [g3_test_9]
    rw [if_pos trivial]
end P

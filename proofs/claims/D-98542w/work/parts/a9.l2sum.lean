/-! PLAIN LAW: terms and sums, read by both -/
set_option maxRecDepth 100000
theorem pair_42 (x y : Int64) : pairV 42 x y = bop 13 x y := by simp [pairV, bop]
theorem pair_47 (x y : Int64) : pairV 47 x y = bop 14 x y := by simp [pairV, bop]
theorem pair_37 (x y : Int64) : pairV 37 x y = bop 15 x y := by simp [pairV, bop]
theorem pair_43 (x y : Int64) : pairV 43 x y = bop 2 x y := by simp [pairV, bop]
theorem pair_45 (x y : Int64) : pairV 45 x y = bop 3 x y := by simp [pairV, bop]
section P
variable {T : Nat} {bt : Nat → Int32} {sl : Nat} {y : Nat → Bl} {s : Bl} {p c d e : Nat}
def fV : Vf → (Nat → Int64) → Int64 := fun f => f.1
theorem Fz.tpm {s s' : Bl} (h : Fz sl s s') (hM : TpM s T bt) : TpM s' T bt := ⟨by rw [h.1 31 (by omega)]; exact hM.1, fun i hi => by rw [h.2.1 41 (by omega)]; exact hM.2 i hi⟩
theorem Ks.ev {s s' : Bl} {e0 e : Nat} {F : (Nat → Int64) → Int64} (k : Ks sl e s s') (h : EV (soA s.2.1 sl) (nuA s.2.1 sl) e0 e F) : EV (soA s'.2.1 sl) (nuA s'.2.1 sl) e0 e F := h.cg fun i h1 h2 => ⟨((k.2.2.1 (300 * sl + i) (by omega)).1).symm, ((k.2.2.1 (300 * sl + i) (by omega)).2).symm⟩
theorem cnt_inl {α : Type} {a b : Nat} {y' : Nat → Bl} {cn : Nat × Nat} : cnt a b (some (.inl y', cn) : Option (Cn α)) = some (.inl y', (a + cn.1, b + cn.2)) := rfl
theorem cnt_inr {α : Type} {a b : Nat} {f : α} {y' : Nat → Bl} {cn : Nat × Nat} : cnt a b (some (.inr (f, y'), cn) : Option (Cn α)) = some (.inr (f, y'), (a + cn.1, b + cn.2)) := rfl
/-- a sign, an operand, an entry -/
theorem op_bad {α β : Type} {y1 : Nat → Bl} {s1 : Bl} {p1 a b : Nat} {o : Option (Cn α)} {o3 : Option Bl} {K : α → (Nat → Bl) → Option (Cn β)} {r3 : Option Bl} (h : OutB T sl y1 s1 p1 o o3) (hy : Ky y y1) (hs : Fz sl s s1) (ha : a + p ≤ p1) (hb : b + 3 * p ≤ 3 * p1) (hr : ∀ s6, o3 = some s6 → ¬ s6.1 33 = 0 → (∃ p2, p2 ≤ T ∧ s6.1 32 = Int32.ofNat p2) → Fz sl s1 s6 → ∃ s9, r3 = some s9 ∧ Fz sl s6 s9 ∧ s9.1 33 = s6.1 33 ∧ ∃ p2, p2 ≤ T ∧ s9.1 32 = Int32.ofNat p2) (hT : T ≤ 400) : OutB T sl y s p (cnt a b (bndC o K)) r3 := by
  obtain ⟨y', k, pl, cn, s6, h1, h2, h3, h4, h5, h6, h7, h8, h9, h10⟩ := h
  obtain ⟨s9, g1, g2, g3, g4⟩ := hr s6 h2 (by rw [h6]; exact (fcd_nz h8.1 (by omega)).1) h7 h5
  refine ⟨y', k, pl, (a + cn.1, b + cn.2), s9, by rw [h1]; rfl, g1, fun j j1 j2 => (h3 j j1 j2).trans (hy.1 j j2), h4, (hs.trans h5).trans g2, by rw [g3, h6], g4, h8, by dsimp only; omega, by dsimp only; omega⟩
theorem term_loop (hB : TpB T bt) (hsl : sl < 6) : ∀ (n p : Nat) (y : Nat → Bl) (s : Bl) (c d e e0 : Nat) (v : Vf), T - p < n → (y 14).1 2 = Int32.ofNat p → TpO y T bt → p ≤ T → RdS T bt sl (nx y (skp T bt p)) s (skp T bt p) c d e → EV (soA s.2.1 sl) (nuA s.2.1 sl) e0 e v.1 → OutV T bt sl fV y s p c d e e0 0 True (loop g4_term n (v, y)) (loop g3_term_8 n s) := by
  intro n
  induction n with
  | zero => intro p y s c d e e0 v hn; omega
  | succ m ih =>
    intro p y s c d e e0 v hn hy2 hO hp hR hE
    have hT := hB.1
    have hq := skp_le (bt := bt) hp
    have hqp := skp_ge (T := T) (bt := bt) (p := p)
    have hqq := skp_skp (T := T) (bt := bt) (p := p)
    show OutV T bt sl fV y s p c d e e0 0 True (g4_term (loop g4_term m) (v, y)) (g3_term_8 (loop g3_term_8 m) s)
    simp only [g4_term]
    unfold g3_term_8
    rw [f4_see_eq hB hO hp hy2, bnd2_s, if_pos hR.2.1.2.1, f3_sign_eq hB hR.2.2.2.2 hq hR.2.1.1]
    simp only [bnd_s]
    generalize skp T bt p = q at hq hqp hqq hR ⊢
    have hOq := hR.2.2.2.1
    rw [f4_see_eq hB hOq hq nx_at, hqq, nx_nx, bnd2_s, f4_see_eq hB hOq hq nx_at, hqq, nx_nx, bnd2_s]
    have step : ∀ (ch z : Int32), (∀ a b, pairV ch a b = bop z a b) → (¬ z = 0 ∧ ¬ z = 1 ∧ ¬ z = 9) → q < T → bt q = ch → OutV T bt sl fV y s p c d e e0 0 True (b4_term (loop g4_term m) v (nx y q)) (g3_term_72 (loop g3_term_8 m) s z) := by
      intro ch z hpb hz hqT hch
      have hin : inB (Int32.ofNat q) 400 = true := zI_in (by omega) (by decide)
      have hR1 := hR.mv (show q ≤ q + 1 by omega) (show q + 1 ≤ T by omega)
      unfold b4_term g3_term_72
      have e1 : upX (nx y q) 14 (bI (nx y q 14) 2 ((nx y q 14).1 2 + (1 : Int32))) = nx (nx y q) (q + 1) := by rw [nx_at, zI_succ]; rfl
      have e2 : bI s 32 (s.1 32 + (1 : Int32)) = ps s (q + 1) := by rw [hR.2.1.1, zI_succ]; rfl
      rw [e1, e2, nx_at, chk_h hin, zI_nat (by omega), hOq.2 q hqT, hch]
      rcases value_sim hB hsl hR1 with hbad | hgood
      · left
        refine op_bad hbad (Ky.nx.trans Ky.nx) (Ks.ps (e := 0)).fz (by omega) (by omega) ?_ hT
        rintro s6 h6 hb ⟨p2, hp2, h32⟩ hfz
        rw [h6, bnd_s, f3_entry_bad hb, bnd_s, f3_blanks_eq hB (hfz.tpm hR1.2.2.2.2) hp2 h32, bnd_s]
        match m, hn with
        | m + 1, _ =>
          refine ⟨ps s6 (skp T bt p2), ?_, (Ks.ps (e := 0)).fz, by rw [ps_f (by decide)], _, skp_le hp2, ps_at⟩
          show g3_term_8 _ _ = _
          unfold g3_term_8
          rw [if_neg (by rw [ps_f (by decide)]; exact hb)]
        | 0, hn => omega
      · obtain ⟨y1, f, cn, s6, p1, c1, e1', o1, o3, r1, k1, k2, k3, ⟨k4, k5⟩, ⟨k6, k6'⟩, k7, -⟩ := hgood
        have hb3 := hR.2.2.1.2.2.2
        rw [o1, o3, bnd_s, f3_entry_good r1.2.1.2.1 r1.2.1.2.2.1 r1.2.1.2.2.2.1 hsl (by have := r1.2.2.1; omega), bnd_s]
        have r2 := r1.entry (k := z) (n := 0) (by omega)
        change OutV T bt sl fV y s p c d e e0 0 True (cnt 1 3 (cnt cn.1 cn.2 (loop g4_term m (pairF ch v f, y1)))) (bnd (f3_blanks (enS s6 sl e1' z 0)) (fun s8 => loop g3_term_8 m s8))
        rw [f3_blanks_eq hB r2.2.2.2.2 r2.2.2.1.1 r2.2.1.1, bnd_s, cnt_cnt]
        have r3 := r2.mv (skp_ge (bt := bt)) (skp_le r2.2.2.1.1)
        have hE2 : EV (soA (ps (enS s6 sl e1' z 0) (skp T bt p1)).2.1 sl) (nuA (ps (enS s6 sl e1' z 0) (skp T bt p1)).2.1 sl) e0 (e1' + 1) (pairF ch v f).1 := by
          have ha := ((enS_ks (sl := sl) (s := s6) (e := e1') (e0 := e) (k := z) (n := 0) k6').ev (k2.ev (Ks.ps.ev hE)))
          have hb := (enS_ks (sl := sl) (s := s6) (e := e1') (e0 := e1') (k := z) (n := 0) (Nat.le_refl _)).ev k3
          have e3 : soA (enS s6 sl e1' z 0).2.1 sl e1' = z := by rw [enS_so, if_pos rfl]
          have := ha.bin hb e3 hz
          have ef : (pairF ch v f).1 = fun w => bop z (v.1 w) (f.1 w) := by funext w; exact hpb _ _
          rw [ef]; exact this
        have hfin := ih p1 y1 (ps (enS s6 sl e1' z 0) (skp T bt p1)) c1 d (e1' + 1) e0 (pairF ch v f) (by omega) r2.1.1 r2.2.2.2.1 r2.2.2.1.1 r3 hE2
        exact OutV.pre (y := y) (s := s) (p := p) (c := c) (e := e) (g := 0) (a := 1 + cn.1) (b := 3 + cn.2) hfin ((Ky.nx.trans Ky.nx).trans k1) (((Ks.ps.trans k2 (Nat.le_refl e)).trans (enS_ks k6') (Nat.le_refl e)).trans Ks.ps (Nat.le_refl e)) (by omega) k6 (by omega) (by omega) (by omega)
    have e42 := sgn_c (p := q) hB (c := 42) (by omega)
    have e47 := sgn_c (p := q) hB (c := 47) (by omega)
    have e37 := sgn_c (p := q) hB (c := 37) (by omega)
    change (sgn T bt q = 42 ↔ q < T ∧ bt q = 42) at e42
    change (sgn T bt q = 47 ↔ q < T ∧ bt q = 47) at e47
    change (sgn T bt q = 37 ↔ q < T ∧ bt q = 37) at e37
    unfold g3_term_42
    rw [f3_sign_eq hB hR.2.2.2.2 hq hR.2.1.1]
    simp only [bnd_s]
    by_cases c42 : sgn T bt q = 42
    · rw [if_pos c42, if_pos c42, if_pos c42]
      exact step 42 13 pair_42 (by decide) (e42.mp c42).1 (e42.mp c42).2
    rw [if_neg c42, if_neg c42, if_neg c42]
    by_cases c47 : sgn T bt q = 47
    · rw [if_pos c47, if_pos c47, if_pos c47]
      exact step 47 14 pair_47 (by decide) (e47.mp c47).1 (e47.mp c47).2
    rw [if_neg c47, if_neg c47, if_neg c47]
    by_cases c37 : sgn T bt q = 37
    · rw [if_pos c37, if_pos c37]
      exact step 37 15 pair_37 (by decide) (e37.mp c37).1 (e37.mp c37).2
    rw [if_neg c37, if_neg c37]
    exact Or.inr ⟨nx y q, v, (0, 0), s, q, c, e, rfl, rfl, hR, Ky.nx, Ks.refl, hE, ⟨by dsimp only; omega, by dsimp only; omega⟩, ⟨Nat.le_refl _, Nat.le_refl _⟩, by omega, fun _ => hqq⟩
theorem term_sim (hB : TpB T bt) (hsl : sl < 6) (h : RdS T bt sl y s p c d e) : OutV T bt sl fV y s p c d e e 1 True (f4_term y) (f3_term s) := by
  have hT := hB.1
  unfold f4_term f3_term
  rcases value_sim hB hsl h with hbad | hgood
  · left
    have := op_bad (y := y) (s := s) (p := p) (a := 0) (b := 0) (K := fun v s => loop g4_term FU (v, s)) (r3 := bnd (f3_value s) (fun s1 => bnd (f3_blanks s1) (fun s2 => loop (g3_term_8) FU s2))) hbad Ky.refl Fz.refl (by omega) (by omega) (by
      rintro s6 h6 hb ⟨p2, hp2, h32⟩ hfz
      rw [h6, bnd_s, f3_blanks_eq hB (hfz.tpm h.2.2.2.2) hp2 h32, bnd_s]
      refine ⟨ps s6 (skp T bt p2), ?_, (Ks.ps (e := 0)).fz, by rw [ps_f (by decide)], _, skp_le hp2, ps_at⟩
      refine loop_seq (fun _ => ps s6 (skp T bt p2)) 0 (by omega) (fun _ k hk => absurd hk (Nat.not_lt_zero k)) (fun K => ?_)
      unfold g3_term_8
      rw [if_neg (by rw [ps_f (by decide)]; exact hb)]) hT
    rw [cnt_00] at this; exact this
  · obtain ⟨y1, f, cn, s6, p1, c1, e1', o1, o3, r1, k1, k2, k3, ⟨k4, k5⟩, ⟨k6, k6'⟩, k7, -⟩ := hgood
    rw [o1, o3, bnd_s, f3_blanks_eq hB r1.2.2.2.2 r1.2.2.1.1 r1.2.1.1, bnd_s]
    change OutV T bt sl fV y s p c d e e 1 True (cnt cn.1 cn.2 (loop g4_term FU (f, y1))) _
    have r3 := r1.mv (skp_ge (bt := bt)) (skp_le r1.2.2.1.1)
    have hF := FU_big
    have hfin := term_loop hB hsl FU p1 y1 (ps s6 (skp T bt p1)) c1 d e1' e f (by omega) r1.1.1 r1.2.2.2.1 r1.2.2.1.1 r3 (Ks.ps.ev k3)
    exact OutV.pre (y := y) (s := s) (p := p) (c := c) (e := e) (g := 1) hfin k1 (k2.trans Ks.ps (Nat.le_refl e)) (by omega) k6 k4 k5 (by omega)
theorem sum_loop (hB : TpB T bt) (hsl : sl < 6) : ∀ (n p : Nat) (y : Nat → Bl) (s : Bl) (c d e e0 : Nat) (v : Vf), T - p < n → skp T bt p = p → RdS T bt sl y s p c d e → EV (soA s.2.1 sl) (nuA s.2.1 sl) e0 e v.1 → OutV T bt sl fV y s p c d e e0 0 True (loop g4_sum n (v, y)) (loop g3_sum_4 n s) := by
  intro n
  induction n with
  | zero => intro p y s c d e e0 v hn; omega
  | succ m ih =>
    intro p y s c d e e0 v hn hqq hR hE
    have hT := hB.1
    have hq := hR.2.2.1.1
    have hO := hR.2.2.2.1
    show OutV T bt sl fV y s p c d e e0 0 True (g4_sum (loop g4_sum m) (v, y)) (g3_sum_4 (loop g3_sum_4 m) s)
    simp only [g4_sum]
    unfold g3_sum_4
    rw [f4_see_eq hB hO hq hR.1.1, hqq, nx_id hR.1.1, bnd2_s, if_pos hR.2.1.2.1, f3_sign_eq hB hR.2.2.2.2 hq hR.2.1.1]
    simp only [bnd_s]
    rw [f4_see_eq hB hO hq hR.1.1, hqq, nx_id hR.1.1, bnd2_s]
    have step : ∀ (ch z : Int32), (∀ a b, pairV ch a b = bop z a b) → (¬ z = 0 ∧ ¬ z = 1 ∧ ¬ z = 9) → p < T → bt p = ch → OutV T bt sl fV y s p c d e e0 0 True (b4_sum (loop g4_sum m) v y) (g3_sum_43 (loop g3_sum_4 m) s z) := by
      intro ch z hpb hz hqT hch
      have hin : inB (Int32.ofNat p) 400 = true := zI_in (by omega) (by decide)
      have hR1 := hR.mv (show p ≤ p + 1 by omega) (show p + 1 ≤ T by omega)
      unfold b4_sum g3_sum_43
      have e1 : upX y 14 (bI (y 14) 2 ((y 14).1 2 + (1 : Int32))) = nx y (p + 1) := by rw [hR.1.1, zI_succ]; rfl
      have e2 : bI s 32 (s.1 32 + (1 : Int32)) = ps s (p + 1) := by rw [hR.2.1.1, zI_succ]; rfl
      rw [e1, e2, hR.1.1, chk_h hin, zI_nat (by omega), hO.2 p hqT, hch]
      rcases term_sim hB hsl hR1 with hbad | hgood
      · left
        refine op_bad hbad Ky.nx (Ks.ps (e := 0)).fz (by omega) (by omega) ?_ hT
        rintro s6 h6 hb ⟨p2, hp2, h32⟩ hfz
        rw [h6, bnd_s, f3_entry_bad hb, bnd_s]
        match m, hn with
        | m + 1, _ =>
          refine ⟨s6, ?_, Fz.refl, rfl, _, hp2, h32⟩
          show g3_sum_4 _ _ = _
          unfold g3_sum_4
          rw [if_neg hb]
        | 0, hn => omega
      · obtain ⟨y1, f, cn, s6, p1, c1, e1', o1, o3, r1, k1, k2, k3, ⟨k4, k5⟩, ⟨k6, k6'⟩, k7, k8⟩ := hgood
        have hb3 := hR.2.2.1.2.2.2
        rw [o1, o3, bnd_s, f3_entry_good r1.2.1.2.1 r1.2.1.2.2.1 r1.2.1.2.2.2.1 hsl (by have := r1.2.2.1; omega), bnd_s]
        have r2 := r1.entry (k := z) (n := 0) (by omega)
        change OutV T bt sl fV y s p c d e e0 0 True (cnt 1 3 (cnt cn.1 cn.2 (loop g4_sum m (pairF ch v f, y1)))) (loop g3_sum_4 m (enS s6 sl e1' z 0))
        rw [cnt_cnt]
        have hE2 : EV (soA (enS s6 sl e1' z 0).2.1 sl) (nuA (enS s6 sl e1' z 0).2.1 sl) e0 (e1' + 1) (pairF ch v f).1 := by
          have ha := ((enS_ks (sl := sl) (s := s6) (e := e1') (e0 := e) (k := z) (n := 0) k6').ev (k2.ev (Ks.ps.ev hE)))
          have hb := (enS_ks (sl := sl) (s := s6) (e := e1') (e0 := e1') (k := z) (n := 0) (Nat.le_refl _)).ev k3
          have e3 : soA (enS s6 sl e1' z 0).2.1 sl e1' = z := by rw [enS_so, if_pos rfl]
          have := ha.bin hb e3 hz
          have ef : (pairF ch v f).1 = fun w => bop z (v.1 w) (f.1 w) := by funext w; exact hpb _ _
          rw [ef]; exact this
        have hfin := ih p1 y1 (enS s6 sl e1' z 0) c1 d (e1' + 1) e0 (pairF ch v f) (by omega) (k8 trivial) r2 hE2
        exact OutV.pre (y := y) (s := s) (p := p) (c := c) (e := e) (g := 0) (a := 1 + cn.1) (b := 3 + cn.2) hfin (Ky.nx.trans k1) ((Ks.ps.trans k2 (Nat.le_refl e)).trans (enS_ks k6') (Nat.le_refl e)) (by omega) k6 (by omega) (by omega) (by omega)
    have e43 := sgn_c (p := p) hB (c := 43) (by omega)
    have e45 := sgn_c (p := p) hB (c := 45) (by omega)
    change (sgn T bt p = 43 ↔ p < T ∧ bt p = 43) at e43
    change (sgn T bt p = 45 ↔ p < T ∧ bt p = 45) at e45
    by_cases c43 : sgn T bt p = 43
    · rw [if_pos c43, if_pos c43, if_pos c43]
      exact step 43 2 pair_43 (by decide) (e43.mp c43).1 (e43.mp c43).2
    rw [if_neg c43, if_neg c43, if_neg c43]
    by_cases c45 : sgn T bt p = 45
    · rw [if_pos c45, if_pos c45]
      exact step 45 3 pair_45 (by decide) (e45.mp c45).1 (e45.mp c45).2
    rw [if_neg c45, if_neg c45]
    exact Or.inr ⟨y, v, (0, 0), s, p, c, e, rfl, rfl, hR, Ky.refl, Ks.refl, hE, ⟨by dsimp only; omega, by dsimp only; omega⟩, ⟨Nat.le_refl _, Nat.le_refl _⟩, by omega, fun _ => hqq⟩
theorem sum_sim (hB : TpB T bt) (hsl : sl < 6) (h : RdS T bt sl y s p c d e) : OutV T bt sl fV y s p c d e e 1 True (f4_sum y) (f3_sum s) := by
  have hT := hB.1
  unfold f4_sum f3_sum
  rcases term_sim hB hsl h with hbad | hgood
  · left
    have := op_bad (y := y) (s := s) (p := p) (a := 0) (b := 0) (K := fun v s => loop g4_sum FU (v, s)) (r3 := bnd (f3_term s) (fun s1 => loop (g3_sum_4) FU s1)) hbad Ky.refl Fz.refl (by omega) (by omega) (by
      rintro s6 h6 hb ⟨p2, hp2, h32⟩ hfz
      rw [h6, bnd_s]
      refine ⟨s6, ?_, Fz.refl, rfl, _, hp2, h32⟩
      refine loop_seq (fun _ => s6) 0 (by omega) (fun _ k hk => absurd hk (Nat.not_lt_zero k)) (fun K => ?_)
      unfold g3_sum_4
      rw [if_neg hb]) hT
    rw [cnt_00] at this; exact this
  · obtain ⟨y1, f, cn, s6, p1, c1, e1', o1, o3, r1, k1, k2, k3, ⟨k4, k5⟩, ⟨k6, k6'⟩, k7, k8⟩ := hgood
    rw [o1, o3, bnd_s]
    change OutV T bt sl fV y s p c d e e 1 True (cnt cn.1 cn.2 (loop g4_sum FU (f, y1))) _
    have hF := FU_big
    have hfin := sum_loop hB hsl FU p1 y1 s6 c1 d e1' e f (by omega) (k8 trivial) r1 k3
    exact OutV.pre (y := y) (s := s) (p := p) (c := c) (e := e) (g := 1) hfin k1 k2 (by omega) k6 k4 k5 (by omega)
end P

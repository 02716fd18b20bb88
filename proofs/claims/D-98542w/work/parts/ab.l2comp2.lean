/-! PLAIN LAW: compares, read by both: alike -/
set_option maxRecDepth 100000
section P
variable {T : Nat} {bt : Nat → Int32} {sl : Nat} {y : Nat → Bl} {s : Bl} {p c d e : Nat}
def fT : Tf → (Nat → Int64) → Int64 := fun f w => tL (f.1 w)
def f4_comp (s2 : Nat → Bl) : Option (Cn Tf) := bndC (f4_sum s2) (fun v3 s3 => bnd2 (f4_see s3) (fun _ s4 => bndXc2 (f4_sign s4) (fun sg s5 => bndXc (f4_makes s5 ((s4 14).1 2)) (fun s6 =>
            cnt 1 3 (bndC (f4_sum s6) (fun v4 s7 => some (.inr ((fun wds => compV sg (v3.1 wds) (v4.1 wds), max v3.2 v4.2 + 1), s7), (0, 0))))))))
theorem bI_comm {s : Bl} {f g : Nat} {u v : Int32} (h : f ≠ g) : bI (bI s f u) g v = bI (bI s g v) f u := by
  refine Prod.ext ?_ rfl
  funext k
  show (if k = g then v else if k = f then u else s.1 k) = if k = f then u else if k = g then v else s.1 k
  by_cases c1 : k = g
  · rw [if_pos c1, if_neg (by omega), if_pos c1]
  · rw [if_neg c1, if_neg c1]
theorem op_bad2 {α β : Type} {y1 : Nat → Bl} {s1 : Bl} {p1 a b : Nat} {o : Option (Cn α)} {o3 : Option Bl} {K : α → (Nat → Bl) → Option (Cn β)} {r3 : Option Bl} (hT : T ≤ 400) (h : OutB T sl y1 s1 p1 o o3) (hM : TpM s1 T bt) (h40 : s1.1 40 = 12) (hy : Ky y y1) (hs : Fz sl s s1) (ha : a + p ≤ p1) (hb : b + 3 * p ≤ 3 * p1) (hr : ∀ s6 p2, o3 = some s6 → Bq T bt s6 p2 → Bg T sl s6 r3) : OutB T sl y s p (cnt a b (bndC o K)) r3 :=
  op_bad h hy hs ha hb (fun s6 h6 hb ⟨p2, hp2, h32⟩ hz => by
    obtain ⟨s9, g1, g2, g3, g4⟩ := hr s6 p2 h6 ⟨hb, h32, hp2, by rw [hz.1 40 (by omega)]; exact h40, hz.tpm hM⟩
    exact ⟨s9, g1, g2, g3, g4⟩) hT
/-- the compare's rest, without a fault -/
theorem c37r_good (hB : TpB T bt) (hM : TpM s T bt) (h2 : s.1 32 = Int32.ofNat p) (hc : cIs T bt p) : (if sgn T bt p = (61 : Int32) then g3_compared_90 (bI s 32 ((s.1 32) + (1 : Int32))) (sgn T bt p) (0 : Int32) (0 : Int32) ((bI s 32 ((s.1 32) + (1 : Int32))).1 32) else bnd (f3_sign (bI s 32 ((s.1 32) + (1 : Int32)))) (fun r10 => if r10 = (61 : Int32) then g3_compared_90 (bI s 32 ((s.1 32) + (1 : Int32))) (sgn T bt p) (1 : Int32) (1 : Int32) ((bI s 32 ((s.1 32) + (1 : Int32))).1 32) else g3_compared_90 (bI s 32 ((s.1 32) + (1 : Int32))) (sgn T bt p) (0 : Int32) (0 : Int32) ((bI s 32 ((s.1 32) + (1 : Int32))).1 32))) = bnd (f3_sum (ps s (p + cLn T bt p))) (fun s4 => bnd (f3_entry s4 (cEn T bt p) 0) (fun s9 => some s9)) := by
  have hlt := cIs_lt hB hc
  have e1 : bI s 32 (s.1 32 + (1 : Int32)) = ps s (p + 1) := by rw [h2, zI_succ]; rfl
  rw [e1, ps_at]
  unfold g3_compared_90 cLn cEn
  have z0 : Int32.ofNat (p + 1) + (0 : Int32) = Int32.ofNat (p + 1) := Int32.add_zero _
  have z1 : Int32.ofNat (p + 1) + (1 : Int32) = Int32.ofNat (p + 2) := zI_succ _
  have b0 : bI (ps s (p + 1)) 32 (Int32.ofNat (p + 1)) = ps s (p + 1) := ps_ps
  have b1 : bI (ps s (p + 1)) 32 (Int32.ofNat (p + 2)) = ps s (p + 2) := ps_ps
  rw [z0, z1, b0, b1]
  by_cases c1 : sgn T bt p = 61
  · simp only [if_pos c1]
  · simp only [if_neg c1]
    rw [f3_sign_eq hB hM.ps (by omega) ps_at, bnd_s]
    by_cases c2 : sgn T bt (p + 1) = 61
    · simp only [if_pos c2]
      by_cases c3 : sgn T bt p = 60
      · simp only [if_pos c3]; rfl
      · simp only [if_neg c3]; rfl
    · simp only [if_neg c2]
      by_cases c3 : sgn T bt p = 60
      · simp only [if_pos c3, if_true]
      · simp only [if_neg c3, if_true]
theorem comp_sim (hB : TpB T bt) (hsl : sl < 6) (h : RdS T bt sl y s p c d e) : OutV T bt sl fT y s p c d e e 1 True (f4_comp y) (f3_compared s) := by
  have hT := hB.1
  unfold f4_comp f3_compared
  rcases sum_sim hB hsl h with hbad | hgood
  · left
    rw [← @cnt_00 Tf (bndC (f4_sum y) _)]
    refine op_bad2 hT hbad h.2.2.2.2 h.2.1.2.2.2.2.2.2 Ky.refl Fz.refl (by omega) (by omega) (fun s6 p2 h6 hq => ?_)
    · rw [h6, bnd_s, f3_sign_eq hB hq.2.2.2.2 hq.2.2.1 hq.2.1, bnd_s]
      have hc37 : cIs T bt p2 → Bg T sl s6 (g3_compared_37 s6 (sgn T bt p2)) := fun hc => c37_bad hB hq (cIs_lt hB hc)
      by_cases c1 : sgn T bt p2 = 60
      · rw [if_pos c1]; exact hc37 (Or.inl c1)
      rw [if_neg c1]
      by_cases c2 : sgn T bt p2 = 61
      · rw [if_pos c2]; exact hc37 (Or.inr (Or.inl c2))
      rw [if_neg c2]
      by_cases c3 : sgn T bt p2 = 62
      · rw [if_pos c3]; exact hc37 (Or.inr (Or.inr c3))
      rw [if_neg c3, f3_fails_bad hq.1, bnd_s]
      exact Bg.self hq
  · obtain ⟨y1, f, cn, s6, p1, c1, e1', o1, o3, r1, k1, k2, k3, ⟨k4, k5⟩, ⟨k6, k6'⟩, k7, k8⟩ := hgood
    have hqq := k8 trivial
    have hp1 := r1.2.2.1.1
    have hc1 := r1.2.2.1.2.1
    have hsg := f4_sign_eq hB r1.2.2.2.1 hp1 r1.1.1 hqq
    rw [o1, o3, bnd_s, f3_sign_eq hB r1.2.2.2.2 hp1 r1.2.1.1, bnd_s]
    refine OutV.pre (y := y) (s := s) (p := p) (c := c) (e := e) (g := 1) (g1 := 0) (a := cn.1) (b := cn.2) (o := bnd2 (f4_see y1) (fun _ s4 => bndXc2 (f4_sign s4) (fun sg s5 => bndXc (f4_makes s5 ((s4 14).1 2)) (fun s6 => cnt 1 3 (bndC (f4_sum s6) (fun v4 s7 => some (.inr (((fun wds => compV sg (f.1 wds) (v4.1 wds)), max f.2 v4.2 + 1), s7), (0, 0)))))))) ?_ k1 k2 k6' k6 k4 k5 (by omega)
    rw [f4_see_eq hB r1.2.2.2.1 hp1 r1.1.1, hqq, nx_id r1.1.1, bnd2_s, r1.1.1]
    by_cases hc : cIs T bt p1
    · rw [hsg.1 hc]
      have hlt := cIs_lt hB hc
      have hcl := cLn_le hB hlt
      have hite : ∀ A B : Option Bl, (if sgn T bt p1 = 60 then A else if sgn T bt p1 = 61 then A else if sgn T bt p1 = 62 then A else B) = A := fun A B => by
        rcases hc with h1 | h1 | h1
        · rw [if_pos h1]
        · rw [if_neg (by rw [h1]; decide), if_pos h1]
        · rw [if_neg (by rw [h1]; decide), if_neg (by rw [h1]; decide), if_pos h1]
      rw [hite]
      show OutV T bt sl fT y1 s6 p1 c1 d e1' e 0 True (bndXc (f4_makes (nx y1 (p1 + cLn T bt p1)) (Int32.ofNat p1)) _) (g3_compared_37 s6 (sgn T bt p1))
      unfold g3_compared_37
      rw [r1.2.1.1, f3_isCounted_good r1.2.1.2.1 r1.2.1.2.2.2.2.2.1 hc1, bnd_s, f4_makes_eq (by rw [nx_f (by decide)]; exact r1.1.2.2) hc1]
      by_cases c60 : c1 = 60
      · rw [if_pos c60, if_pos c60]
        left
        have hk : Fz sl s6 (bI (bI s6 33 (fcd 3 p1)) 38 (Int32.ofNat (c1 + 1))) := ((Ks.bi (sl := sl) (e := 0) (by omega)).trans (Ks.bi (sl := sl) (e := 0) (by omega)) (Nat.le_refl 0)).fz
        have hbq : Bq T bt (bI (bI s6 33 (fcd 3 p1)) 38 (Int32.ofNat (c1 + 1))) p1 := ⟨(fcd_nz (k := 3) (by omega) (by omega)).1, r1.2.1.1, hp1, r1.2.1.2.2.2.2.2.2, hk.tpm r1.2.2.2.2⟩
        obtain ⟨s9, g1, g2, g3, g4⟩ := c37r_bad (sl := sl) hB hbq hlt (v1 := sgn T bt p1)
        exact OutB.mk2 (k := 3) (pl := p1) (a := 0) (b := 0) (y1 := nx y1 (p1 + cLn T bt p1)) (fun j hj => nx_ne hj) rfl g1 (hk.trans g2) (by rw [g3]; rfl) g4 (by omega) hp1 (by omega) (by omega)
      · rw [if_neg c60, if_neg c60]
        have hR2 := (r1.mv (show p1 ≤ p1 + cLn T bt p1 by omega) hcl.1).cnt (by omega)
        have ecm : bI (ps s6 (p1 + cLn T bt p1)) 38 (Int32.ofNat (c1 + 1)) = ps (bI s6 38 (Int32.ofNat (c1 + 1))) (p1 + cLn T bt p1) := bI_comm (by decide)
        rw [ecm] at hR2
        have hM2 : TpM (bI s6 38 (Int32.ofNat (c1 + 1))) T bt := ((Ks.bi (sl := sl) (e := 0) (by omega)).fz).tpm r1.2.2.2.2
        have h32 : (bI s6 38 (Int32.ofNat (c1 + 1))).1 32 = Int32.ofNat p1 := r1.2.1.1
        rw [c37r_good hB hM2 h32 hc]
        have ky2 : Ky y1 (upX (nx y1 (p1 + cLn T bt p1)) 14 (bI (nx y1 (p1 + cLn T bt p1) 14) 4 (Int32.ofNat (c1 + 1)))) := Ky.nx.trans (Ky.cnt (by decide))
        have ks2 : Ks sl e1' s6 (ps (bI s6 38 (Int32.ofNat (c1 + 1))) (p1 + cLn T bt p1)) := (Ks.bi (sl := sl) (e := e1') (by omega)).trans Ks.ps (Nat.le_refl _)
        generalize upX (nx y1 (p1 + cLn T bt p1)) 14 (bI (nx y1 (p1 + cLn T bt p1) 14) 4 (Int32.ofNat (c1 + 1))) = y3 at hR2 ky2 ⊢
        generalize ps (bI s6 38 (Int32.ofNat (c1 + 1))) (p1 + cLn T bt p1) = s3 at hR2 ks2 ⊢
        show OutV T bt sl fT y1 s6 p1 c1 d e1' e 0 True (cnt 1 3 (bndC (f4_sum y3) (fun v4 s7 => some (.inr (((fun wds => compV (cSg T bt p1) (f.1 wds) (v4.1 wds)), max f.2 v4.2 + 1), s7), (0, 0))))) _
        rcases sum_sim hB hsl hR2 with hbad | hgood
        · left
          exact op_bad2 hT hbad hR2.2.2.2.2 hR2.2.1.2.2.2.2.2.2 ky2 ks2.fz (by omega) (by omega) (fun s9 p9 h9 hq9 => by
            rw [h9, bnd_s]
            exact Bg.bnd hq9 (Bg.entry hq9) (fun s4 p4 h4 => Bg.self h4))
        · obtain ⟨y4, f2, cn2, s9, p3, c3, e3, q1, q3, w1, w2, w3, w4, ⟨w5, w6⟩, ⟨w7, w7'⟩, w8, w9⟩ := hgood
          have hb3 := r1.2.2.1.2.2.2
          rw [q1, q3, bnd_s, f3_entry_good w1.2.1.2.1 w1.2.1.2.2.1 w1.2.1.2.2.2.1 hsl (by have := w1.2.2.1; omega), bnd_s]
          have w10 := w1.entry (k := cEn T bt p1) (n := 0) (by omega)
          refine Or.inr ⟨y4, ((fun wds => compV (cSg T bt p1) (f.1 wds) (f2.1 wds)), max f.2 f2.2 + 1), (1 + (cn2.1 + 0), 3 + (cn2.2 + 0)), enS s9 sl e3 (cEn T bt p1) 0, p3, c3, e3 + 1, rfl, rfl, w10, ky2.trans w2, (ks2.trans w3 (Nat.le_refl _)).trans (enS_ks w7') (Nat.le_refl _), ?_, ⟨by dsimp only; omega, by dsimp only; omega⟩, ⟨by omega, by omega⟩, by omega, fun _ => w9 trivial⟩
          have ha := ((enS_ks (sl := sl) (s := s9) (e := e3) (e0 := e1') (k := cEn T bt p1) (n := 0) w7').ev (w3.ev (ks2.ev k3)))
          have hb := (enS_ks (sl := sl) (s := s9) (e := e3) (e0 := e3) (k := cEn T bt p1) (n := 0) (Nat.le_refl _)).ev w4
          have e3' : soA (enS s9 sl e3 (cEn T bt p1) 0).2.1 sl e3 = cEn T bt p1 := by rw [enS_so, if_pos rfl]
          have := ha.bin hb e3' cEn_ok
          have ef : fT ((fun wds => compV (cSg T bt p1) (f.1 wds) (f2.1 wds)), max f.2 f2.2 + 1) = fun w => bop (cEn T bt p1) (f.1 w) (f2.1 w) := by funext w; exact cEn_bop _ _
          rw [ef]; exact this
    · rw [hsg.2 hc]
      have hite : ∀ A B : Option Bl, (if sgn T bt p1 = 60 then A else if sgn T bt p1 = 61 then A else if sgn T bt p1 = 62 then A else B) = B := fun A B => by
        rw [if_neg (fun z => hc (Or.inl z)), if_neg (fun z => hc (Or.inr (Or.inl z))), if_neg (fun z => hc (Or.inr (Or.inr z)))]
      rw [hite, r1.2.1.1, show (0 : Int32) = Int32.ofNat 0 from rfl, f3_fails_good r1.2.1.2.1, bnd_s]
      exact Or.inl (OutB.mk2 (k := 0) (pl := p1) (a := 0) (b := 0) (y1 := y1) (fun _ _ => rfl) rfl rfl (Ks.bi (sl := sl) (e := 0) (by omega)).fz rfl ⟨p1, hp1, r1.2.1.1⟩ (by omega) hp1 (by omega) (by omega))
end P

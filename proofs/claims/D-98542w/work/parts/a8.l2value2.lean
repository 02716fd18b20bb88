/-! PLAIN LAW: a value, read by both: alike -/
set_option maxRecDepth 100000
section P
variable {T : Nat} {bt : Nat → Int32} {sl : Nat} {y : Nat → Bl} {s : Bl} {p c d e : Nat}
theorem OutB.mk2 {α : Type} {o : Option (Cn α)} {o3 : Option Bl} {y1 : Nat → Bl} {s' : Bl} {k pl a b : Nat} (hy : ∀ j, j ≠ 14 → y1 j = y j) (ho : o = some (.inl (flt y1 (Int32.ofNat k) (Int32.ofNat pl)), (a, b))) (h3 : o3 = some s') (hz : Fz sl s s') (h33 : s'.1 33 = fcd k pl) (hp : ∃ p2, p2 ≤ T ∧ s'.1 32 = Int32.ofNat p2) (hk : k ≤ 4) (hpl : pl ≤ T) (ha : a + p ≤ T) (hb : b + 3 * p ≤ 3 * T) : OutB T sl y s p o o3 :=
  ⟨_, k, pl, (a, b), s', ho, h3, fun j h1 h2 => (flt_ne h1).trans (hy j h2), flt_13, hz, h33, hp, ⟨hk, hpl⟩, ha, hb⟩
theorem RdS.cnt {y : Nat → Bl} (h : RdS T bt sl y s p c d e) (hc : c < 60) : RdS T bt sl (upX y 14 (bI (y 14) 4 (Int32.ofNat (c + 1)))) (bI s 38 (Int32.ofNat (c + 1))) p (c + 1) d e := by
  obtain ⟨⟨a1, a2, a3⟩, ⟨b1, b2, b3, b4, b5, b6, b7⟩, ⟨c1, c2, c3, c4⟩, t1, t2⟩ := h
  refine ⟨⟨by rw [upX_self]; exact a1, by rw [upX_self]; exact a2, by rw [upX_self]; exact bI_v⟩, ⟨b1, b2, b3, b4, b5, bI_v, b7⟩, ⟨c1, by omega, c3, by omega⟩, ?_, t2⟩
  unfold TpO; rw [upX_ne (by decide)]; exact t1
theorem Ky.cnt {y : Nat → Bl} {v : Int32} {f : Nat} (hf : f ≠ 5) : Ky y (upX y 14 (bI (y 14) f v)) := ⟨fun j hj => upX_ne hj, by rw [upX_self]; simp [bI, Ne.symm hf]⟩
theorem f3_wordOf_eq {k : Nat} (hk : k < 12) : f3_wordOf (Int32.ofNat k) = some (7 + k) := (by decide : ∀ k, k < 12 → f3_wordOf (Int32.ofNat k) = some (7 + k)) k hk
theorem f3_find_eq (hB : TpB T bt) (hM : TpM s T bt) (hp : p ≤ T) (h2 : s.1 32 = Int32.ofNat p) (h40 : s.1 40 = 12) {v1 : Int32} : loop (g3_value_38 s v1) FU (0 : Int32) = g3_value_63 s v1 (Int32.ofNat (wdK T bt p 12 7)) := by
  have hl := fsN_le (fun k => isW T bt p (7 + k)) 12
  have hs := fsN_spec (fun k => isW T bt p (7 + k)) 12
  have one : ∀ (K : Int32 → Option Bl) (k : Nat), k < 12 → g3_value_38 s v1 K (Int32.ofNat k) = if isW T bt p (7 + k) = true then g3_value_63 s v1 (Int32.ofNat k) else K (Int32.ofNat (k + 1)) := by
    intro K k hk
    unfold g3_value_38
    rw [h40, show (12 : Int32) = Int32.ofNat 12 from rfl, zif_le (by omega) (by omega), if_neg (by omega), f3_wordOf_eq hk, bnd_s, f3_stood_eq hB hM hp h2 (by omega), bnd_s, if_bit, zI_succ]
  refine loop_seq (fun k => Int32.ofNat k) (wdK T bt p 12 7) (by unfold wdK; omega) ?_ ?_
  · intro K k hk
    unfold wdK at hk
    rw [one K k (by omega), hs.1 k hk]; rfl
  · intro K
    by_cases cw : wdK T bt p 12 7 < 12
    · have hb2 : isW T bt p (7 + wdK T bt p 12 7) = true := hs.2 cw
      rw [one K _ cw, hb2, if_pos rfl]
    · have e : wdK T bt p 12 7 = 12 := by unfold wdK at cw ⊢; omega
      rw [e]
      unfold g3_value_38
      rw [h40, if_pos (show (12 : Int32) ≤ Int32.ofNat 12 by decide)]
theorem wdK_at {n b : Nat} (h : wdK T bt p n b < n) : isW T bt p (b + wdK T bt p n b) = true := (fsN_spec (fun k => isW T bt p (b + k)) n).2 h
theorem value_sim (hB : TpB T bt) (hsl : sl < 6) (h : RdS T bt sl y s p c d e) : OutV T bt sl (fun f : Vf => f.1) y s p c d e e 1 False (f4_value y) (f3_value s) := by
  have hT := hB.1
  have hp := h.2.2.1.1
  have hc := h.2.2.1.2.1
  have he := h.2.2.1.2.2.2
  have hq := skp_le (bt := bt) hp
  have hqp := skp_ge (T := T) (bt := bt) (p := p)
  have hqq := skp_skp (T := T) (bt := bt) (p := p)
  have hR := h.mv hqp hq
  unfold f4_value f3_value
  rw [f4_see_eq hB h.2.2.2.1 hp h.1.1, f3_blanks_eq hB h.2.2.2.2 hp h.2.1.1, bnd2_s, bnd_s, nx_at, ps_at]
  generalize skp T bt p = q at hq hqp hqq hR ⊢
  have hOq := hR.2.2.2.1
  have hMq := hR.2.2.2.2
  rw [f4_isDigit_eq hB hOq hq, f3_isDigit_eq hB hMq hq ps_at, bnd_s, bnd_s]
  have hy1 : ∀ j, j ≠ 14 → (nx y q) j = y j := fun j hj => nx_ne hj
  cases hdg : dgB T bt q with
  | true =>
    rw [if_neg (by decide), if_neg (by decide), f4_number_eq hB hOq hq nx_at, f3_digits_eq hB hMq hq ps_at hdg, hqq, hdg, if_pos rfl]
    have hn := dgN_le (bt := bt) hq
    have hn0 := dgN_pos hdg
    have hv := vN_max (p := q) hB (Nat.le_refl (dgN T bt q))
    have hok : okN 0 99999 (dgN T bt q) (vN bt q (dgN T bt q)) = decide (dgN T bt q ≤ 5) := by
      unfold okN
      rw [decide_eq_true (show (0 : Int32) ≤ Int32.ofNat (vN bt q (dgN T bt q)) by rw [zI_pos (by omega)]; trivial), decide_eq_true (show Int32.ofNat (vN bt q (dgN T bt q)) ≤ 99999 by
        have : (Int32.ofNat (vN bt q (dgN T bt q)) ≤ Int32.ofNat 99999) = (vN bt q (dgN T bt q) ≤ 99999) := zI_le (by omega) (by omega)
        show Int32.ofNat (vN bt q (dgN T bt q)) ≤ Int32.ofNat 99999
        rw [this]; exact hv), Bool.and_self, Bool.and_true]
    rw [hok, nx_nx, ps_ps]
    generalize vN bt q (dgN T bt q) = v at hv ⊢
    generalize hnn : dgN T bt q = n at hn hn0 ⊢
    by_cases c5 : n ≤ 5
    · rw [if_pos (decide_eq_true c5), if_pos c5, bnd2_s]
      have hR2 := h.mv (show p ≤ q + n by omega) hn
      show OutV T bt sl (fun f : Vf => f.1) y s p c d e e 1 False (bndXc (f4_makes (nx y (q + n)) (Int32.ofNat q)) (fun s3 => some (.inr ((fun _ => (Int32.ofNat v).toInt64, 1), s3), (1, 1)))) _
      rw [f4_makes_eq hR2.1.2.2 hc, f3_isCounted_good hR2.2.1.2.1 hR2.2.1.2.2.2.2.2.1 hc, bnd_s]
      by_cases c60 : c = 60
      · rw [if_pos c60, if_pos c60]
        have hz : ¬ (bI (bI (ps s (q + n)) 33 (fcd 3 q)) 38 (Int32.ofNat (c + 1))).1 33 = 0 := (fcd_nz (k := 3) (by omega) (by omega)).1
        rw [f3_entry_bad hz, bnd_s]
        exact Or.inl (OutB.mk2 (k := 3) (pl := q) (a := 0) (b := 0) (y1 := nx y (q + n)) (fun j hj => nx_ne hj) rfl rfl ((Ks.ps.trans (Ks.bi (sl := sl) (e := 0) (by omega)) (Nat.le_refl 0)).trans (Ks.bi (sl := sl) (e := 0) (by omega)) (Nat.le_refl 0)).fz rfl ⟨q + n, hn, ps_at (s := s)⟩ (by omega) hq (by omega) (by omega))
      · rw [if_neg c60, if_neg c60]
        have hR3 := hR2.cnt (by omega)
        rw [f3_entry_good hR3.2.1.2.1 hR3.2.1.2.2.1 hR3.2.1.2.2.2.1 hsl (by omega), bnd_s]
        have hR4 := hR3.entry (k := 0) (n := Int32.ofNat v) (by omega)
        refine Or.inr ⟨_, _, (1, 1), _, q + n, c + 1, e + 1, rfl, rfl, hR4, Ky.nx.trans (Ky.cnt (by decide)), ((Ks.ps.trans (Ks.bi (sl := sl) (e := e) (by omega)) (Nat.le_refl e)).trans (enS_ks (Nat.le_refl e)) (Nat.le_refl e)), ?_, ⟨by dsimp only; omega, by dsimp only; omega⟩, ⟨by omega, by omega⟩, by omega, False.elim⟩
        have e1 : soA (enS (bI (ps s (q + n)) 38 (Int32.ofNat (c + 1))) sl e 0 (Int32.ofNat v)).2.1 sl e = 0 := by rw [enS_so, if_pos rfl]
        have e2 : nuA (enS (bI (ps s (q + n)) 38 (Int32.ofNat (c + 1))) sl e 0 (Int32.ofNat v)).2.1 sl e = Int32.ofNat v := by rw [enS_nu, if_pos rfl]
        have := EV.num (nu := nuA (enS (bI (ps s (q + n)) 38 (Int32.ofNat (c + 1))) sl e 0 (Int32.ofNat v)).2.1 sl) e1
        rw [e2] at this
        exact this
    · rw [decide_eq_false c5, if_neg (by decide), if_neg c5]
      have hR2 := h.mv (show p ≤ q + n by omega) hn
      rw [show (1 : Int32) = Int32.ofNat 1 from rfl, f3_fails_good hR2.2.1.2.1, bnd_s, bnd2_s]
      have hz1 : ¬ (bI (ps s (q + n)) 33 (fcd 1 q)).1 33 = 0 := (fcd_nz (k := 1) (by omega) (by omega)).1
      rw [f3_isCounted_bad hz1, bnd_s]
      have hz2 : ¬ (bI (bI (ps s (q + n)) 33 (fcd 1 q)) 38 ((bI (ps s (q + n)) 33 (fcd 1 q)).1 38 + 1)).1 33 = 0 := hz1
      rw [f3_entry_bad hz2, bnd_s]
      exact Or.inl (OutB.mk2 (k := 1) (pl := q) (a := 0) (b := 0) (y1 := nx y (q + n)) (fun j hj => nx_ne hj) rfl rfl ((Ks.ps.trans (Ks.bi (sl := sl) (e := 0) (by omega)) (Nat.le_refl 0)).trans (Ks.bi (sl := sl) (e := 0) (by omega)) (Nat.le_refl 0)).fz rfl ⟨q + n, hn, ps_at (s := s)⟩ (by omega) hq (by omega) (by omega))
  | false =>
    rw [if_pos (show b2 false = 0 from rfl), if_pos (show b2 false = 0 from rfl), f4_oneOf_eq hB hOq hq nx_at (by omega) (by omega), hqq, nx_nx, bnd2_s, f3_find_eq hB hMq hq ps_at hR.2.1.2.2.2.2.2.2]
    have hwl : wdK T bt q 12 7 ≤ 12 := fsN_le _ _
    by_cases cw : wdK T bt q 12 7 < 12
    · have hw := isW_len hq (wdK_at cw)
      generalize wdK T bt q 12 7 = w at cw hw hwl ⊢
      have hlen : 0 < (sBy (7 + w)).length := (by decide : ∀ w, w < 12 → 0 < (sBy (7 + w)).length) w cw
      rw [if_pos cw, if_neg (nat_m1 (by omega)), f4_demand_t]
      show OutV T bt sl (fun f : Vf => f.1) y s p c d e e 1 False (bndXc (f4_makes (nx y q) (Int32.ofNat q)) (fun s4 => chk (inB (Int32.ofNat w) 12) (chk (decide (7 + (Int32.ofNat w).toNatClampNeg < 23)) (some (.inr ((fun wds => wds (Int32.ofNat w).toNatClampNeg, 1), upX s4 14 (bI (s4 14) 2 ((s4 14).1 2 + Int32.ofNat (sBy (7 + (Int32.ofNat w).toNatClampNeg)).length))), (1, 1)))))) _
      have hwi : inB (Int32.ofNat w) 12 = true := zI_in cw (by decide)
      have nw : (Int32.ofNat w).toNatClampNeg = w := zI_nat (by omega)
      unfold g3_value_63
      rw [f4_makes_eq hR.1.2.2 hc, hR.2.1.2.2.2.2.2.2, show (12 : Int32) = Int32.ofNat 12 from rfl, zif_eq (by omega) (by omega), if_neg (show ¬ w = 12 by omega), f3_isCounted_good hR.2.1.2.1 hR.2.1.2.2.2.2.2.1 hc, bnd_s, f3_wordOf_eq cw, bnd_s, chk_h (decide_eq_true (show 7 + w < 23 by omega)), nw]
      by_cases c60 : c = 60
      · rw [if_pos c60, if_pos c60]
        have e32 : (bI (bI (ps s q) 33 (fcd 3 q)) 38 (Int32.ofNat (c + 1))).1 32 + Int32.ofNat (sBy (7 + w)).length = Int32.ofNat (q + (sBy (7 + w)).length) := by
          show (ps s q).1 32 + _ = _
          rw [ps_at, ← Int32.ofNat_add]
        rw [e32]
        have hz : ¬ (bI (bI (bI (ps s q) 33 (fcd 3 q)) 38 (Int32.ofNat (c + 1))) 32 (Int32.ofNat (q + (sBy (7 + w)).length))).1 33 = 0 := (fcd_nz (k := 3) (by omega) (by omega)).1
        rw [f3_entry_bad hz, bnd_s]
        exact Or.inl (OutB.mk2 (k := 3) (pl := q) (a := 0) (b := 0) (y1 := nx y q) (fun j hj => nx_ne hj) rfl rfl (((Ks.ps.trans (Ks.bi (sl := sl) (e := 0) (by omega)) (Nat.le_refl 0)).trans (Ks.bi (sl := sl) (e := 0) (by omega)) (Nat.le_refl 0)).trans (Ks.bi (sl := sl) (e := 0) (by omega)) (Nat.le_refl 0)).fz rfl ⟨_, hw, bI_v⟩ (by omega) hq (by omega) (by omega))
      · rw [if_neg c60, if_neg c60]
        have hR3 := hR.cnt (by omega)
        have hR4 := hR3.mv (show q ≤ q + (sBy (7 + w)).length by omega) hw
        have e32 : (bI (ps s q) 38 (Int32.ofNat (c + 1))).1 32 + Int32.ofNat (sBy (7 + w)).length = Int32.ofNat (q + (sBy (7 + w)).length) := by
          show (ps s q).1 32 + _ = _
          rw [ps_at, ← Int32.ofNat_add]
        rw [e32]
        have e33 : f3_entry (bI (bI (ps s q) 38 (Int32.ofNat (c + 1))) 32 (Int32.ofNat (q + (sBy (7 + w)).length))) 1 (Int32.ofNat w) = some (enS (ps (bI (ps s q) 38 (Int32.ofNat (c + 1))) (q + (sBy (7 + w)).length)) sl e 1 (Int32.ofNat w)) := f3_entry_good hR4.2.1.2.1 hR4.2.1.2.2.1 hR4.2.1.2.2.2.1 hsl (by omega)
        rw [e33, bnd_s]
        have hR5 := hR4.entry (k := 1) (n := Int32.ofNat w) (by omega)
        show OutV T bt sl (fun f : Vf => f.1) y s p c d e e 1 False (chk (inB (Int32.ofNat w) 12) (chk (decide (7 + w < 23)) _)) _
        rw [chk_h hwi, chk_h (decide_eq_true (show 7 + w < 23 by omega)), hR3.1.1, ← Int32.ofNat_add]
        refine Or.inr ⟨_, _, (1, 1), _, q + (sBy (7 + w)).length, c + 1, e + 1, rfl, rfl, hR5, (Ky.nx.trans (Ky.cnt (by decide))).trans Ky.nx, (((Ks.ps.trans (Ks.bi (sl := sl) (e := e) (by omega)) (Nat.le_refl e)).trans Ks.ps (Nat.le_refl e)).trans (enS_ks (Nat.le_refl e)) (Nat.le_refl e)), ?_, ⟨by dsimp only; omega, by dsimp only; omega⟩, ⟨by omega, by omega⟩, by omega, False.elim⟩
        have e1 : soA (enS (ps (bI (ps s q) 38 (Int32.ofNat (c + 1))) (q + (sBy (7 + w)).length)) sl e 1 (Int32.ofNat w)).2.1 sl e = 1 := by rw [enS_so, if_pos rfl]
        have e2 : nuA (enS (ps (bI (ps s q) 38 (Int32.ofNat (c + 1))) (q + (sBy (7 + w)).length)) sl e 1 (Int32.ofNat w)).2.1 sl e = Int32.ofNat w := by rw [enS_nu, if_pos rfl]
        have := EV.word (nu := nuA (enS (ps (bI (ps s q) 38 (Int32.ofNat (c + 1))) (q + (sBy (7 + w)).length)) sl e 1 (Int32.ofNat w)).2.1 sl) e1 (by rw [e2]; exact hwi)
        rw [e2, nw] at this
        exact this
    · have ew : wdK T bt q 12 7 = 12 := by omega
      rw [if_neg cw, if_pos rfl, f4_demand_f, ew]
      unfold g3_value_63
      rw [hR.2.1.2.2.2.2.2.2, if_pos (show Int32.ofNat 12 = 12 from rfl), show (0 : Int32) = Int32.ofNat 0 from rfl, f3_fails_good hR.2.1.2.1, bnd_s]
      exact Or.inl (OutB.mk2 (k := 0) (pl := q) (a := 0) (b := 0) (y1 := nx y q) (fun j hj => nx_ne hj) rfl rfl (Ks.ps.trans (Ks.bi (sl := sl) (e := 0) (by omega)) (Nat.le_refl 0)).fz rfl ⟨q, hq, ps_at (s := s)⟩ (by omega) hq (by omega) (by omega))
end P

/-! PLAIN LAW: a clause, read by both -/
set_option maxRecDepth 100000
section P
variable {T : Nat} {bt : Nat → Int32} {sl : Nat} {y : Nat → Bl} {s : Bl} {p c d e : Nat}
theorem RdS.many {y : Nat → Bl} {v : Int32} (h : RdS T bt sl y s p c d e) : RdS T bt sl (upX y 14 (bI (y 14) 5 v)) s p c d e := by
  obtain ⟨⟨a1, a2, a3⟩, b, cx, t1, t2⟩ := h
  refine ⟨⟨by rw [upX_self]; exact a1, by rw [upX_self]; exact a2, by rw [upX_self]; exact a3⟩, b, cx, ?_, t2⟩
  unfold TpO; rw [upX_ne (by decide)]; exact t1
theorem RdS.arr {k i : Nat} {v : Int32} (h : RdS T bt sl y s p c d e) (hk : k ≠ 41) : RdS T bt sl y (bA s k i v) p c d e := by
  obtain ⟨a, b, cx, t1, t2⟩ := h
  exact ⟨a, b, cx, t1, ⟨t2.1, fun j hj => by rw [← t2.2 j hj]; simp [bA, bS, Ne.symm hk]⟩⟩
/-- what reading a clause may change -/
def Kc (sl n e : Nat) (s s' : Bl) : Prop := (∀ f, f < 32 ∨ 39 < f ∨ f = 34 ∨ f = 35 → s'.1 f = s.1 f) ∧ (∀ k, k < 42 ∨ k = 44 ∨ 48 < k → s'.2.1 k = s.2.1 k) ∧ (∀ i, i < 300 * sl + e → s'.2.1 42 i = s.2.1 42 i ∧ s'.2.1 43 i = s.2.1 43 i) ∧ (∀ i, ¬ i = 12 * sl + n → s'.2.1 45 i = s.2.1 45 i ∧ s'.2.1 46 i = s.2.1 46 i ∧ s'.2.1 47 i = s.2.1 47 i) ∧ s'.2.2 = s.2.2
theorem Kc.of {n e1 : Nat} {s s' : Bl} (h : Kt sl e1 s s') (he : e ≤ e1) : Kc sl n e s s' := ⟨h.1, fun k hk => h.2.1 k (by omega) (by omega) (by omega), fun i hi => h.2.2.1 i (by omega), fun i _ => by rw [h.2.1 45 (by decide) (by decide) (by decide), h.2.1 46 (by decide) (by decide) (by decide), h.2.1 47 (by decide) (by decide) (by decide)]; exact ⟨rfl, rfl, rfl⟩, h.2.2.2⟩
theorem Kc.trans {n : Nat} {s t u : Bl} (h : Kc sl n e s t) (k : Kc sl n e t u) : Kc sl n e s u := ⟨fun f h1 => (k.1 f h1).trans (h.1 f h1), fun f h1 => (k.2.1 f h1).trans (h.2.1 f h1), fun i hi => ⟨(k.2.2.1 i hi).1.trans (h.2.2.1 i hi).1, (k.2.2.1 i hi).2.trans (h.2.2.1 i hi).2⟩, fun i hi => ⟨(k.2.2.2.1 i hi).1.trans (h.2.2.2.1 i hi).1, (k.2.2.2.1 i hi).2.1.trans (h.2.2.2.1 i hi).2.1, (k.2.2.2.1 i hi).2.2.trans (h.2.2.2.1 i hi).2.2⟩, k.2.2.2.2.trans h.2.2.2.2⟩
theorem Kc.at {n k : Nat} {s : Bl} {v : Int32} (hk : k = 45 ∨ k = 46 ∨ k = 47) : Kc sl n e s (bA s k (12 * sl + n) v) := by
  refine ⟨fun _ _ => rfl, fun f h => ?_, fun i _ => ?_, fun i hi => ?_, rfl⟩
  · have : ¬ f = k := by omega
    simp [bA, bS, this]
  · have h1 : ¬ 42 = k := by omega
    have h2 : ¬ 43 = k := by omega
    simp [bA, bS, h1, h2]
  · rcases hk with rfl | rfl | rfl <;> simp [bA, bS, upd, hi]
theorem Kc.fz {n : Nat} {s s' : Bl} (h : Kc sl n e s s') : Fz sl s s' := ⟨fun f hf => h.1 f (by omega), fun k hk => h.2.1 k (by omega), fun i hi => h.2.2.1 i (by omega), fun i hi => h.2.2.2.1 i (by omega), fun i hi => by rw [h.2.1 44 (by omega)], h.2.2.2.2⟩
theorem f3_takes_eq (hB : TpB T bt) (hM : TpM s T bt) (hp : p ≤ T) (h2 : s.1 32 = Int32.ofNat p) {k : Nat} (hk : k < 23) : f3_takes s k = some (if isW T bt (skp T bt p) k = true then ((1 : Int32), ps s (skp T bt p + (sBy k).length)) else ((0 : Int32), ps s (skp T bt p))) := by
  have hq := skp_le (bt := bt) hp
  unfold f3_takes
  rw [f3_blanks_eq hB hM hp h2, bnd_s, f3_stood_eq hB hM.ps hq ps_at hk, bnd_s, if_bit, chk_h (decide_eq_true hk), chk_h (isB_b2 _), ps_at, Int32.add_zero, ← Int32.ofNat_add]
  cases isW T bt (skp T bt p) k with
  | true => show some ((1 : Int32), bI (ps s (skp T bt p)) 32 (Int32.ofNat (skp T bt p + (sBy k).length))) = _; rw [show bI (ps s (skp T bt p)) 32 (Int32.ofNat (skp T bt p + (sBy k).length)) = ps s (skp T bt p + (sBy k).length) from ps_ps]; rfl
  | false => show some ((0 : Int32), bI (ps s (skp T bt p)) 32 (Int32.ofNat (skp T bt p))) = _; rw [show bI (ps s (skp T bt p)) 32 (Int32.ofNat (skp T bt p)) = ps s (skp T bt p) from ps_ps]; rfl
/-- the Model's clause from its sum on -/
def m3_cl (s0 : Bl) (ix : Int32) : Option Bl := ltv (bA s0 45 ix.toNatClampNeg (s0.1 36)) (fun s3 => bnd (f3_sum s3) (fun s4 => chk (inB ix 72) (if (bA s4 46 ix.toNatClampNeg (s4.1 36)).1 33 = 0 then bnd2 (f3_takes (bA s4 46 ix.toNatClampNeg (s4.1 36)) 19) (fun r6 s6 => if r6 = 0 then chk (inB ix 72) (some (bA s6 47 ix.toNatClampNeg (s6.1 36))) else bnd (f3_test s6) (fun s7 => chk (inB ix 72) (some (bA s7 47 ix.toNatClampNeg (s7.1 36))))) else chk (inB ix 72) (ltv (bA (bA s4 46 ix.toNatClampNeg (s4.1 36)) 47 ix.toNatClampNeg ((bA s4 46 ix.toNatClampNeg (s4.1 36)).1 36)) (fun s5 => some s5)))))
theorem clause_sim {n nn : Nat} (hnn : 11 ≤ nn) (hB : TpB T bt) (hsl : sl < 6) (hn : n < 12) (h : RdS T bt sl y s p c 0 e) : (∃ (y' : Nat → Bl) (k pl : Nat) (cn : Nat × Nat) (s' : Bl), f4_clauseHere nn y = some (.inl y', cn) ∧ m3_cl s (Int32.ofNat (12 * sl + n)) = some s' ∧ (∀ j, j ≠ 13 → j ≠ 14 → y' j = y j) ∧ ((y' 13).1 6 = Int32.ofNat k ∧ (y' 13).1 7 = Int32.ofNat pl) ∧ Fz sl s s' ∧ s'.1 33 = fcd k pl ∧ (∃ p2, p2 ≤ T + 1 ∧ s'.1 32 = Int32.ofNat p2) ∧ (k ≤ 4 ∧ pl ≤ T) ∧ cn.1 + p ≤ T + 1 ∧ cn.2 + 3 * p ≤ 3 * T + 2) ∨ (∃ (y' : Nat → Bl) (f : Cf) (cn : Nat × Nat) (s' : Bl) (p' c' e' : Nat), f4_clauseHere nn y = some (.inr (f, y'), cn) ∧ m3_cl s (Int32.ofNat (12 * sl + n)) = some s' ∧ RdS T bt sl y' s' p' c' 0 e' ∧ Ky y y' ∧ Kc sl n e s s' ∧ (∃ p q e1, s'.2.1 45 (12 * sl + n) = Int32.ofNat p ∧ s'.2.1 46 (12 * sl + n) = Int32.ofNat q ∧ s'.2.1 47 (12 * sl + n) = Int32.ofNat e1 ∧ CU f.1 (soA s'.2.1 sl) (nuA s'.2.1 sl) p q e1 ∧ e1 ≤ e') ∧ (cn.1 + p ≤ p' + 1 ∧ cn.2 + 3 * p ≤ 3 * p' + 2) ∧ e ≤ e' ∧ skp T bt p' = p') := by
  have hT := hB.1
  have hix : inB (Int32.ofNat (12 * sl + n)) 72 = true := zI_in (by omega) (by decide)
  have nix : (Int32.ofNat (12 * sl + n)).toNatClampNeg = 12 * sl + n := zI_nat (by omega)
  have h0 := h.arr (k := 45) (i := 12 * sl + n) (v := Int32.ofNat e) (by decide)
  have kc0 : Kc sl n e s (bA s 45 (12 * sl + n) (Int32.ofNat e)) := Kc.at (Or.inl rfl)
  have a0 : (bA s 45 (12 * sl + n) (Int32.ofNat e)).2.1 45 (12 * sl + n) = Int32.ofNat e := by simp [bA, bS, upd]
  unfold f4_clauseHere m3_cl
  rw [ltv_s, nix, h.2.1.2.2.2.1]
  generalize bA s 45 (12 * sl + n) (Int32.ofNat e) = s3 at h0 kc0 a0 ⊢
  rcases sum_sim hB hsl h0 with ⟨y', k, pl, cn, s4, h1, h2, h3, h4, h5, h6, ⟨p2, h7, h7'⟩, h8, h9, h10⟩ | ⟨y1, v, cn, s4, p1, c1, e1, o1, o3, r1, k1, k2, k3, ⟨k4, k5⟩, ⟨k6, k6'⟩, k7, k8⟩
  · left
    rw [h1, h2, bnd_s, chk_h hix]
    have hb : ¬ (bA s4 46 (12 * sl + n) (s4.1 36)).1 33 = 0 := by
      show ¬ s4.1 33 = 0
      rw [h6]; exact (fcd_nz h8.1 (by omega)).1
    rw [if_neg hb, chk_h hix, ltv_s]
    have kz : Fz sl s4 (bA (bA s4 46 (12 * sl + n) (s4.1 36)) 47 (12 * sl + n) ((bA s4 46 (12 * sl + n) (s4.1 36)).1 36)) := ((Kc.at (sl := sl) (n := n) (e := 0) (by omega)).trans (Kc.at (by omega))).fz
    exact ⟨y', k, pl, (1 + cn.1, 2 + cn.2), _, rfl, rfl, h3, h4, (kc0.fz.trans h5).trans kz, h6, ⟨p2, by omega, h7'⟩, h8, by dsimp only; omega, by dsimp only; omega⟩
  · rw [o1, o3, bnd_s, chk_h hix]
    have hb3 := h.2.2.1
    have hr1 := r1.2.2.1
    have hqq := k8 trivial
    have r2 := r1.arr (k := 46) (i := 12 * sl + n) (v := Int32.ofNat e1) (by decide)
    rw [r1.2.1.2.2.2.1]
    have kc1 : Kc sl n e s (bA s4 46 (12 * sl + n) (Int32.ofNat e1)) := (kc0.trans (Kc.of k2.kt (Nat.le_refl e))).trans (Kc.at (Or.inr (Or.inl rfl)))
    have a45 : (bA s4 46 (12 * sl + n) (Int32.ofNat e1)).2.1 45 (12 * sl + n) = Int32.ofNat e := by
      show s4.2.1 45 (12 * sl + n) = _
      rw [k2.2.1 45 (by decide) (by decide)]; exact a0
    have a46 : (bA s4 46 (12 * sl + n) (Int32.ofNat e1)).2.1 46 (12 * sl + n) = Int32.ofNat e1 := by simp [bA, bS, upd]
    have ev1 : EV (soA (bA s4 46 (12 * sl + n) (Int32.ofNat e1)).2.1 sl) (nuA (bA s4 46 (12 * sl + n) (Int32.ofNat e1)).2.1 sl) e e1 v.1 := k3
    generalize bA s4 46 (12 * sl + n) (Int32.ofNat e1) = s5 at r2 kc1 a45 a46 ev1 ⊢
    rw [if_pos r2.2.1.2.1, f3_takes_eq hB r2.2.2.2.2 hr1.1 r2.2.1.1 (by omega), hqq]
    show (∃ (y' : Nat → Bl) (k pl : Nat) (cn' : Nat × Nat) (s' : Bl), cnt 1 2 (cnt cn.1 cn.2 (bnd2 (f4_takesWord y1 19) _)) = some (.inl y', cn') ∧ _) ∨ (∃ (y' : Nat → Bl) (f : Cf) (cn' : Nat × Nat) (s' : Bl) (p' c' e' : Nat), cnt 1 2 (cnt cn.1 cn.2 (bnd2 (f4_takesWord y1 19) _)) = some (.inr (f, y'), cn') ∧ _)
    rw [f4_takesWord_eq hB r1.2.2.2.1 hr1.1 r1.1.1 (by omega), hqq]
    cases hw : isW T bt p1 19 with
    | false =>
      right
      simp only [Bool.false_eq_true, if_false]
      rw [bnd2_s, bnd2_s, if_pos rfl, if_pos rfl, chk_h hix, nx_id r1.1.1, ps_id r2.2.1.1, r2.2.1.2.2.2.1]
      have r3 := r2.arr (k := 47) (i := 12 * sl + n) (v := Int32.ofNat e1) (by decide)
      exact ⟨y1, ((v.1, none), v.2), (1 + (cn.1 + 0), 2 + (cn.2 + 0)), _, p1, c1, e1, rfl, rfl, r3, k1, kc1.trans (Kc.at (Or.inr (Or.inr rfl))), ⟨e, e1, e1, a45, a46, by simp [bA, bS, upd], ⟨ev1, Nat.le_refl _, by omega, rfl⟩, Nat.le_refl _⟩, ⟨by dsimp only; omega, by dsimp only; omega⟩, k6', hqq⟩
    | true =>
      have h2 : p1 + 2 ≤ T := isW_len hr1.1 hw
      have r3 := r2.mv (show p1 ≤ p1 + 2 by omega) h2
      simp only [if_true]
      rw [bnd2_s, bnd2_s, if_neg (show ¬ (1 : Int32) = 0 by decide), if_neg (show ¬ (1 : Int32) = 0 by decide)]
      rcases test_sim hnn hB hsl r3 with ⟨y', k, pl, cn2, s7, t1, t2, t3, t4, t5, t6, t7, t8, t9, t10⟩ | ⟨y', f, cn2, s7, p', c', e', t1, t2, t3, t4, t5, t6, ⟨t7, t7'⟩, ⟨t8, t8'⟩, t9, t10⟩
      · left
        have e2 : f4_tested nn (nx y1 (p1 + (sBy 19).length)) = some (.inl y', cn2) := t1
        have e3 : f3_test (ps s5 (p1 + (sBy 19).length)) = some s7 := t2
        rw [e2, e3, bnd_s, chk_h hix]
        exact ⟨y', k, pl, (1 + (cn.1 + cn2.1), 2 + (cn.2 + cn2.2)), _, rfl, rfl, fun j j1 j2 => ((t3 j j1 j2).trans (nx_ne j2)).trans (k1.1 j j2), t4, ((kc1.fz.trans (Ks.ps (e := 0)).fz).trans t5).trans (Kc.at (e := 0) (Or.inr (Or.inr rfl))).fz, t6, t7, t8, by dsimp only; omega, by dsimp only; omega⟩
      · right
        have e2 : f4_tested nn (nx y1 (p1 + (sBy 19).length)) = some (.inr (f, y'), cn2) := t1
        have e3 : f3_test (ps s5 (p1 + (sBy 19).length)) = some s7 := t2
        rw [e2, e3, bnd_s, chk_h hix, t3.2.1.2.2.2.1]
        have r4 := t3.arr (k := 47) (i := 12 * sl + n) (v := Int32.ofNat e') (by decide)
        have kt2 : Kt sl e1 s5 s7 := Ks.ps.kt.trans t5 (Nat.le_refl _)
        have ht3 := t3.2.2.1
        refine ⟨y', ((v.1, some f.1), max v.2 f.2), (1 + (cn.1 + (cn2.1 + 0)), 2 + (cn.2 + (cn2.2 + 0))), _, p', c', e', rfl, rfl, r4, (k1.trans Ky.nx).trans t4, (kc1.trans (Kc.of kt2 k6')).trans (Kc.at (Or.inr (Or.inr rfl))), ⟨e, e1, e', ?_, ?_, by simp [bA, bS, upd], ⟨kt2.ev ev1, t8', by omega, t6⟩, Nat.le_refl _⟩, ⟨by dsimp only; omega, by dsimp only; omega⟩, by omega, t10⟩
        · show s7.2.1 45 (12 * sl + n) = _
          rw [kt2.2.1 45 (by decide) (by decide) (by decide)]; exact a45
        · show s7.2.1 46 (12 * sl + n) = _
          rw [kt2.2.1 46 (by decide) (by decide) (by decide)]; exact a46
end P

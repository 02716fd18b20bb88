/-! PLAIN LAW: a value, read by both -/
set_option maxRecDepth 100000
/-- what reading a rule may change of the Model -/
def Fz (sl : Nat) (s s' : Bl) : Prop := (∀ f, (f < 32 ∨ f = 34 ∨ f = 35 ∨ 39 < f) → s'.1 f = s.1 f) ∧ (∀ k, (k < 19 ∨ k = 41 ∨ 48 < k) → s'.2.1 k = s.2.1 k) ∧ (∀ i, i < 300 * sl → s'.2.1 42 i = s.2.1 42 i ∧ s'.2.1 43 i = s.2.1 43 i) ∧ (∀ i, i < 12 * sl → s'.2.1 45 i = s.2.1 45 i ∧ s'.2.1 46 i = s.2.1 46 i ∧ s'.2.1 47 i = s.2.1 47 i) ∧ (∀ i, i < sl → s'.2.1 44 i = s.2.1 44 i) ∧ s'.2.2 = s.2.2
theorem Fz.refl {sl : Nat} {s : Bl} : Fz sl s s := ⟨fun _ _ => rfl, fun _ _ => rfl, fun _ _ => ⟨rfl, rfl⟩, fun _ _ => ⟨rfl, rfl, rfl⟩, fun _ _ => rfl, rfl⟩
theorem Fz.trans {sl : Nat} {s t u : Bl} (h : Fz sl s t) (k : Fz sl t u) : Fz sl s u := ⟨fun f hf => (k.1 f hf).trans (h.1 f hf), fun f hf => (k.2.1 f hf).trans (h.2.1 f hf), fun i hi => ⟨(k.2.2.1 i hi).1.trans (h.2.2.1 i hi).1, (k.2.2.1 i hi).2.trans (h.2.2.1 i hi).2⟩, fun i hi => ⟨(k.2.2.2.1 i hi).1.trans (h.2.2.2.1 i hi).1, (k.2.2.2.1 i hi).2.1.trans (h.2.2.2.1 i hi).2.1, (k.2.2.2.1 i hi).2.2.trans (h.2.2.2.1 i hi).2.2⟩, fun i hi => (k.2.2.2.2.1 i hi).trans (h.2.2.2.2.1 i hi), k.2.2.2.2.2.trans h.2.2.2.2.2⟩
/-- what reading up to a compare may change -/
def Ks (sl e : Nat) (s s' : Bl) : Prop := (∀ f, f ≠ 32 → f ≠ 33 → f ≠ 36 → f ≠ 38 → s'.1 f = s.1 f) ∧ (∀ k, k ≠ 42 → k ≠ 43 → s'.2.1 k = s.2.1 k) ∧ (∀ i, i < 300 * sl + e → s'.2.1 42 i = s.2.1 42 i ∧ s'.2.1 43 i = s.2.1 43 i) ∧ s'.2.2 = s.2.2
theorem Ks.refl {sl e : Nat} {s : Bl} : Ks sl e s s := ⟨fun _ _ _ _ _ => rfl, fun _ _ _ => rfl, fun _ _ => ⟨rfl, rfl⟩, rfl⟩
theorem Ks.trans {sl e e1 : Nat} {s t u : Bl} (h : Ks sl e s t) (k : Ks sl e1 t u) (he : e ≤ e1) : Ks sl e s u := ⟨fun f h1 h2 h3 h4 => (k.1 f h1 h2 h3 h4).trans (h.1 f h1 h2 h3 h4), fun f h1 h2 => (k.2.1 f h1 h2).trans (h.2.1 f h1 h2), fun i hi => ⟨(k.2.2.1 i (by omega)).1.trans (h.2.2.1 i hi).1, (k.2.2.1 i (by omega)).2.trans (h.2.2.1 i hi).2⟩, k.2.2.2.trans h.2.2.2⟩
theorem Ks.fz {sl e : Nat} {s s' : Bl} (h : Ks sl e s s') : Fz sl s s' := ⟨fun f hf => h.1 f (by omega) (by omega) (by omega) (by omega), fun k hk => h.2.1 k (by omega) (by omega), fun i hi => h.2.2.1 i (by omega), fun i hi => by rw [h.2.1 45 (by decide) (by decide), h.2.1 46 (by decide) (by decide), h.2.1 47 (by decide) (by decide)]; exact ⟨rfl, rfl, rfl⟩, fun i hi => by rw [h.2.1 44 (by decide) (by decide)], h.2.2.2⟩
theorem Ks.bi {sl e f : Nat} {s : Bl} {v : Int32} (hf : f = 32 ∨ f = 33 ∨ f = 36 ∨ f = 38) : Ks sl e s (bI s f v) := ⟨fun g h1 h2 h3 h4 => by
  have : ¬ g = f := by omega
  simp [bI, this], fun _ _ _ => rfl, fun _ _ => ⟨rfl, rfl⟩, rfl⟩
theorem Ks.ps {sl e p : Nat} {s : Bl} : Ks sl e s (ps s p) := Ks.bi (Or.inl rfl)
/-- what a text leaves -/
def Ky (y y' : Nat → Bl) : Prop := (∀ j, j ≠ 14 → y' j = y j) ∧ (y' 14).1 5 = (y 14).1 5
theorem Ky.refl {y : Nat → Bl} : Ky y y := ⟨fun _ _ => rfl, rfl⟩
theorem Ky.trans {x y z : Nat → Bl} (h : Ky x y) (k : Ky y z) : Ky x z := ⟨fun j hj => (k.1 j hj).trans (h.1 j hj), k.2.trans h.2⟩
theorem Ky.nx {y : Nat → Bl} {p : Nat} : Ky y (nx y p) := ⟨fun j hj => nx_ne hj, nx_f (by decide)⟩
/-- both read at p: c counted, d deep, e entries, no fault -/
def RdS (T : Nat) (bt : Nat → Int32) (sl : Nat) (y : Nat → Bl) (s : Bl) (p c d e : Nat) : Prop := ((y 14).1 2 = Int32.ofNat p ∧ (y 14).1 3 = Int32.ofNat d ∧ (y 14).1 4 = Int32.ofNat c) ∧ (s.1 32 = Int32.ofNat p ∧ s.1 33 = 0 ∧ s.1 34 = Int32.ofNat sl ∧ s.1 36 = Int32.ofNat e ∧ s.1 37 = Int32.ofNat d ∧ s.1 38 = Int32.ofNat c ∧ s.1 40 = 12) ∧ (p ≤ T ∧ c ≤ 60 ∧ d ≤ 10 ∧ 3 * e ≤ 6 * c + p) ∧ TpO y T bt ∧ TpM s T bt
theorem RdS.mv {T : Nat} {bt : Nat → Int32} {sl : Nat} {y : Nat → Bl} {s : Bl} {p c d e q : Nat} (h : RdS T bt sl y s p c d e) (h1 : p ≤ q) (h2 : q ≤ T) : RdS T bt sl (nx y q) (ps s q) q c d e := by
  obtain ⟨⟨a1, a2, a3⟩, ⟨b1, b2, b3, b4, b5, b6, b7⟩, ⟨c1, c2, c3, c4⟩, t1, t2⟩ := h
  exact ⟨⟨nx_at, by rw [nx_f (by decide)]; exact a2, by rw [nx_f (by decide)]; exact a3⟩, ⟨ps_at, by rw [ps_f (by decide)]; exact b2, by rw [ps_f (by decide)]; exact b3, by rw [ps_f (by decide)]; exact b4, by rw [ps_f (by decide)]; exact b5, by rw [ps_f (by decide)]; exact b6, by rw [ps_f (by decide)]; exact b7⟩, ⟨h2, c2, c3, by omega⟩, t1.nx, t2.ps⟩
section P
variable {α : Type} {T : Nat} {bt : Nat → Int32} {sl : Nat} {fn : α → (Nat → Int64) → Int64}
/-- thrown, and the Model's fault -/
def OutB (T sl : Nat) (y : Nat → Bl) (s : Bl) (p : Nat) {α : Type} (o : Option (Cn α)) (o3 : Option Bl) : Prop := ∃ (y' : Nat → Bl) (k pl : Nat) (cn : Nat × Nat) (s' : Bl), o = some (.inl y', cn) ∧ o3 = some s' ∧ (∀ j, j ≠ 13 → j ≠ 14 → y' j = y j) ∧ ((y' 13).1 6 = Int32.ofNat k ∧ (y' 13).1 7 = Int32.ofNat pl) ∧ Fz sl s s' ∧ s'.1 33 = fcd k pl ∧ (∃ p2, p2 ≤ T ∧ s'.1 32 = Int32.ofNat p2) ∧ (k ≤ 4 ∧ pl ≤ T) ∧ cn.1 + p ≤ T ∧ cn.2 + 3 * p ≤ 3 * T
def OutG (T : Nat) (bt : Nat → Int32) (sl : Nat) {α : Type} (fn : α → (Nat → Int64) → Int64) (y : Nat → Bl) (s : Bl) (p c d e e0 g : Nat) (sk : Prop) (o : Option (Cn α)) (o3 : Option Bl) : Prop := ∃ (y' : Nat → Bl) (f : α) (cn : Nat × Nat) (s' : Bl) (p' c' e' : Nat), o = some (.inr (f, y'), cn) ∧ o3 = some s' ∧ RdS T bt sl y' s' p' c' d e' ∧ Ky y y' ∧ Ks sl e s s' ∧ EV (soA s'.2.1 sl) (nuA s'.2.1 sl) e0 e' (fn f) ∧ (cn.1 + p ≤ p' ∧ cn.2 + 3 * p ≤ 3 * p') ∧ (c ≤ c' ∧ e ≤ e') ∧ 3 * e' + 6 * c + p + 3 * g ≤ 3 * e + 6 * c' + p' ∧ (sk → skp T bt p' = p')
def OutV (T : Nat) (bt : Nat → Int32) (sl : Nat) {α : Type} (fn : α → (Nat → Int64) → Int64) (y : Nat → Bl) (s : Bl) (p c d e e0 g : Nat) (sk : Prop) (o : Option (Cn α)) (o3 : Option Bl) : Prop := OutB T sl y s p o o3 ∨ OutG T bt sl fn y s p c d e e0 g sk o o3
theorem OutV.pre {sk : Prop} {y y1 : Nat → Bl} {s s1 : Bl} {p p1 c c1 d e e1 e0 g g1 a b : Nat} {o : Option (Cn α)} {o3 : Option Bl} (h : OutV T bt sl fn y1 s1 p1 c1 d e1 e0 g1 sk o o3) (hy : Ky y y1) (hs : Ks sl e s s1) (he : e ≤ e1) (hc : c ≤ c1) (ha : a + p ≤ p1) (hb : b + 3 * p ≤ 3 * p1) (hg : 3 * e1 + 6 * c + p + 3 * g ≤ 3 * e + 6 * c1 + p1 + 3 * g1) : OutV T bt sl fn y s p c d e e0 g sk (cnt a b o) o3 := by
  rcases h with ⟨y', k, pl, cn, s', h1, h2, h3, h4, h5, h6, h7, h8, h9, h10⟩ | ⟨y', f, cn, s', p', c', e', h1, h2, h3, h4, h5, h6, h7, h8, h9, h10⟩
  · refine Or.inl ⟨y', k, pl, (a + cn.1, b + cn.2), s', by rw [h1]; rfl, h2, fun j j1 j2 => (h3 j j1 j2).trans (hy.1 j j2), h4, hs.fz.trans h5, h6, h7, h8, by dsimp only; omega, by dsimp only; omega⟩
  · refine Or.inr ⟨y', f, (a + cn.1, b + cn.2), s', p', c', e', by rw [h1]; rfl, h2, h3, hy.trans h4, hs.trans h5 he, h6, ⟨by dsimp only; omega, by dsimp only; omega⟩, ⟨by omega, by omega⟩, by omega, h10⟩
theorem cnt_cnt {a b c d : Nat} {x : Option (Cn α)} : cnt a b (cnt c d x) = cnt (a + c) (b + d) x := by
  match x with
  | none => rfl
  | some (r, (u, v)) => show some (r, (a + (c + u), b + (d + v))) = some (r, (a + c + u, b + d + v)); rw [Nat.add_assoc, Nat.add_assoc]
theorem cnt_00 {x : Option (Cn α)} : cnt 0 0 x = x := by
  match x with
  | none => rfl
  | some (r, (a, b)) => show some (r, (0 + a, 0 + b)) = _; rw [Nat.zero_add, Nat.zero_add]
/-! what stays when there is a fault -/
def BdS (T : Nat) (s : Bl) : Prop := ¬ s.1 33 = 0 ∧ (∃ p, p ≤ T ∧ s.1 32 = Int32.ofNat p) ∧ s.1 40 = 12
theorem f3_entry_bad {s : Bl} {k n : Int32} (h : ¬ s.1 33 = 0) : f3_entry s k n = some s := by
  unfold f3_entry; rw [if_neg h]
theorem f3_isCounted_bad {s : Bl} {pl : Int32} (h : ¬ s.1 33 = 0) : f3_isCounted s pl = some (bI s 38 (s.1 38 + 1)) := by
  unfold f3_isCounted
  rw [f3_fails_bad h, bnd_s]
  split <;> rfl
theorem f3_entry_good {s : Bl} {k n : Int32} {e : Nat} (h : s.1 33 = 0) (h4 : s.1 34 = Int32.ofNat sl) (h6 : s.1 36 = Int32.ofNat e) (hs : sl < 6) (he : e < 300) : f3_entry s k n = some (bI (bA (bA s 42 (300 * sl + e) k) 43 (300 * sl + e) n) 36 (Int32.ofNat (e + 1))) := by
  have eix : (300 : Int32) * Int32.ofNat sl + Int32.ofNat e = Int32.ofNat (300 * sl + e) := by
    rw [show (300 : Int32) = Int32.ofNat 300 from rfl, ← Int32.ofNat_mul, ← Int32.ofNat_add]
  have hin : inB (Int32.ofNat (300 * sl + e)) 1800 = true := zI_in (by omega) (by decide)
  unfold f3_entry
  rw [if_pos h, h4, h6, eix]
  show chk (inB (Int32.ofNat (300 * sl + e)) 1800) (chk (inB (300 * s.1 34 + s.1 36) 1800) (ltv (bA (bA s 42 _ k) 43 (300 * s.1 34 + s.1 36).toNatClampNeg n) _)) = _
  rw [h4, h6, eix, chk_h hin, chk_h hin, zI_nat (by omega), ltv_s]
  show some (bI (bA (bA s 42 (300 * sl + e) k) 43 (300 * sl + e) n) 36 (s.1 36 + 1)) = _
  rw [h6, zI_succ]
/-- an entry laid -/
def enS (s : Bl) (sl e : Nat) (k n : Int32) : Bl := bI (bA (bA s 42 (300 * sl + e) k) 43 (300 * sl + e) n) 36 (Int32.ofNat (e + 1))
theorem enS_so {s : Bl} {e i : Nat} {k n : Int32} : soA (enS s sl e k n).2.1 sl i = if i = e then k else soA s.2.1 sl i := by
  show (if 300 * sl + i = 300 * sl + e then k else s.2.1 42 (300 * sl + i)) = if i = e then k else s.2.1 42 (300 * sl + i)
  by_cases c : i = e
  · rw [if_pos (by omega), if_pos c]
  · rw [if_neg (by omega), if_neg c]
theorem enS_nu {s : Bl} {e i : Nat} {k n : Int32} : nuA (enS s sl e k n).2.1 sl i = if i = e then n else nuA s.2.1 sl i := by
  show (if 300 * sl + i = 300 * sl + e then n else s.2.1 43 (300 * sl + i)) = if i = e then n else s.2.1 43 (300 * sl + i)
  by_cases c : i = e
  · rw [if_pos (by omega), if_pos c]
  · rw [if_neg (by omega), if_neg c]
theorem enS_ks {s : Bl} {e e0 : Nat} {k n : Int32} (h : e0 ≤ e) : Ks sl e0 s (enS s sl e k n) := by
  refine ⟨fun f h1 h2 h3 h4 => by simp [enS, bI, bA, bS, h3], fun f h1 h2 => by simp [enS, bI, bA, bS, h1, h2], fun i hi => ?_, rfl⟩
  have : ¬ i = 300 * sl + e := by omega
  simp [enS, bI, bA, bS, upd, this]
theorem enS_f {s : Bl} {e f : Nat} {k n : Int32} (h : f ≠ 36) : (enS s sl e k n).1 f = s.1 f := by simp [enS, bI, bA, bS, h]
theorem RdS.entry {y : Nat → Bl} {s : Bl} {p c d e : Nat} {k n : Int32} (h : RdS T bt sl y s p c d e) (he : 3 * (e + 1) ≤ 6 * c + p) : RdS T bt sl y (enS s sl e k n) p c d (e + 1) := by
  obtain ⟨a, ⟨b1, b2, b3, b4, b5, b6, b7⟩, ⟨c1, c2, c3, c4⟩, t1, t2⟩ := h
  exact ⟨a, ⟨by rw [enS_f (by decide)]; exact b1, by rw [enS_f (by decide)]; exact b2, by rw [enS_f (by decide)]; exact b3, bI_v, by rw [enS_f (by decide)]; exact b5, by rw [enS_f (by decide)]; exact b6, by rw [enS_f (by decide)]; exact b7⟩, ⟨c1, c2, c3, he⟩, t1, ⟨by rw [enS_f (by decide)]; exact t2.1, fun i hi => by rw [← t2.2 i hi]; simp [enS, bI, bA, bS]⟩⟩
/-- one more counted, or the fault -/
theorem f4_makes_eq {y : Nat → Bl} {c pl : Nat} (h : (y 14).1 4 = Int32.ofNat c) (hc : c ≤ 60) : f4_makes y (Int32.ofNat pl) = some (if c = 60 then .inl (flt y 3 (Int32.ofNat pl)) else .inr (upX y 14 (bI (y 14) 4 (Int32.ofNat (c + 1))))) := by
  unfold f4_makes
  rw [h, show (60 : Int32) = Int32.ofNat 60 from rfl, zif_le (by omega) (by omega), f4_demand_f, f4_demand_t]
  by_cases e : c = 60
  · rw [if_pos (by omega), if_pos e]; rfl
  · rw [if_neg (by omega), if_neg e]
    show some (Sum.inr (upX y 14 (bI (y 14) 4 ((y 14).1 4 + 1)))) = _
    rw [h, zI_succ]
theorem f3_isCounted_good {s : Bl} {c pl : Nat} (h : s.1 33 = 0) (h8 : s.1 38 = Int32.ofNat c) (hc : c ≤ 60) : f3_isCounted s (Int32.ofNat pl) = some (if c = 60 then bI (bI s 33 (fcd 3 pl)) 38 (Int32.ofNat (c + 1)) else bI s 38 (Int32.ofNat (c + 1))) := by
  unfold f3_isCounted
  rw [h8, show (60 : Int32) = Int32.ofNat 60 from rfl, zif_eq (by omega) (by omega), show (3 : Int32) = Int32.ofNat 3 from rfl, f3_fails_good h, bnd_s]
  by_cases e : c = 60
  · rw [if_pos e, if_pos e]
    show some (bI (bI s 33 (fcd 3 pl)) 38 ((bI s 33 (fcd 3 pl)).1 38 + 1)) = _
    rw [show (bI s 33 (fcd 3 pl)).1 38 = Int32.ofNat c from h8, zI_succ]
  · rw [if_neg e, if_neg e, zI_succ]
end P

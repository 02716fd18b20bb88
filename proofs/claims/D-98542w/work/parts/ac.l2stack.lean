/-! PLAIN LAW: the Model's stack of what is open -/
set_option maxRecDepth 100000
/-- what reading a test may change -/
def Kt (sl e : Nat) (s s' : Bl) : Prop := (∀ f, f < 32 ∨ 39 < f ∨ f = 34 ∨ f = 35 → s'.1 f = s.1 f) ∧ (∀ k, k ≠ 42 → k ≠ 43 → k ≠ 48 → s'.2.1 k = s.2.1 k) ∧ (∀ i, i < 300 * sl + e → s'.2.1 42 i = s.2.1 42 i ∧ s'.2.1 43 i = s.2.1 43 i) ∧ s'.2.2 = s.2.2
theorem Kt.refl {sl e : Nat} {s : Bl} : Kt sl e s s := ⟨fun _ _ => rfl, fun _ _ _ _ => rfl, fun _ _ => ⟨rfl, rfl⟩, rfl⟩
theorem Kt.trans {sl e e1 : Nat} {s t u : Bl} (h : Kt sl e s t) (k : Kt sl e1 t u) (he : e ≤ e1) : Kt sl e s u := ⟨fun f h1 => (k.1 f h1).trans (h.1 f h1), fun f h1 h2 h3 => (k.2.1 f h1 h2 h3).trans (h.2.1 f h1 h2 h3), fun i hi => ⟨(k.2.2.1 i (by omega)).1.trans (h.2.2.1 i hi).1, (k.2.2.1 i (by omega)).2.trans (h.2.2.1 i hi).2⟩, k.2.2.2.trans h.2.2.2⟩
theorem Kt.fz {sl e : Nat} {s s' : Bl} (h : Kt sl e s s') : Fz sl s s' := ⟨fun f hf => h.1 f (by omega), fun k hk => h.2.1 k (by omega) (by omega) (by omega), fun i hi => h.2.2.1 i (by omega), fun i hi => by rw [h.2.1 45 (by decide) (by decide) (by decide), h.2.1 46 (by decide) (by decide) (by decide), h.2.1 47 (by decide) (by decide) (by decide)]; exact ⟨rfl, rfl, rfl⟩, fun i hi => by rw [h.2.1 44 (by decide) (by decide) (by decide)], h.2.2.2⟩
theorem Ks.kt {sl e : Nat} {s s' : Bl} (h : Ks sl e s s') : Kt sl e s s' := ⟨fun f hf => h.1 f (by omega) (by omega) (by omega) (by omega), fun k h1 h2 _ => h.2.1 k h1 h2, h.2.2.1, h.2.2.2⟩
theorem Kt.bi {sl e f : Nat} {s : Bl} {v : Int32} (hf : f = 32 ∨ f = 33 ∨ f = 36 ∨ f = 37 ∨ f = 38 ∨ f = 39) : Kt sl e s (bI s f v) := ⟨fun g h1 => by
  have : ¬ g = f := by omega
  simp [bI, this], fun _ _ _ _ => rfl, fun _ _ => ⟨rfl, rfl⟩, rfl⟩
theorem Kt.st {sl e i : Nat} {s : Bl} {v : Int32} : Kt sl e s (bA s 48 i v) := ⟨fun _ _ => rfl, fun k _ _ h => by simp [bA, bS, h], fun _ _ => by simp [bA, bS], rfl⟩
theorem Kt.ev {sl e0 e : Nat} {s s' : Bl} {F : (Nat → Int64) → Int64} (k : Kt sl e s s') (h : EV (soA s.2.1 sl) (nuA s.2.1 sl) e0 e F) : EV (soA s'.2.1 sl) (nuA s'.2.1 sl) e0 e F := h.cg fun i h1 h2 => ⟨((k.2.2.1 (300 * sl + i) (by omega)).1).symm, ((k.2.2.1 (300 * sl + i) (by omega)).2).symm⟩
def Sk (s : Bl) (L : List Int32) : Prop := s.1 39 = Int32.ofNat L.length ∧ ∀ i, i < L.length → s.2.1 48 i = L.getD i 0
def tpL (L : List Int32) : Int32 := if L.length = 0 then -1 else L.getD (L.length - 1) 0
theorem tpL_app {L : List Int32} {v : Int32} : tpL (L ++ [v]) = v := by
  unfold tpL
  rw [List.length_append]
  show (if L.length + 1 = 0 then _ else (L ++ [v]).getD (L.length + 1 - 1) 0) = v
  rw [if_neg (by omega), Nat.add_sub_cancel, getD_app (by omega), if_pos rfl]
theorem Sk.app {s : Bl} {L : List Int32} {v : Int32} (h : Sk s (L ++ [v])) : ∀ i, i < L.length → s.2.1 48 i = L.getD i 0 := fun i hi => by
  rw [h.2 i (by rw [List.length_append]; omega), getD_app (by omega), if_neg (by omega)]
theorem Sk.cg {s s' : Bl} {L : List Int32} (h : Sk s L) (h39 : s'.1 39 = s.1 39) (h48 : s'.2.1 48 = s.2.1 48) : Sk s' L := ⟨by rw [h39]; exact h.1, fun i hi => by rw [h48]; exact h.2 i hi⟩
theorem Sk.ks {sl e : Nat} {s s' : Bl} {L : List Int32} (h : Sk s L) (k : Ks sl e s s') : Sk s' L := h.cg (k.1 39 (by decide) (by decide) (by decide) (by decide)) (k.2.1 48 (by decide) (by decide))
theorem f3_top_eq {s : Bl} {L : List Int32} (h : Sk s L) (hl : L.length ≤ 402) : f3_top s = some (tpL L) := by
  unfold f3_top tpL
  rw [h.1, show (0 : Int32) = Int32.ofNat 0 from rfl, zif_eq (by omega) (by omega)]
  by_cases c : L.length = 0
  · rw [if_pos c, if_pos c]
  · have hin : inB (Int32.ofNat (L.length - 1)) 402 = true := zI_in (by omega) (by decide)
    rw [if_neg c, if_neg c, zI_pred (by omega), chk_h hin, zI_nat (by omega), h.2 _ (by omega)]; rfl
/-- one on top -/
def pushS (s : Bl) (L : List Int32) (v : Int32) : Bl := bI (bA s 48 L.length v) 39 (Int32.ofNat (L.length + 1))
theorem pushS_sk {s : Bl} {L : List Int32} {v : Int32} (h : ∀ i, i < L.length → s.2.1 48 i = L.getD i 0) : Sk (pushS s L v) (L ++ [v]) := by
  refine ⟨?_, fun i hi => ?_⟩
  · rw [List.length_append]; exact bI_v
  · rw [List.length_append] at hi
    have hi : i < L.length + 1 := hi
    rw [getD_app hi]
    show upd (s.2.1 48) L.length v i = _
    unfold upd
    by_cases c : i = L.length
    · rw [if_pos c, if_pos c]
    · rw [if_neg c, if_neg c]; exact h i (by omega)
theorem pushS_f {s : Bl} {L : List Int32} {v : Int32} {f : Nat} (h : f ≠ 39) : (pushS s L v).1 f = s.1 f := by simp [pushS, bI, bA, bS, h]
theorem pushS_a {s : Bl} {L : List Int32} {v : Int32} {k : Nat} (h : k ≠ 48) : (pushS s L v).2.1 k = s.2.1 k := by simp [pushS, bI, bA, bS, h]
theorem pushS_kt {sl e : Nat} {s : Bl} {L : List Int32} {v : Int32} : Kt sl e s (pushS s L v) := Kt.st.trans (Kt.bi (by omega)) (Nat.le_refl _)
section P
variable {T : Nat} {bt : Nat → Int32} {sl : Nat} {y : Nat → Bl} {s : Bl} {p c d e : Nat} {L : List Int32}
theorem RdS.push {v : Int32} (h : RdS T bt sl y s p c d e) : RdS T bt sl y (pushS s L v) p c d e := by
  obtain ⟨a, ⟨b1, b2, b3, b4, b5, b6, b7⟩, cc, t1, t2⟩ := h
  exact ⟨a, ⟨by rw [pushS_f (by decide)]; exact b1, by rw [pushS_f (by decide)]; exact b2, by rw [pushS_f (by decide)]; exact b3, by rw [pushS_f (by decide)]; exact b4, by rw [pushS_f (by decide)]; exact b5, by rw [pushS_f (by decide)]; exact b6, by rw [pushS_f (by decide)]; exact b7⟩, cc, t1, pushS_kt.fz (e := 0) (sl := sl) |>.tpm t2⟩
theorem RdS.deep {y : Nat → Bl} {s : Bl} {d2 : Nat} (h : RdS T bt sl y s p c d e) (hd : d2 ≤ 10) : RdS T bt sl (upX y 14 (bI (y 14) 3 (Int32.ofNat d2))) (bI s 37 (Int32.ofNat d2)) p c d2 e := by
  obtain ⟨⟨a1, a2, a3⟩, ⟨b1, b2, b3, b4, b5, b6, b7⟩, ⟨c1, c2, c3, c4⟩, t1, t2⟩ := h
  refine ⟨⟨by rw [upX_self]; exact a1, by rw [upX_self]; exact bI_v, by rw [upX_self]; exact a3⟩, ⟨b1, b2, b3, b4, bI_v, b6, b7⟩, ⟨c1, c2, hd, c4⟩, ?_, t2⟩
  unfold TpO; rw [upX_ne (by decide)]; exact t1
theorem f4_opens_eq {y : Nat → Bl} {pl : Nat} (h : (y 14).1 3 = Int32.ofNat d) (hd : d ≤ 10) : f4_opens y (Int32.ofNat pl) = some (if d = 10 then .inl (flt y 2 (Int32.ofNat pl)) else .inr (upX y 14 (bI (y 14) 3 (Int32.ofNat (d + 1))))) := by
  unfold f4_opens
  rw [h, show (10 : Int32) = Int32.ofNat 10 from rfl, zif_le (by omega) (by omega), f4_demand_f, f4_demand_t]
  by_cases e : d = 10
  · rw [if_pos (by omega), if_pos e]; rfl
  · rw [if_neg (by omega), if_neg e]
    show some (Sum.inr (upX y 14 (bI (y 14) 3 ((y 14).1 3 + 1)))) = _
    rw [h, zI_succ]
theorem g30_eq {v : Int32} {s : Bl} {d : Nat} (h : s.1 39 = Int32.ofNat L.length) (hl : L.length < 402) (h37 : s.1 37 = Int32.ofNat d) : g3_opens_30 s v = some (pushS (bI s 37 (Int32.ofNat (d + 1))) L v) := by
  have hin : inB (Int32.ofNat L.length) 402 = true := zI_in hl (by decide)
  unfold g3_opens_30
  have e1 : bI s 37 (s.1 37 + 1) = bI s 37 (Int32.ofNat (d + 1)) := by rw [h37, zI_succ]
  have e2 : (bI s 37 (Int32.ofNat (d + 1))).1 39 = Int32.ofNat L.length := h
  rw [e1, e2, chk_h hin, ltv_s, zI_nat (by omega)]
  show some (bI (bA (bI s 37 (Int32.ofNat (d + 1))) 48 L.length v) 39 (s.1 39 + 1)) = _
  rw [h, zI_succ]; rfl
/-- not, or a bracket, is opened -/
theorem f3_opens_nb {v : Int32} {s : Bl} {d : Nat} (hv : v = 9 ∨ v = 12) (h : s.1 39 = Int32.ofNat L.length) (hl : L.length < 402) (h37 : s.1 37 = Int32.ofNat d) (hd : d ≤ 10) (hp : s.1 32 = Int32.ofNat p) (h33 : s.1 33 = 0) : f3_opens s v = some (pushS (bI (if d = 10 then bI s 33 (fcd 2 p) else s) 37 (Int32.ofNat (d + 1))) L v) := by
  have key : (if s.1 37 = (10 : Int32) then bnd (f3_fails s (2 : Int32) (s.1 32)) (fun s2 => g3_opens_30 s2 v) else g3_opens_30 s v) = some (pushS (bI (if d = 10 then bI s 33 (fcd 2 p) else s) 37 (Int32.ofNat (d + 1))) L v) := by
    rw [h37, show (10 : Int32) = Int32.ofNat 10 from rfl, zif_eq (by omega) (by omega)]
    by_cases c : d = 10
    · rw [if_pos c, if_pos c, hp, show (2 : Int32) = Int32.ofNat 2 from rfl, f3_fails_good h33, bnd_s]
      exact g30_eq (d := d) h hl h37
    · rw [if_neg c, if_neg c]; exact g30_eq h hl h37
  unfold f3_opens
  rcases hv with rfl | rfl
  · rw [if_pos rfl]; exact key
  · rw [if_neg (by decide), if_pos rfl]; exact key
theorem f3_opens_ao {v : Int32} {s : Bl} (hv : v = 10 ∨ v = 11) (h : s.1 39 = Int32.ofNat L.length) (hl : L.length < 402) : f3_opens s v = some (pushS s L v) := by
  have hin : inB (Int32.ofNat L.length) 402 = true := zI_in hl (by decide)
  unfold f3_opens
  rcases hv with rfl | rfl
  · rw [if_neg (by decide), if_neg (by decide), h, chk_h hin, zI_nat (by omega)]
    show some (bI (bA s 48 L.length 10) 39 (s.1 39 + 1)) = _
    rw [h, zI_succ]; rfl
  · rw [if_neg (by decide), if_neg (by decide), h, chk_h hin, zI_nat (by omega)]
    show some (bI (bA s 48 L.length 11) 39 (s.1 39 + 1)) = _
    rw [h, zI_succ]; rfl
/-- what is on top is answered -/
def popS (s : Bl) (sl e : Nat) (L : List Int32) (v : Int32) : Bl := bI (enS s sl e v 0) 39 (Int32.ofNat L.length)
theorem popS_sk {v : Int32} (h : Sk s (L ++ [v])) : Sk (popS s sl e L v) L := ⟨bI_v, fun i hi => by
  rw [← h.app i hi]; simp [popS, enS, bI, bA, bS]⟩
theorem popS_kt {e0 : Nat} {v : Int32} (he : e0 ≤ e) : Kt sl e0 s (popS s sl e L v) := (enS_ks he).kt.trans (Kt.bi (by omega)) (Nat.le_refl _)
theorem popS_rd {v : Int32} (h : RdS T bt sl y s p c d e) (he : 3 * (e + 1) ≤ 6 * c + p) : RdS T bt sl y (popS s sl e L v) p c d (e + 1) := by
  obtain ⟨a, ⟨b1, b2, b3, b4, b5, b6, b7⟩, cc, t1, t2⟩ := h.entry (k := v) (n := 0) he
  exact ⟨a, ⟨b1, b2, b3, b4, b5, b6, b7⟩, cc, t1, ((Kt.bi (sl := sl) (e := 0) (by omega)).fz).tpm t2⟩
theorem popS_so {v : Int32} : soA (popS s sl e L v).2.1 sl e = v := by
  show soA (enS s sl e v 0).2.1 sl e = v
  rw [enS_so, if_pos rfl]
theorem ans_ao {v : Int32} (hv : v = 10 ∨ v = 11) (hsl : sl < 6) (h : RdS T bt sl y s p c d e) (hT : T ≤ 400) (hk : Sk s (L ++ [v])) (hl : L.length < 401) : Rch (g3_answers_0 v) 1 s (popS s sl e L v) := by
  refine Rch.step fun K => ?_
  have hc := h.2.2.1
  unfold g3_answers_0
  rw [f3_top_eq hk (by rw [List.length_append]; show L.length + 1 ≤ 402; omega), bnd_s, tpL_app, if_pos rfl, if_pos h.2.1.2.1, f3_entry_good h.2.1.2.1 h.2.1.2.2.1 h.2.1.2.2.2.1 hsl (by omega), bnd_s]
  have e39 : (enS s sl e v 0).1 39 - 1 = Int32.ofNat L.length := by
    rw [enS_f (by decide), hk.1, List.length_append]
    show Int32.ofNat (L.length + 1) - 1 = _
    rw [zI_pred (by omega), Nat.add_sub_cancel]
  have e37 : (popS s sl e L v).1 37 - 0 = (popS s sl e L v).1 37 := Int32.sub_zero _
  rw [if_neg (by rcases hv with rfl | rfl <;> decide)]
  show K (bI (bI (enS s sl e v 0) 39 ((enS s sl e v 0).1 39 - 1)) 37 ((bI (enS s sl e v 0) 39 ((enS s sl e v 0).1 39 - 1)).1 37 - 0)) = _
  rw [e39]
  show K (bI (popS s sl e L v) 37 ((popS s sl e L v).1 37 - 0)) = _
  rw [e37, bI_id rfl]
theorem ans_not (hsl : sl < 6) (h : RdS T bt sl y s p c (d + 1) e) (hT : T ≤ 400) (hk : Sk s (L ++ [9])) (hl : L.length < 401) : Rch (g3_answers_0 9) 1 s (bI (popS s sl e L 9) 37 (Int32.ofNat d)) := by
  refine Rch.step fun K => ?_
  have hc := h.2.2.1
  unfold g3_answers_0
  rw [f3_top_eq hk (by rw [List.length_append]; show L.length + 1 ≤ 402; omega), bnd_s, tpL_app, if_pos rfl, if_pos h.2.1.2.1, f3_entry_good h.2.1.2.1 h.2.1.2.2.1 h.2.1.2.2.2.1 hsl (by omega), bnd_s, if_pos rfl]
  have e39 : (enS s sl e 9 0).1 39 - 1 = Int32.ofNat L.length := by
    rw [enS_f (by decide), hk.1, List.length_append]
    show Int32.ofNat (L.length + 1) - 1 = _
    rw [zI_pred (by omega), Nat.add_sub_cancel]
  have e37 : (popS s sl e L 9).1 37 - 1 = Int32.ofNat d := by
    show (enS s sl e 9 0).1 37 - 1 = _
    rw [enS_f (by decide), h.2.1.2.2.2.2.1, zI_pred (by omega), Nat.add_sub_cancel]
  show K (bI (bI (enS s sl e 9 0) 39 ((enS s sl e 9 0).1 39 - 1)) 37 ((bI (enS s sl e 9 0) 39 ((enS s sl e 9 0).1 39 - 1)).1 37 - 1)) = _
  rw [e39]
  show K (bI (popS s sl e L 9) 37 ((popS s sl e L 9).1 37 - 1)) = _
  rw [e37]
theorem ans_stop {v : Int32} (hk : Sk s L) (hl : L.length ≤ 402) (hv : ¬ tpL L = v) : ∀ K : Bl → Option Bl, g3_answers_0 v K s = some s := by
  intro K
  unfold g3_answers_0
  rw [f3_top_eq hk hl, bnd_s, if_neg hv]
theorem f3_answers_of {v : Int32} {s s2 : Bl} {cc : Nat} (h : Rch (g3_answers_0 v) cc s s2) (hcc : cc < 1000000) (hk : Sk s2 L) (hl : L.length ≤ 402) (hv : ¬ tpL L = v) : f3_answers s v = some s2 := h.fin (by omega) (ans_stop hk hl hv)
end P

/-! PLAIN LAW: the flow's sinking -/
set_option maxRecDepth 100000
/-- who gets wet -/
theorem sinks_wet {F2 : Bl} {a : Ar} (g : GR a) (hF2 : FR F2 a) (hP2 : PA F2 a (sRp a)) : loop (g1_sinksAll_13 F2 (sS a)) FU ((0 : Int32), (0 : Int32)) = loop (g1_sinksAll_61 (sS a) (mkS (cO a) (wetP a))) FU (F2, (0 : Int32)) := by
  have h6 := g.1.1.2
  have h8 := g.1.2.1.2
  refine loop_seq (fun k => (mkS k (wetP a), Int32.ofNat k)) (cO a) (by omega) ?_ ?_
  · intro K k hk
    simp only [g1_sinksAll_13]
    rw [hF2.nO g.1, if_on hk (by omega), f1_rides_eq g.1 g.2.1 hF2 hP2 hk, bnd_s, zI_succ]
    have hwk : wetP a k = (match rdr a (sRp a) k with | none => false | some t => bit (sS a) t) := rfl
    cases hx : rdr a (sRp a) k with
    | none =>
      rw [hx] at hwk
      rw [show oI none = -1 from rfl, if_pos rfl, mkS_no0 hwk]
    | some t =>
      rw [hx] at hwk
      have hwk : wetP a k = bit (sS a) t := hwk
      have ht := (rdr_some hx).1
      rw [show oI (some t) = Int32.ofNat t from rfl, if_neg (fun z => by have := zI_pos (a := t) (by omega); rw [z] at this; exact absurd this (by decide)), has_bit0 (by omega), bnd_s, if_bit]
      cases hb : bit (sS a) t with
      | true => rw [if_pos rfl, mkS_yes (by omega) (by rw [hwk, hb])]
      | false => rw [if_neg (by decide), mkS_no0 (by rw [hwk, hb])]
  · intro K
    simp only [g1_sinksAll_13]
    rw [hF2.nO g.1, if_off]
/-- they are wet -/
theorem sinks_place {F2 : Bl} {n : Nat} {S : Int32} {p : Nat → Bool} (hn : F2.1 1 = Int32.ofNat n) (h6 : n ≤ 6) : loop (g1_sinksAll_61 S (mkS n p)) FU (F2, (0 : Int32)) = loop (g1_sinksAll_92 S) FU (bS F2 11 (fun i => if i < n ∧ p i = true then 2 else F2.2.1 11 i), (0 : Int32)) := by
  have e0 : bS F2 11 (fun i => if i < 0 ∧ p i = true then 2 else F2.2.1 11 i) = F2 := by
    have : (fun i => if i < 0 ∧ p i = true then 2 else F2.2.1 11 i) = F2.2.1 11 := by funext j; simp
    rw [this, bS_self]
  refine Eq.trans ?_ (loop_seq (body := g1_sinksAll_61 S (mkS n p)) (fun k => (bS F2 11 (fun i => if i < k ∧ p i = true then 2 else F2.2.1 11 i), Int32.ofNat k)) n (by omega) ?_ ?_)
  · (try dsimp only); rw [e0]; rfl
  · intro K k hk
    simp only [g1_sinksAll_61]
    have e1 : (bS F2 11 (fun i => if i < k ∧ p i = true then 2 else F2.2.1 11 i)).1 1 = Int32.ofNat n := hn
    rw [e1, if_on hk (by omega), has_bit0 (by omega), bnd_s, if_bit, bit_mkS (by omega), chk_h (zI_in (by omega) (by decide)), zI_nat (by omega), zI_succ]
    cases hb : p k with
    | true =>
      rw [if_pos (by simp [hk]), bA, bS_bS]
      congr 3
      funext i
      simp only [upd]
      by_cases e : i = k
      · subst e; simp [hb]
      · have : (i < k + 1) = (i < k) := propext ⟨fun z => by omega, fun z => by omega⟩
        simp [this, e, bS]
    | false =>
      rw [if_neg (by simp)]
      congr 3
      funext i
      by_cases e : i = k
      · subst e; simp [hb]
      · have : (i < k + 1) = (i < k) := propext ⟨fun z => by omega, fun z => by omega⟩
        simp [this]
  · intro K
    simp only [g1_sinksAll_61]
    have e1 : (bS F2 11 (fun i => if i < n ∧ p i = true then 2 else F2.2.1 11 i)).1 1 = Int32.ofNat n := hn
    rw [e1, if_off]
def sF3 (F3 : Bl) (S now : Int32) (k : Nat) : Bl := bS (bS F3 16 (fun j => if j < k ∧ bit S j = true then 2 else F3.2.1 16 j)) 17 (fun j => if j < k ∧ bit S j = true then now else F3.2.1 17 j)
theorem sF3_step {F3 : Bl} {S now : Int32} {k : Nat} : (if bit S k = true then bA (bA (sF3 F3 S now k) 16 k 2) 17 k now else sF3 F3 S now k) = sF3 F3 S now (k + 1) := by
  unfold sF3
  cases hb : bit S k with
  | true =>
    rw [if_pos rfl]
    have u16 : upd (fun j => if j < k ∧ bit S j = true then 2 else F3.2.1 16 j) k 2 = (fun j => if j < k + 1 ∧ bit S j = true then 2 else F3.2.1 16 j) := by
      funext i
      simp only [upd]
      by_cases e : i = k
      · subst e; simp [hb]
      · have : (i < k + 1) = (i < k) := propext ⟨fun z => by omega, fun z => by omega⟩
        simp [this, e]
    have u17 : upd (fun j => if j < k ∧ bit S j = true then now else F3.2.1 17 j) k now = (fun j => if j < k + 1 ∧ bit S j = true then now else F3.2.1 17 j) := by
      funext i
      simp only [upd]
      by_cases e : i = k
      · subst e; simp [hb]
      · have : (i < k + 1) = (i < k) := propext ⟨fun z => by omega, fun z => by omega⟩
        simp [this, e]
    rw [← u16, ← u17]
    simp only [bA, bS, Prod.mk.injEq, true_and, and_true]
    funext f
    by_cases h17 : f = 17
    · subst h17; simp
    · by_cases h16 : f = 16
      · subst h16; simp
      · simp [h17, h16]
  | false =>
    rw [if_neg (by decide)]
    have u : ∀ (x : Int32) (m : Nat → Int32), (fun j => if j < k ∧ bit S j = true then x else m j) = (fun j => if j < k + 1 ∧ bit S j = true then x else m j) := by
      intro x m
      funext i
      by_cases e : i = k
      · subst e; simp [hb]
      · have : (i < k + 1) = (i < k) := propext ⟨fun z => by omega, fun z => by omega⟩
        simp [this]
    rw [u, u]
theorem sinks_state {F3 : Bl} {S now : Int32} {n nR : Nat} (h2 : F3.1 2 = Int32.ofNat n) (h8 : n ≤ 8) (h5 : F3.1 5 = Int32.ofNat nR) (h12 : nR ≤ 12) (h6 : F3.1 6 = now) (hS8 : ∀ j, 12 ≤ j → j < 32 → bit S j = false) (he : ∀ x ∈ rl (F3.2.1 18) (F3.2.1 19) (F3.2.1 20) nR, eOK x) : loop (g1_sinksAll_92 S) FU (F3, (0 : Int32)) = bnd2 (f1_loses (sF3 F3 S now n) (mkS nR (fun r => tch S (F3.2.1 18 r, F3.2.1 19 r, F3.2.1 20 r)))) (fun _ s4 => some (bI s4 25 (Int32.ofNat (pop S)))) := by
  have e0 : sF3 F3 S now 0 = F3 := by
    have e1 : (fun j => if j < 0 ∧ bit S j = true then 2 else F3.2.1 16 j) = F3.2.1 16 := by funext j; simp
    have e2 : (fun j => if j < 0 ∧ bit S j = true then now else F3.2.1 17 j) = F3.2.1 17 := by funext j; simp
    rw [sF3, e1, e2, bS_self, bS_self]
  refine Eq.trans ?_ (loop_seq (body := g1_sinksAll_92 S) (fun k => (sF3 F3 S now k, Int32.ofNat k)) n (by omega) ?_ ?_)
  · (try dsimp only); rw [e0]; rfl
  · intro K k hk
    simp only [g1_sinksAll_92]
    have e1 : (sF3 F3 S now k).1 2 = Int32.ofNat n := h2
    have hin : inB (Int32.ofNat k) 8 = true := zI_in (by omega) (by decide)
    have hkk : (Int32.ofNat k).toNatClampNeg = k := zI_nat (by omega)
    rw [e1, if_on hk (by omega), has_bit0 (by omega), bnd_s, if_bit, ← sF3_step]
    have e6 : (bA (sF3 F3 S now k) 16 k 2).1 6 = now := h6
    simp only [hin, hkk, chk_t, zI_succ, e6]
    cases bit S k <;> rfl
  · intro K
    simp only [g1_sinksAll_92]
    have e1 : (sF3 F3 S now n).1 2 = Int32.ofNat n := h2
    have e18 : (sF3 F3 S now n).2.1 18 = F3.2.1 18 := by simp [sF3, bS]
    have e19 : (sF3 F3 S now n).2.1 19 = F3.2.1 19 := by simp [sF3, bS]
    have e20 : (sF3 F3 S now n).2.1 20 = F3.2.1 20 := by simp [sF3, bS]
    rw [e1, if_off, f1_ropesAt_raw (F := sF3 F3 S now n) (n := nR) h5 h12 (fun x hx => he x (by rw [e18, e19, e20] at hx; exact hx)), bnd_s, e18, e19, e20, bitCount_eq hS8]
    rfl
theorem f1_sinksAll_eq {F : Bl} {a : Ar} (g : GR a) (h : FR F a) : ∃ F' : Bl, f1_sinksAll F = some F' ∧ Ff [11, 16, 17, 18, 19, 20, 28] [5, 25] F F' ∧ (∀ i, i < cO a → F'.2.1 11 i = if wetP a i = true then 2 else a 4 i) ∧ (∀ t, t < cT a → F'.2.1 16 t = (if bit (sS a) t = true then 2 else a 9 t) ∧ F'.2.1 17 t = if bit (sS a) t = true then a 1 6 else F.2.1 17 t) ∧ (F'.1 5 = Int32.ofNat ((rlM a).filter (fun x => !tch (sS a) x)).length ∧ rl (F'.2.1 18) (F'.2.1 19) (F'.2.1 20) ((rlM a).filter (fun x => !tch (sS a) x)).length = (rlM a).filter (fun x => !tch (sS a) x)) ∧ F'.1 25 = Int32.ofNat (pop (sS a)) := by
  have h6 := g.1.1.2
  have h8 := g.1.2.1.2
  have h12 := g.1.2.2.1.2
  have hS8 : ∀ j, 12 ≤ j → j < 32 → bit (sS a) j = false := fun j g1 g2 => by
    cases hb : bit (sS a) j with
    | false => rfl
    | true => have := (sSk_af g.1 g.2.1 g2 hb).1; omega
  have hF2 : FR (bS F 28 (paV F a (sRp a) (cT a))) a := h.parts
  have hP2 : PA (bS F 28 (paV F a (sRp a) (cT a))) a (sRp a) := PA_parts
  have f2 : Ff [28] [] F (bS F 28 (paV F a (sRp a) (cT a))) := Ff.bs
  have hgo : f1_sinksAll F = loop (g1_sinksAll_13 (bS F 28 (paV F a (sRp a) (cT a))) (sS a)) FU ((0 : Int32), (0 : Int32)) := by
    unfold f1_sinksAll sS
    rw [f1_allRopes_eq g.1 h, bnd_s, f1_sinkingBy_eq g.1 g.2.1 h, bnd2_s]
  rw [hgo, sinks_wet g hF2 hP2, sinks_place (hF2.nO g.1) h6]
  generalize bS F 28 (paV F a (sRp a) (cT a)) = F2 at hF2 hP2 f2 ⊢
  have f3 : Ff [11, 28] [] F (bS F2 11 (fun i => if i < cO a ∧ wetP a i = true then 2 else F2.2.1 11 i)) := (f2.trans Ff.bs).weak
  have e11 : ∀ i, i < cO a → (bS F2 11 (fun i => if i < cO a ∧ wetP a i = true then 2 else F2.2.1 11 i)).2.1 11 i = if wetP a i = true then 2 else a 4 i := by
    intro i hi
    show (if i < cO a ∧ wetP a i = true then (2 : Int32) else F2.2.1 11 i) = _
    rw [hF2.place hi]; simp [hi]
  generalize bS F2 11 (fun i => if i < cO a ∧ wetP a i = true then 2 else F2.2.1 11 i) = F3 at f3 e11 ⊢
  have n2 : F3.1 2 = Int32.ofNat (cT a) := (f3.fld 2).trans (h.nT g.1)
  have n5 : F3.1 5 = Int32.ofNat (cR a) := (f3.fld 5).trans (h.nR g.1)
  have n6 : F3.1 6 = a 1 6 := (f3.fld 6).trans h.now
  have hrl : rl (F3.2.1 18) (F3.2.1 19) (F3.2.1 20) (cR a) = rlM a := by rw [f3.arr 18, f3.arr 19, f3.arr 20]; exact h.rls
  have e18 : (sF3 F3 (sS a) (a 1 6) (cT a)).2.1 18 = F3.2.1 18 := by simp [sF3, bS]
  have e19 : (sF3 F3 (sS a) (a 1 6) (cT a)).2.1 19 = F3.2.1 19 := by simp [sF3, bS]
  have e20 : (sF3 F3 (sS a) (a 1 6) (cT a)).2.1 20 = F3.2.1 20 := by simp [sF3, bS]
  obtain ⟨F5, q1, q2, q3, q4⟩ := f1_loses_P (F := sF3 F3 (sS a) (a 1 6) (cT a)) (P := tch (sS a)) (S := mkS (cR a) (fun r => tch (sS a) (F3.2.1 18 r, F3.2.1 19 r, F3.2.1 20 r))) (n := cR a) n5 h12 (fun j hj => by rw [bit_mkS (by omega), e18, e19, e20]; simp only [hj, decide_true, Bool.true_and])
  rw [e18, e19, e20, hrl] at q1 q3 q4
  refine ⟨bI F5 25 (Int32.ofNat (pop (sS a))), ?_, (((f3.trans Ff.bs).trans Ff.bs).trans (q2.trans Ff.bi)).weak, fun i hi => ?_, fun t ht => ⟨?_, ?_⟩, ⟨q3, q4⟩, by simp [bI]⟩
  · rw [sinks_state (now := a 1 6) n2 h8 n5 h12 n6 hS8 (fun x hx => g.2.1.e x (by rw [← hrl]; exact hx)), q1, bnd2_s]
  · have : (bI F5 25 (Int32.ofNat (pop (sS a)))).2.1 11 i = F5.2.1 11 i := rfl
    rw [this, q2.arr 11]
    exact e11 i hi
  · have : (bI F5 25 (Int32.ofNat (pop (sS a)))).2.1 16 t = F5.2.1 16 t := rfl
    rw [this, q2.arr 16]
    have : (sF3 F3 (sS a) (a 1 6) (cT a)).2.1 16 t = if t < cT a ∧ bit (sS a) t = true then (2 : Int32) else F3.2.1 16 t := by simp [sF3, bS]
    rw [this, f3.arr 16, h.state ht]; simp [ht]
  · have : (bI F5 25 (Int32.ofNat (pop (sS a)))).2.1 17 t = F5.2.1 17 t := rfl
    rw [this, q2.arr 17]
    have : (sF3 F3 (sS a) (a 1 6) (cT a)).2.1 17 t = if t < cT a ∧ bit (sS a) t = true then a 1 6 else F3.2.1 17 t := by simp [sF3, bS]
    rw [this, f3.arr 17]; simp [ht]

/-! PLAIN LAW: the Model's landing; sinking; the mile -/
set_option maxRecDepth 100000
theorem GC.of {M M' : Bl} {A S I : List Nat} (g : GC M.2.1) (h : Fm A S I M M') (hS : 2 ∉ S ∧ 3 ∉ S ∧ 5 ∉ S ∧ 7 ∉ S) (hr : M'.2.1 1 4 = Int32.ofNat (cR M'.2.1) ∧ cR M'.2.1 ≤ 12) : GC M'.2.1 := by
  obtain ⟨g1, g2, g3, g4, g5⟩ := g
  refine ⟨?_, ?_, hr, ?_, ?_⟩
  · unfold cO; rw [h.sc 2 hS.1]; exact g1
  · unfold cT; rw [h.sc 3 hS.2.1]; exact g2
  · unfold cX; rw [h.sc 5 hS.2.2.1]; exact g4
  · unfold cF; rw [h.sc 7 hS.2.2.2]; exact g5
theorem Fm.eO {M M' : Bl} {A S I : List Nat} (h : Fm A S I M M') (hS : 2 ∉ S := by decide) : cO M'.2.1 = cO M.2.1 := by unfold cO; rw [h.sc 2 hS]
theorem Fm.eT {M M' : Bl} {A S I : List Nat} (h : Fm A S I M M') (hS : 3 ∉ S := by decide) : cT M'.2.1 = cT M.2.1 := by unfold cT; rw [h.sc 3 hS]
theorem Fm.eR {M M' : Bl} {A S I : List Nat} (h : Fm A S I M M') (hS : 4 ∉ S := by decide) : cR M'.2.1 = cR M.2.1 := by unfold cR; rw [h.sc 4 hS]
theorem Fm.erl {M M' : Bl} {A S I : List Nat} (h : Fm A S I M M') (hS : 4 ∉ S := by decide) (hA : 11 ∉ A ∧ 12 ∉ A ∧ 13 ∉ A := by decide) : rlM M'.2.1 = rlM M.2.1 := by
  unfold rlM; rw [h.eR hS, h.arr 11 hA.1, h.arr 12 hA.2.1, h.arr 13 hA.2.2]
theorem RE_iff {a : Ar} : RE a ↔ ∀ x ∈ rlM a, eOK x := by
  constructor
  · intro h x hx
    obtain ⟨i, hi, rfl⟩ := rl_mem hx
    exact ⟨(h i hi).1, (h i hi).2⟩
  · intro h k hk
    exact h _ (mem_rl hk)
theorem g3_land_in {M : Bl} {q : Nat} {S : Int32} {n : Nat} (hT : M.2.1 1 3 = Int32.ofNat n) (h8 : n ≤ 8) (K4 : Bl × Int32 × Int32 → Option Bl) : loop (g3_lands_48 M (Int32.ofNat q) K4) FU (S, (0 : Int32)) = K4 (M, S ||| mkS n (fun t => decide (M.2.1 5 t = Int32.ofNat q) && decide (M.2.1 9 t = 0)), Int32.ofNat (q + 1)) := by
  have e0 : S ||| mkS 0 (fun t => decide (M.2.1 5 t = Int32.ofNat q) && decide (M.2.1 9 t = 0)) = S := by rw [mkS_zero]; simp
  refine Eq.trans ?_ (loop_seq (body := g3_lands_48 M (Int32.ofNat q) K4) (fun k => (S ||| mkS k (fun t => decide (M.2.1 5 t = Int32.ofNat q) && decide (M.2.1 9 t = 0)), Int32.ofNat k)) n (by omega) ?_ ?_)
  · (try dsimp only); rw [e0]; rfl
  · intro K k hk
    simp only [g3_lands_48]
    rw [hT, if_on hk (by omega), chk_h (zI_in (by omega) (by decide)), chk_h (zI_in (by omega) (by decide)), zI_nat (by omega), zI_succ, Int32.or_assoc, Int32.or_assoc]
    by_cases hz : M.2.1 9 k = 0
    · rw [if_pos hz]
      by_cases hy : M.2.1 5 k = Int32.ofNat q
      · rw [if_pos hy, mkS_yes (by omega) (by simp [hz, hy])]
      · rw [if_neg hy, mkS_no0 (by simp [hy])]
    · rw [if_neg hz, mkS_no0 (by simp [hz])]
  · intro K
    simp only [g3_lands_48]
    rw [hT, if_off, zI_succ]
def Ml (M : Bl) (k : Nat) : Bl := bS M 4 (fun i => if i < k ∧ lndP M.2.1 i = true then 1 else M.2.1 4 i)
theorem f3_lands_eq {M : Bl} (g : GR M.2.1) : ∃ M' : Bl, f3_lands M = some M' ∧ Fm [4, 9, 11, 12, 13] [1, 4] [51] M M' ∧ (∀ i, i < cO M.2.1 → M'.2.1 4 i = if lndP M.2.1 i = true then 1 else M.2.1 4 i) ∧ (∀ t, t < cT M.2.1 → M'.2.1 9 t = if bit (Ls M.2.1 (cO M.2.1)) t = true then 1 else M.2.1 9 t) ∧ (M'.2.1 1 4 = Int32.ofNat (cR M'.2.1) ∧ cR M'.2.1 ≤ 12 ∧ rlM M'.2.1 = (rlM M.2.1).filter (fun x => !tch (Ls M.2.1 (cO M.2.1)) x)) ∧ M'.2.1 1 1 = M.2.1 1 1 + sumL ((rlM M.2.1).filter (tch (Ls M.2.1 (cO M.2.1)))) ∧ M'.1 51 = Int32.ofNat (pop (Ls M.2.1 (cO M.2.1))) := by
  obtain ⟨⟨hO, h6⟩, ⟨hT, h8⟩, -⟩ := g.1
  have fML : ∀ k, Fm [4] [] [] M (Ml M k) := fun k => Fm.bs (by decide)
  obtain ⟨M2, q1, q2, q3, q4⟩ := f3_ropesGoOf_eq (M := Ml M (cO M.2.1)) (S := Ls M.2.1 (cO M.2.1)) (fl := 1) (g.1.of (fML _) (by decide) ⟨g.1.2.2.1.1, g.1.2.2.1.2⟩) (RE_iff.mpr (by rw [(fML _).erl]; exact g.2.1.e))
  rw [(fML _).erl] at q3 q4
  have e9 : ∀ t, M2.2.1 9 t = M.2.1 9 t := fun t => by rw [q2.arr 9, (fML _).arr 9]
  have hT2 : M2.2.1 1 3 = Int32.ofNat (cT M.2.1) := by rw [q2.sc 3, (fML _).sc 3]; exact hT
  refine ⟨bI (bS M2 9 (fun t => if t < cT M.2.1 ∧ bit (Ls M.2.1 (cO M.2.1)) t = true then 1 else M2.2.1 9 t)) 51 (Int32.ofNat (pop (Ls M.2.1 (cO M.2.1)))), ?_, ((((fML _).trans q2).trans (Fm.bs (by decide))).trans Fm.bi).weak, fun i hi => ?_, fun t ht => ?_, q3, ?_, by simp [bI]⟩
  · unfold f3_lands
    have e0 : Ml M 0 = M := by
      have : (fun i => if i < 0 ∧ lndP M.2.1 i = true then 1 else M.2.1 4 i) = M.2.1 4 := by funext j; simp
      rw [Ml, this, bS_self]
    refine Eq.trans ?_ (loop_seq (body := g3_lands_4) (fun k => (Ml M k, Ls M.2.1 k, Int32.ofNat k)) (cO M.2.1) (by omega) ?_ ?_)
    · (try dsimp only); rw [e0, Ls_zero]; rfl
    · intro K k hk
      simp only [g3_lands_4]
      have a2 : (Ml M k).2.1 1 2 = Int32.ofNat (cO M.2.1) := hO
      have a4 : (Ml M k).2.1 4 k = M.2.1 4 k := by simp [Ml, bS]
      have a5 : (Ml M k).2.1 2 k = M.2.1 2 k := rfl
      have a6 : (Ml M k).2.1 1 6 = M.2.1 1 6 := rfl
      rw [a2, if_on hk (by omega), chk_h (zI_in (by omega) (by decide)), chk_h (zI_in (by omega) (by decide)), chk_h (zI_in (by omega) (by decide)), zI_nat (by omega), a4, a5, a6, zI_succ]
      have hLs := Ls_step g hk
      cases hl : lndP M.2.1 k with
      | true =>
        rw [if_pos hl] at hLs
        have c1 : M.2.1 4 k = 0 := by unfold lndP at hl; simp at hl; exact hl.1
        have c2 : M.2.1 2 k = M.2.1 1 6 := by unfold lndP at hl; simp at hl; exact hl.2
        rw [if_pos c1, if_pos c2, g3_land_in (n := cT M.2.1) (by show (bA (Ml M k) 4 k 1).2.1 1 3 = _; exact hT) h8]
        have e1 : bA (Ml M k) 4 k 1 = Ml M (k + 1) := by
          rw [Ml, bA, bS_bS, Ml]
          congr 1
          funext i
          simp only [upd]
          by_cases e : i = k
          · subst e; simp [hl]
          · have : (i < k + 1) = (i < k) := propext ⟨fun z => by omega, fun z => by omega⟩
            simp [this, e, bS]
        rw [e1, hLs]
        rfl
      | false =>
        rw [if_neg (by rw [hl]; decide)] at hLs
        have e1 : Ml M (k + 1) = Ml M k := by
          rw [Ml, Ml]
          congr 1
          funext i
          by_cases e : i = k
          · subst e; simp [hl]
          · have : (i < k + 1) = (i < k) := propext ⟨fun z => by omega, fun z => by omega⟩
            simp [this]
        rw [e1, hLs]
        unfold lndP at hl
        by_cases c1 : M.2.1 4 k = 0
        · rw [if_pos c1, if_neg (fun z => by simp [c1, z] at hl)]
        · rw [if_neg c1]
    · intro K
      simp only [g3_lands_4]
      have a2 : (Ml M (cO M.2.1)).2.1 1 2 = Int32.ofNat (cO M.2.1) := hO
      rw [a2, if_off, q1, bnd2_s]
      have e0 : bS M2 9 (fun t => if t < 0 ∧ bit (Ls M.2.1 (cO M.2.1)) t = true then 1 else M2.2.1 9 t) = M2 := by
        have : (fun t => if t < 0 ∧ bit (Ls M.2.1 (cO M.2.1)) t = true then 1 else M2.2.1 9 t) = M2.2.1 9 := by funext j; simp
        rw [this, bS_self]
      refine Eq.trans ?_ (loop_seq (body := g3_lands_108 (Ls M.2.1 (cO M.2.1))) (fun k => (bS M2 9 (fun t => if t < k ∧ bit (Ls M.2.1 (cO M.2.1)) t = true then 1 else M2.2.1 9 t), Int32.ofNat k)) (cT M.2.1) (by omega) ?_ ?_)
      · (try dsimp only); rw [e0]; rfl
      · intro K k hk
        simp only [g3_lands_108]
        have a3 : (bS M2 9 (fun t => if t < k ∧ bit (Ls M.2.1 (cO M.2.1)) t = true then 1 else M2.2.1 9 t)).2.1 1 3 = Int32.ofNat (cT M.2.1) := hT2
        have a4 : (bS M2 9 (fun t => if t < k ∧ bit (Ls M.2.1 (cO M.2.1)) t = true then 1 else M2.2.1 9 t)).2.1 9 k = M2.2.1 9 k := by simp [bS]
        have hin : inB (Int32.ofNat k) 8 = true := zI_in (by omega) (by decide)
        have hkk : (Int32.ofNat k).toNatClampNeg = k := zI_nat (by omega)
        rw [a3, if_on hk (by omega), has_bit (by omega), bnd_s, if_bit]
        simp only [hin, hkk, chk_t, zI_succ, a4]
        have key : ∀ v, v = (if bit (Ls M.2.1 (cO M.2.1)) k = true then 1 else M2.2.1 9 k) → bA (bS M2 9 (fun t => if t < k ∧ bit (Ls M.2.1 (cO M.2.1)) t = true then 1 else M2.2.1 9 t)) 9 k v = bS M2 9 (fun t => if t < k + 1 ∧ bit (Ls M.2.1 (cO M.2.1)) t = true then 1 else M2.2.1 9 t) := by
          intro v hv
          rw [bA, bS_bS]
          congr 1
          funext i
          simp only [upd]
          by_cases e : i = k
          · subst e; simp [hv]
          · have : (i < k + 1) = (i < k) := propext ⟨fun z => by omega, fun z => by omega⟩
            simp [this, e, bS]
        cases hb : bit (Ls M.2.1 (cO M.2.1)) k with
        | true => rw [if_pos rfl, key 1 (by rw [if_pos hb])]
        | false => rw [if_neg (by decide), key _ (by rw [if_neg (by rw [hb]; decide)])]
      · intro K
        simp only [g3_lands_108]
        have a3 : (bS M2 9 (fun t => if t < cT M.2.1 ∧ bit (Ls M.2.1 (cO M.2.1)) t = true then 1 else M2.2.1 9 t)).2.1 1 3 = Int32.ofNat (cT M.2.1) := hT2
        rw [a3, if_off, f3_bits_eq, bnd_s]
  · show M2.2.1 4 i = _
    rw [q2.arr 4]
    show (if i < cO M.2.1 ∧ lndP M.2.1 i = true then (1 : Int32) else M.2.1 4 i) = _
    simp [hi]
  · show (if t < cT M.2.1 ∧ bit (Ls M.2.1 (cO M.2.1)) t = true then (1 : Int32) else M2.2.1 9 t) = _
    rw [e9]; simp [ht]
  · show M2.2.1 1 1 = _
    rw [q4, if_neg (by decide)]; rfl
/-! sinking -/
/-- what sinks now -/
noncomputable def sS (a : Ar) : Int32 := sSk a (sRp a)
noncomputable def wetP (a : Ar) (q : Nat) : Bool := rin a (sRp a) (sS a) q
theorem bit_sRp {a : Ar} {k : Nat} (hk : k < 32) : bit (sRp a) k = decide (k < cR a) := by rw [sRp, bit_mkS hk, Bool.and_true]

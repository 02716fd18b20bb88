/-! PLAIN LAW: the Model's sinking; a mile, both -/
set_option maxRecDepth 100000
theorem wet_and {a : Ar} {q : Nat} (g : GR a) : (pS a (sRp a) (rdr a (sRp a) q) &&& sS a = 0) ↔ wetP a q = false := by
  have h8 := g.1.2.1.2
  have hwk : wetP a q = (match rdr a (sRp a) q with | none => false | some t => bit (sS a) t) := rfl
  cases hx : rdr a (sRp a) q with
  | none =>
    rw [hx] at hwk
    rw [hwk, and_zero_iff]
    exact ⟨fun _ => rfl, fun _ k _ => by show (bit 0 k && _) = false; rw [bit_zero]; rfl⟩
  | some t =>
    rw [hx] at hwk
    have hwk : wetP a q = bit (sS a) t := hwk
    rw [hwk, and_zero_iff]
    have ht := (rdr_some hx).1
    show (∀ k, k < 32 → (bit (pc a (sRp a) t) k && bit (sS a) k) = false) ↔ _
    constructor
    · intro z
      have := z t (by omega)
      rw [pc_self (by omega)] at this
      simpa using this
    · intro z k hk
      cases h1 : bit (pc a (sRp a) t) k with
      | false => rfl
      | true =>
        cases h2 : bit (sS a) k with
        | false => rfl
        | true =>
          have h9 := pc_lt hk h1
          have := sSk_piece (a := a) (rp := sRp a) (t := k) (u := t) g.2.1.1 (by omega) (by rw [pc_eq g.2.1.1 (by omega) h9 h1]; exact pc_self (by omega)) h2
          rw [show bit (sSk a (sRp a)) t = bit (sS a) t from rfl, z] at this
          cases this
theorem m_wet {M : Bl} (g : GR M.2.1) : loop (g3_mileBy_143 M (sS M.2.1)) FU ((0 : Int32), (0 : Int32)) = loop (g3_mileBy_189 (sS M.2.1) (mkS (cO M.2.1) (wetP M.2.1))) FU (M, (0 : Int32)) := by
  have h6 := g.1.1.2
  refine loop_seq (fun k => (mkS k (wetP M.2.1), Int32.ofNat k)) (cO M.2.1) (by omega) ?_ ?_
  · intro K k hk
    simp only [g3_mileBy_143]
    rw [g.1.1.1, if_on hk (by omega), f3_allRopes_eq g.1, bnd_s, f3_riddenBy_eq g.1 g.2.1 hk, bnd_s, zI_succ]
    cases hw : wetP M.2.1 k with
    | false => rw [if_pos ((wet_and g).mpr hw), mkS_no0 hw]
    | true => rw [if_neg (fun z => by rw [(wet_and g).mp z] at hw; cases hw), mkS_yes (by omega) hw]
  · intro K
    simp only [g3_mileBy_143]
    rw [g.1.1.1, if_off]
theorem m_place {M : Bl} {n : Nat} {S : Int32} {p : Nat → Bool} (hn : M.2.1 1 2 = Int32.ofNat n) (h6 : n ≤ 6) : loop (g3_mileBy_189 S (mkS n p)) FU (M, (0 : Int32)) = bnd2 (f3_ropesGoOf (bS M 4 (fun i => if i < n ∧ p i = true then 2 else M.2.1 4 i)) S (0 : Int32)) (fun _ s4 => loop (g3_mileBy_243 S) FU (s4, (0 : Int32))) := by
  have e0 : bS M 4 (fun i => if i < 0 ∧ p i = true then 2 else M.2.1 4 i) = M := by
    have : (fun i => if i < 0 ∧ p i = true then 2 else M.2.1 4 i) = M.2.1 4 := by funext j; simp
    rw [this, bS_self]
  refine Eq.trans ?_ (loop_seq (body := g3_mileBy_189 S (mkS n p)) (fun k => (bS M 4 (fun i => if i < k ∧ p i = true then 2 else M.2.1 4 i), Int32.ofNat k)) n (by omega) ?_ ?_)
  · (try dsimp only); rw [e0]; rfl
  · intro K k hk
    simp only [g3_mileBy_189]
    have e1 : (bS M 4 (fun i => if i < k ∧ p i = true then 2 else M.2.1 4 i)).2.1 1 2 = Int32.ofNat n := hn
    have hin : inB (Int32.ofNat k) 6 = true := zI_in (by omega) (by decide)
    have hkk : (Int32.ofNat k).toNatClampNeg = k := zI_nat (by omega)
    have a4 : (bS M 4 (fun i => if i < k ∧ p i = true then 2 else M.2.1 4 i)).2.1 4 k = M.2.1 4 k := by simp [bS]
    rw [e1, if_on hk (by omega), has_bit (by omega), bnd_s, if_bit, bit_mkS (by omega)]
    simp only [hin, hkk, chk_t, zI_succ, a4]
    have key : ∀ v, v = (if p k = true then 2 else M.2.1 4 k) → bA (bS M 4 (fun i => if i < k ∧ p i = true then 2 else M.2.1 4 i)) 4 k v = bS M 4 (fun i => if i < k + 1 ∧ p i = true then 2 else M.2.1 4 i) := by
      intro v hv
      rw [bA, bS_bS]
      congr 1
      funext i
      simp only [upd]
      by_cases e : i = k
      · subst e; simp [hv]
      · have : (i < k + 1) = (i < k) := propext ⟨fun z => by omega, fun z => by omega⟩
        simp [this, e, bS]
    cases hb : p k with
    | true => rw [if_pos (by simp [hk]), key 2 (by rw [if_pos hb])]
    | false => rw [if_neg (by simp), key _ (by rw [if_neg (by rw [hb]; decide)])]
  · intro K
    simp only [g3_mileBy_189]
    have e1 : (bS M 4 (fun i => if i < n ∧ p i = true then 2 else M.2.1 4 i)).2.1 1 2 = Int32.ofNat n := hn
    rw [e1, if_off]
def mF3 (M : Bl) (S now : Int32) (k : Nat) : Bl := bS (bS M 9 (fun j => if j < k ∧ bit S j = true then 2 else M.2.1 9 j)) 10 (fun j => if j < k ∧ bit S j = true then now else M.2.1 10 j)
theorem mF3_step {F3 : Bl} {S now : Int32} {k : Nat} : (if bit S k = true then bA (bA (mF3 F3 S now k) 9 k 2) 10 k now else mF3 F3 S now k) = mF3 F3 S now (k + 1) := by
  unfold mF3
  cases hb : bit S k with
  | true =>
    rw [if_pos rfl]
    have u16 : upd (fun j => if j < k ∧ bit S j = true then 2 else F3.2.1 9 j) k 2 = (fun j => if j < k + 1 ∧ bit S j = true then 2 else F3.2.1 9 j) := by
      funext i
      simp only [upd]
      by_cases e : i = k
      · subst e; simp [hb]
      · have : (i < k + 1) = (i < k) := propext ⟨fun z => by omega, fun z => by omega⟩
        simp [this, e]
    have u17 : upd (fun j => if j < k ∧ bit S j = true then now else F3.2.1 10 j) k now = (fun j => if j < k + 1 ∧ bit S j = true then now else F3.2.1 10 j) := by
      funext i
      simp only [upd]
      by_cases e : i = k
      · subst e; simp [hb]
      · have : (i < k + 1) = (i < k) := propext ⟨fun z => by omega, fun z => by omega⟩
        simp [this, e]
    rw [← u16, ← u17]
    simp only [bA, bS, Prod.mk.injEq, true_and, and_true]
    funext f
    by_cases h17 : f = 10
    · subst h17; simp
    · by_cases h16 : f = 9
      · subst h16; simp
      · simp [h17, h16]
  | false =>
    rw [if_neg (by decide)]
    have u : ∀ (x : Int32) (m : Nat → Int32), (fun j => if j < k ∧ bit S j = true then x else m j) = (fun j => if j < k + 1 ∧ bit S j = true then x else m j) := by
      intro x m
      funext i
      by_cases e : i = k
      · subst e; simp [hb]
      · have : (i < k + 1) = (i < k) := propext ⟨fun z => by omega, fun z => by omega⟩
        simp [this]
    rw [u, u]
theorem m_state {M : Bl} {S now : Int32} {n : Nat} (h2 : M.2.1 1 3 = Int32.ofNat n) (h8 : n ≤ 8) (h6 : M.2.1 1 6 = now) : loop (g3_mileBy_243 S) FU (M, (0 : Int32)) = some (Int32.ofNat (pop S), mF3 M S now n) := by
  have e0 : mF3 M S now 0 = M := by
    have e1 : (fun j => if j < 0 ∧ bit S j = true then 2 else M.2.1 9 j) = M.2.1 9 := by funext j; simp
    have e2 : (fun j => if j < 0 ∧ bit S j = true then now else M.2.1 10 j) = M.2.1 10 := by funext j; simp
    rw [mF3, e1, e2, bS_self, bS_self]
  refine Eq.trans ?_ (loop_seq (body := g3_mileBy_243 S) (fun k => (mF3 M S now k, Int32.ofNat k)) n (by omega) ?_ ?_)
  · (try dsimp only); rw [e0]; rfl
  · intro K k hk
    simp only [g3_mileBy_243]
    have e1 : (mF3 M S now k).2.1 1 3 = Int32.ofNat n := h2
    have hin : inB (Int32.ofNat k) 8 = true := zI_in (by omega) (by decide)
    have hkk : (Int32.ofNat k).toNatClampNeg = k := zI_nat (by omega)
    rw [e1, if_on hk (by omega), has_bit (by omega), bnd_s, if_bit, ← mF3_step]
    have e6 : (bA (mF3 M S now k) 9 k 2).2.1 1 6 = now := h6
    simp only [hin, hkk, chk_t, zI_succ, e6]
    cases bit S k <;> rfl
  · intro K
    simp only [g3_mileBy_243]
    have e1 : (mF3 M S now n).2.1 1 3 = Int32.ofNat n := h2
    rw [e1, if_off, f3_bits_eq, bnd_s]
/-- the Model's sinking -/
theorem m_sinks_eq {M : Bl} (g : GR M.2.1) : ∃ M' : Bl, bnd (f3_allRopes M) (fun r2 => bnd (f3_sinking M r2) (fun r3 => loop (g3_mileBy_143 M r3) FU ((0 : Int32), (0 : Int32)))) = some (Int32.ofNat (pop (sS M.2.1)), M') ∧ Fm [4, 9, 10, 11, 12, 13] [1, 4] [] M M' ∧ (∀ i, i < cO M.2.1 → M'.2.1 4 i = if wetP M.2.1 i = true then 2 else M.2.1 4 i) ∧ (∀ t, t < cT M.2.1 → M'.2.1 9 t = (if bit (sS M.2.1) t = true then 2 else M.2.1 9 t) ∧ M'.2.1 10 t = if bit (sS M.2.1) t = true then M.2.1 1 6 else M.2.1 10 t) ∧ (M'.2.1 1 4 = Int32.ofNat (cR M'.2.1) ∧ cR M'.2.1 ≤ 12 ∧ rlM M'.2.1 = (rlM M.2.1).filter (fun x => !tch (sS M.2.1) x)) ∧ M'.2.1 1 1 = M.2.1 1 1 := by
  have h6 := g.1.1.2
  have h8 := g.1.2.1.2
  have f1 : Fm [4] [] [] M (bS M 4 (fun i => if i < cO M.2.1 ∧ wetP M.2.1 i = true then 2 else M.2.1 4 i)) := Fm.bs (by decide)
  obtain ⟨M2, q1, q2, q3, q4⟩ := f3_ropesGoOf_eq (M := bS M 4 (fun i => if i < cO M.2.1 ∧ wetP M.2.1 i = true then 2 else M.2.1 4 i)) (S := sS M.2.1) (fl := 0) (g.1.of f1 (by decide) ⟨g.1.2.2.1.1, g.1.2.2.1.2⟩) (RE_iff.mpr (by rw [f1.erl]; exact g.2.1.e))
  rw [f1.erl] at q3
  have f3 : Fm [9, 10] [] [] M2 (mF3 M2 (sS M.2.1) (M.2.1 1 6) (cT M.2.1)) := (Fm.bs (by decide)).trans (Fm.bs (by decide))
  refine ⟨mF3 M2 (sS M.2.1) (M.2.1 1 6) (cT M.2.1), ?_, ((f1.trans q2).trans f3).weak, fun i hi => ?_, fun t ht => ⟨?_, ?_⟩, ?_, ?_⟩
  · rw [f3_allRopes_eq g.1, bnd_s, f3_sinking_eq g.1 g.2.1, bnd_s]
    show loop (g3_mileBy_143 M (sS M.2.1)) FU ((0 : Int32), (0 : Int32)) = _
    rw [m_wet g, m_place g.1.1.1 h6, q1, bnd2_s, m_state (n := cT M.2.1) (now := M.2.1 1 6) (by rw [q2.sc 3, f1.sc 3]; exact g.1.2.1.1) h8 (by rw [q2.sc 6, f1.sc 6])]
  · rw [f3.arr 4, q2.arr 4]
    have : (bS M 4 (fun i => if i < cO M.2.1 ∧ wetP M.2.1 i = true then 2 else M.2.1 4 i)).2.1 4 i = if i < cO M.2.1 ∧ wetP M.2.1 i = true then 2 else M.2.1 4 i := by simp [bS]
    rw [this]; simp [hi]
  · have : (mF3 M2 (sS M.2.1) (M.2.1 1 6) (cT M.2.1)).2.1 9 t = if t < cT M.2.1 ∧ bit (sS M.2.1) t = true then 2 else M2.2.1 9 t := by simp [mF3, bS]
    rw [this, q2.arr 9, f1.arr 9]; simp [ht]
  · have : (mF3 M2 (sS M.2.1) (M.2.1 1 6) (cT M.2.1)).2.1 10 t = if t < cT M.2.1 ∧ bit (sS M.2.1) t = true then M.2.1 1 6 else M2.2.1 10 t := by simp [mF3, bS]
    rw [this, q2.arr 10, f1.arr 10]; simp [ht]
  · have e1 : cR (mF3 M2 (sS M.2.1) (M.2.1 1 6) (cT M.2.1)).2.1 = cR M2.2.1 := f3.eR
    have e2 : rlM (mF3 M2 (sS M.2.1) (M.2.1 1 6) (cT M.2.1)).2.1 = rlM M2.2.1 := f3.erl
    rw [e1, e2, f3.sc 4]
    exact q3
  · rw [f3.sc 1, q4, if_pos rfl]; exact f1.sc 1
theorem GV.of {M M' : Bl} {A S I : List Nat} (g : GV M.2.1) (h : Fm A S I M M') (hA : 2 ∉ A ∧ 3 ∉ A ∧ 5 ∉ A ∧ 6 ∉ A ∧ 8 ∉ A) (hS : 0 ∉ S ∧ 2 ∉ S ∧ 3 ∉ S) (h7 : ∀ t, t < cT M.2.1 → 0 ≤ (M'.2.1 7 t).toInt ∧ (M'.2.1 7 t).toInt ≤ 99) (h6 : 0 ≤ (M'.2.1 1 6).toInt ∧ (M'.2.1 1 6).toInt ≤ (M.2.1 1 0).toInt) : GV M'.2.1 := by
  have eO := h.eO hS.2.1
  have eT := h.eT hS.2.2
  obtain ⟨g1, g2, g3, -⟩ := g
  refine ⟨fun t ht => ?_, fun q hq => ?_, ?_, ?_⟩
  · rw [eT] at ht
    rw [h.arr 6 hA.2.2.2.1, h.arr 8 hA.2.2.2.2, h.arr 5 hA.2.2.1, eO]
    exact ⟨(g1 t ht).1, h7 t ht, (g1 t ht).2.2⟩
  · rw [eO] at hq
    rw [h.arr 3 hA.2.1, h.arr 2 hA.1, h.sc 0 hS.1]
    exact g2 q hq
  · rw [h.sc 0 hS.1]; exact g3
  · rw [h.sc 0 hS.1]; exact h6
theorem RA.of {M M' : Bl} {A S I : List Nat} (g : RA M.2.1) (h : Fm A S I M M') (hS : 3 ∉ S) (hx : ∀ x ∈ rlM M'.2.1, x ∈ rlM M.2.1 ∧ M'.2.1 9 x.1.toNatClampNeg = 0 ∧ M'.2.1 9 x.2.1.toNatClampNeg = 0) : RA M'.2.1 := by
  rw [RA_iff] at g ⊢
  intro x hm
  obtain ⟨h1, h2, h3⟩ := hx x hm
  obtain ⟨o1, o2, o3, o4, o5, -⟩ := g x h1
  refine ⟨o1, o2, o3, ?_, ?_, h2, h3⟩
  · rw [h.eT hS]; exact o4
  · rw [h.eT hS]; exact o5
theorem mile_sim {F M : Bl} {by9 : Int32} (g : GR M.2.1) (h : FR F M.2.1) (hn : (M.2.1 1 6).toInt < (M.2.1 1 0).toInt) : ∃ (r : Int32) (F' M' : Bl), f1_goes F by9 = some (r, F') ∧ f3_mileBy M by9 = some (r, M') ∧ FR F' M'.2.1 ∧ GR M'.2.1 ∧ Ff [11, 14, 16, 17, 18, 19, 20, 28] [4, 5, 6, 25, 26, 27] F F' ∧ Fm [4, 7, 9, 10, 11, 12, 13] [1, 4, 6] [51, 52] M M' ∧ F'.1 26 = M'.1 51 ∧ F'.1 27 = M'.1 52 ∧ M'.2.1 1 6 = M.2.1 1 6 + 1 := by
  rw [f1_goes_soak g h, f3_mileBy_soak g]
  have h6 := g.1.1.2
  have h8 := g.1.2.1.2
  have h12 := g.1.2.2.1.2
  have hm := g.2.2.2.2.1
  have hnow : (M.2.1 1 6 + 1).toInt = (M.2.1 1 6).toInt + 1 := tI_add (by have := g.2.2.2.2.2.1; show -2147483648 ≤ (M.2.1 1 6).toInt + 1; omega) (by show (M.2.1 1 6).toInt + 1 < _; omega)
  -- soaked
  have kf1 : Ff [14] [6] F (bS (bI F 6 (F.1 6 + 1)) 14 (fun j => if j < cT M.2.1 then sok M.2.1 j else F.2.1 14 j)) := (Ff.bi.trans Ff.bs).weak
  have km1 : Fm [7] [6] [52] M (bI (bS (bA M 1 6 (M.2.1 1 6 + 1)) 7 (fun j => if j < cT M.2.1 then sok M.2.1 j else M.2.1 7 j)) 52 0) := ((Fm.ba1.trans (Fm.bs (by decide))).trans Fm.bi).weak
  have a14 : ∀ t, t < cT M.2.1 → (bS (bI F 6 (F.1 6 + 1)) 14 (fun j => if j < cT M.2.1 then sok M.2.1 j else F.2.1 14 j)).2.1 14 t = sok M.2.1 t := fun t ht => by simp [bS, ht]
  have a7 : ∀ t, t < cT M.2.1 → (bI (bS (bA M 1 6 (M.2.1 1 6 + 1)) 7 (fun j => if j < cT M.2.1 then sok M.2.1 j else M.2.1 7 j)) 52 0).2.1 7 t = sok M.2.1 t := fun t ht => by simp [bI, bS, ht]
  have b6 : (bS (bI F 6 (F.1 6 + 1)) 14 (fun j => if j < cT M.2.1 then sok M.2.1 j else F.2.1 14 j)).1 6 = M.2.1 1 6 + 1 := by rw [← h.now]; simp [bS, bI]
  have c6 : (bI (bS (bA M 1 6 (M.2.1 1 6 + 1)) 7 (fun j => if j < cT M.2.1 then sok M.2.1 j else M.2.1 7 j)) 52 0).2.1 1 6 = M.2.1 1 6 + 1 := by simp [bI, bS, bA, upd]
  have c52 : (bI (bS (bA M 1 6 (M.2.1 1 6 + 1)) 7 (fun j => if j < cT M.2.1 then sok M.2.1 j else M.2.1 7 j)) 52 0).1 52 = 0 := by simp [bI]
  generalize bS (bI F 6 (F.1 6 + 1)) 14 (fun j => if j < cT M.2.1 then sok M.2.1 j else F.2.1 14 j) = F1 at kf1 a14 b6 ⊢
  generalize bI (bS (bA M 1 6 (M.2.1 1 6 + 1)) 7 (fun j => if j < cT M.2.1 then sok M.2.1 j else M.2.1 7 j)) 52 0 = M1 at km1 a7 c6 c52 ⊢
  have eT1 := km1.eT
  have eO1 := km1.eO
  have eR1 := km1.eR
  have el1 := km1.erl
  -- broken
  have n5 : F1.1 5 = Int32.ofNat (cR M.2.1) := (kf1.fld 5).trans (h.nR g.1)
  have hrlF : rl (F1.2.1 18) (F1.2.1 19) (F1.2.1 20) (cR M.2.1) = rlM M.2.1 := by rw [kf1.arr 18, kf1.arr 19, kf1.arr 20]; exact h.rls
  have hrlM : rl (M1.2.1 11) (M1.2.1 12) (M1.2.1 13) (cR M.2.1) = rlM M.2.1 := by rw [km1.arr 11, km1.arr 12, km1.arr 13]; rfl
  obtain ⟨F2, p1, p2, p3, p4, p5⟩ := f1_breaks_eq (by9 := by9) n5 h12
  rw [hrlF] at p3 p4 p5
  obtain ⟨M2, q1, q2, q3, q4⟩ := g3_break_eq (by9 := by9) hrlM (by rw [km1.sc 4]; exact g.1.2.2.1.1) h12 c52
  rw [p1, bnd_s, q4]
  have kf2 := (kf1.trans p2).weak (A' := [14, 18, 19, 20]) (I' := [5, 6, 27])
  have km2 := (km1.trans q1).weak (A' := [7, 11, 12, 13]) (S' := [4, 6]) (I' := [52])
  have eT2 := km2.eT
  have eO2 := km2.eO
  have hR2 : ((rlM M.2.1).filter (fun x => !brk by9 x)).length = cR M2.2.1 := by rw [← q3.2.2, rlM_len]
  rw [hR2] at p4 p5
  have hF2 : FR F2 M2.2.1 := FR.mk h kf2 km2 (by decide) (by decide) (by decide) (by decide) (by rw [p2.fld 6, b6, q1.sc 6, c6]) (by rw [kf2.fld 4, km2.sc 1]; exact h.store) ⟨p4, q3.1⟩
    (fun i hi => by rw [kf2.arr 11, km2.arr 4]; exact h.place hi)
    (fun i hi => by rw [kf2.arr 12, km2.arr 5, p2.arr 14, a14 i hi, q1.arr 7, a7 i hi, kf2.arr 16, km2.arr 9, kf2.arr 17, km2.arr 10]; exact ⟨h.owner hi, rfl, h.state hi, h.sunkAt hi, h.notSunk hi⟩)
    (by rw [p5, q3.2.2])
  have g2 : GR M2.2.1 := ⟨g.1.of km2 (by decide) ⟨q3.1, q3.2.1⟩, g.2.1.of km2 (by decide) (fun x hx => by
      rw [q3.2.2] at hx
      have hx := (List.mem_filter.mp hx).1
      obtain ⟨-, -, -, -, -, o6, o7⟩ := RA_iff.mp g.2.1 x hx
      rw [km2.arr 9]; exact ⟨hx, o6, o7⟩), g.2.2.of km2 (by decide) (by decide) (fun t ht => by rw [q1.arr 7, a7 t ht]; exact sok_bd g.2.2 ht) (by rw [q1.sc 6, c6, hnow]; have := g.2.2.2.2.2.1; omega)⟩
  have d6 : M2.2.1 1 6 = M.2.1 1 6 + 1 := by rw [q1.sc 6, c6]
  have d27 : F2.1 27 = M2.1 52 := by rw [p3, q2]
  clear p1 p2 p3 p4 p5 q1 q2 q3 q4
  -- landed
  obtain ⟨F3, l1, l2, l3, l4, l5, l6, l7⟩ := f1_lands_eq g2 hF2
  obtain ⟨M3, r1, r2, r3, r4, r5, r6, r7⟩ := f3_lands_eq g2
  rw [l1, bnd_s, r1, bnd_s]
  have kf3 := (kf2.trans l2).weak (A' := [11, 14, 16, 18, 19, 20]) (I' := [4, 5, 6, 26, 27])
  have km3 := (km2.trans r2).weak (A' := [4, 7, 9, 11, 12, 13]) (S' := [1, 4, 6]) (I' := [51, 52])
  have hR3 : ((rlM M2.2.1).filter (fun x => !tch (Ls M2.2.1 (cO M2.2.1)) x)).length = cR M3.2.1 := by rw [← r5.2.2, rlM_len]
  rw [hR3] at l5
  have hF3 : FR F3 M3.2.1 := FR.mk hF2 l2 r2 (by decide) (by decide) (by decide) (by decide) (by rw [l2.fld 6, r2.sc 6]; exact hF2.now) (by rw [l6, r6]) ⟨l5.1, r5.1⟩
    (fun i hi => by rw [l3 i hi, r3 i hi]; simp [hi])
    (fun i hi => by
      rw [l2.arr 12, r2.arr 5, l2.arr 14, r2.arr 7, l4 i hi, r4 i hi, l2.arr 17, r2.arr 10]
      refine ⟨hF2.owner hi, hF2.bears hi, rfl, fun z => ?_, fun z => ?_⟩
      · by_cases hb : bit (Ls M2.2.1 (cO M2.2.1)) i = true
        · rw [if_pos hb] at z; cases z
        · rw [if_neg hb] at z; exact hF2.sunkAt hi z
      · by_cases hb : bit (Ls M2.2.1 (cO M2.2.1)) i = true
        · refine hF2.notSunk hi ?_
          have : i < 32 := by omega
          rw [bit_Ls this] at hb
          simp only [lst, Bool.and_eq_true, decide_eq_true_eq] at hb
          rw [hb.2.1]; decide
        · rw [if_neg hb] at z; exact hF2.notSunk hi z)
    (by rw [l5.2, r5.2.2])
  have g3 : GR M3.2.1 := ⟨g2.1.of r2 (by decide) ⟨r5.1, r5.2.1⟩, g2.2.1.of r2 (by decide) (fun x hx => by
      rw [r5.2.2] at hx
      obtain ⟨hx, ht⟩ := List.mem_filter.mp hx
      obtain ⟨-, -, -, o4, o5, o6, o7⟩ := RA_iff.mp g2.2.1 x hx
      have ht : tch (Ls M2.2.1 (cO M2.2.1)) x = false := by simpa using ht
      simp only [tch, Bool.or_eq_false_iff] at ht
      rw [r4 _ o4, r4 _ o5, if_neg (by rw [ht.1]; decide), if_neg (by rw [ht.2]; decide)]
      exact ⟨hx, o6, o7⟩), g2.2.2.of r2 (by decide) (by decide) (fun t ht => by rw [r2.arr 7]; exact (g2.2.2.1 t ht).2.1) (by rw [r2.sc 6]; exact g2.2.2.2.2.2)⟩
  have d6' : M3.2.1 1 6 = M.2.1 1 6 + 1 := by rw [r2.sc 6, d6]
  have d26 : F3.1 26 = M3.1 51 := by rw [l7, r7]
  have d27' : F3.1 27 = M3.1 52 := by rw [l2.fld 27, r2.fld 52, d27]
  -- sunk
  have h63 := g3.1.1.2
  have h83 := g3.1.2.1.2
  obtain ⟨F4, s1, s2, s3, s4, s5, s6⟩ := f1_sinksAll_eq g3 hF3
  obtain ⟨M4, t1, t2, t3, t4, t5, t6⟩ := m_sinks_eq g3
  have hR4 : ((rlM M3.2.1).filter (fun x => !tch (sS M3.2.1) x)).length = cR M4.2.1 := by rw [← t5.2.2, rlM_len]
  rw [hR4] at s5
  refine ⟨Int32.ofNat (pop (sS M3.2.1)), F4, M4, by rw [s1, bnd_s, s6], t1, ?_, ?_, (kf3.trans s2).weak, (km3.trans t2).weak, by rw [s2.fld 26, t2.fld 51, d26], by rw [s2.fld 27, t2.fld 52, d27'], by rw [t2.sc 6, d6']⟩
  · exact FR.mk hF3 s2 t2 (by decide) (by decide) (by decide) (by decide) (by rw [s2.fld 6, t2.sc 6]; exact hF3.now) (by rw [s2.fld 4, t6]; exact hF3.store) ⟨s5.1, t5.1⟩
      (fun i hi => by rw [s3 i hi, t3 i hi])
      (fun i hi => by
        rw [s2.arr 12, t2.arr 5, s2.arr 14, t2.arr 7, (s4 i hi).1, (t4 i hi).1, (s4 i hi).2, (t4 i hi).2]
        refine ⟨hF3.owner hi, hF3.bears hi, rfl, fun z => ?_, fun z => ?_⟩
        · by_cases hb : bit (sS M3.2.1) i = true
          · rw [if_pos hb, if_pos hb]
          · rw [if_neg hb] at z; rw [if_neg hb, if_neg hb]; exact hF3.sunkAt hi z
        · by_cases hb : bit (sS M3.2.1) i = true
          · rw [if_pos hb] at z; exact absurd rfl z
          · rw [if_neg hb] at z; rw [if_neg hb]; exact hF3.notSunk hi z)
      (by rw [s5.2, t5.2.2])
  · exact ⟨g3.1.of t2 (by decide) ⟨t5.1, t5.2.1⟩, g3.2.1.of t2 (by decide) (fun x hx => by
      rw [t5.2.2] at hx
      obtain ⟨hx, ht⟩ := List.mem_filter.mp hx
      obtain ⟨-, -, -, o4, o5, o6, o7⟩ := RA_iff.mp g3.2.1 x hx
      have ht : tch (sS M3.2.1) x = false := by simpa using ht
      simp only [tch, Bool.or_eq_false_iff] at ht
      rw [(t4 _ o4).1, (t4 _ o5).1, if_neg (by rw [ht.1]; decide), if_neg (by rw [ht.2]; decide)]
      exact ⟨hx, o6, o7⟩), g3.2.2.of t2 (by decide) (by decide) (fun t ht => by rw [t2.arr 7]; exact (g3.2.2.1 t ht).2.1) (by rw [t2.sc 6]; exact g3.2.2.2.2.2)⟩

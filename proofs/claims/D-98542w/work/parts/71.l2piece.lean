/-! PLAIN LAW: counts, what is afloat, pieces -/
set_option maxRecDepth 100000
/-- the Model's arrays -/
abbrev Ar : Type := Nat → Nat → Int32
def cO (a : Ar) : Nat := (a 1 2).toNatClampNeg
def cT (a : Ar) : Nat := (a 1 3).toNatClampNeg
def cR (a : Ar) : Nat := (a 1 4).toNatClampNeg
def cX (a : Ar) : Nat := (a 1 5).toNatClampNeg
def cF (a : Ar) : Nat := (a 1 7).toNatClampNeg
/-- counts are in their bounds -/
def GC (a : Ar) : Prop := (a 1 2 = Int32.ofNat (cO a) ∧ cO a ≤ 6) ∧ (a 1 3 = Int32.ofNat (cT a) ∧ cT a ≤ 8) ∧ (a 1 4 = Int32.ofNat (cR a) ∧ cR a ≤ 12) ∧ (a 1 5 = Int32.ofNat (cX a) ∧ cX a ≤ 6) ∧ (a 1 7 = Int32.ofNat (cF a) ∧ cF a ≤ 6)
def eA (a : Ar) (k : Nat) : Nat := (a 11 k).toNatClampNeg
def eB (a : Ar) (k : Nat) : Nat := (a 12 k).toNatClampNeg
/-- ropes join things -/
def RE (a : Ar) : Prop := ∀ k, k < cR a → (a 11 k = Int32.ofNat (eA a k) ∧ eA a k < 8) ∧ (a 12 k = Int32.ofNat (eB a k) ∧ eB a k < 8)
def sAf (a : Ar) : Int32 := mkS (cT a) (fun t => decide (a 9 t = 0))
def sRp (a : Ar) : Int32 := mkS (cR a) (fun _ => true)
theorem f3_afloat_eq {M : Bl} (g : GC M.2.1) : f3_afloat M = some (sAf M.2.1) := by
  obtain ⟨-, ⟨hT, h8⟩, -⟩ := g
  unfold f3_afloat sAf
  refine loop_seq (fun k => (mkS k (fun t => decide (M.2.1 9 t = 0)), Int32.ofNat k)) (cT M.2.1) (by omega) ?_ ?_
  · intro K k hk
    simp only [g3_afloat_4]
    rw [hT, if_on hk (by omega), chk_h (zI_in (by omega) (by decide)), zI_nat (by omega), zI_succ]
    by_cases hz : M.2.1 9 k = 0
    · rw [if_pos hz, mkS_yes (by omega) (by simp [hz])]
    · rw [if_neg hz, mkS_no0 (by simp [hz])]
  · intro K
    simp only [g3_afloat_4]
    rw [hT, if_off]
theorem f3_allRopes_eq {M : Bl} (g : GC M.2.1) : f3_allRopes M = some (sRp M.2.1) := by
  obtain ⟨-, -, ⟨hR, h12⟩, -⟩ := g
  unfold f3_allRopes sRp
  rw [hR, mkS_all h12]
/-! pieces -/
def two (a : Ar) (k : Nat) : Int32 := ((1 : Int32) <<< (a 11 k &&& 31)) ||| ((1 : Int32) <<< (a 12 k &&& 31))
theorem bit_two {a : Ar} (hr : RE a) {k j : Nat} (hk : k < cR a) (hj : j < 32) : bit (two a k) j = (decide (j = eA a k) || decide (j = eB a k)) := by
  obtain ⟨⟨h1, h2⟩, h3, h4⟩ := hr k hk
  rw [two, bit_or, h1, h3, bit_shl (by omega) hj, bit_shl (by omega) hj]
def stp (a : Ar) (W rp : Int32) (k : Nat) (s : Int32) : Int32 := if bit rp k && (bit W (eA a k) && bit W (eB a k)) && (bit s (eA a k) || bit s (eB a k)) then s ||| two a k else s
def pas (a : Ar) (W rp : Int32) (n : Nat) (s : Int32) : Int32 := match n with
  | 0 => s
  | n + 1 => stp a W rp n (pas a W rp n s)
def Clo (a : Ar) (W rp Q : Int32) : Prop := ∀ k, k < cR a → bit rp k = true → bit W (eA a k) = true → bit W (eB a k) = true → bit Q (eA a k) = bit Q (eB a k)
/-- what hangs together with t within W by the ropes rp -/
noncomputable def piece (a : Ar) (W rp : Int32) (t : Nat) : Int32 := mkS 8 (fun u => @decide (∀ Q : Int32, bit Q t = true → Clo a W rp Q → bit Q u = true) (Classical.propDecidable _))
theorem piece_bit {a : Ar} {W rp : Int32} {t u : Nat} (hu : u < 32) : bit (piece a W rp t) u = true ↔ u < 8 ∧ ∀ Q : Int32, bit Q t = true → Clo a W rp Q → bit Q u = true := by
  rw [piece, bit_mkS hu]
  simp only [Bool.and_eq_true, decide_eq_true_eq]
theorem piece_lt {a : Ar} {W rp : Int32} {t u : Nat} (hu : u < 32) (h : bit (piece a W rp t) u = true) : u < 8 := ((piece_bit hu).mp h).1
theorem piece_self {a : Ar} {W rp : Int32} {t : Nat} (ht : t < 8) : bit (piece a W rp t) t = true := (piece_bit (by omega)).mpr ⟨ht, fun _ h _ => h⟩
theorem piece_min {a : Ar} {W rp Q : Int32} {t u : Nat} (hu : u < 32) (h : bit (piece a W rp t) u = true) (h1 : bit Q t = true) (h2 : Clo a W rp Q) : bit Q u = true := ((piece_bit hu).mp h).2 Q h1 h2
theorem piece_clo {a : Ar} {W rp : Int32} (hr : RE a) (t : Nat) : Clo a W rp (piece a W rp t) := by
  intro k hk h1 h2 h3
  have hA : eA a k < 8 := (hr k hk).1.2
  have hB : eB a k < 8 := (hr k hk).2.2
  rw [Bool.eq_iff_iff, piece_bit (by omega), piece_bit (by omega)]
  constructor
  · rintro ⟨-, h⟩
    exact ⟨hB, fun Q g1 g2 => by rw [← g2 k hk h1 h2 h3]; exact h Q g1 g2⟩
  · rintro ⟨-, h⟩
    exact ⟨hA, fun Q g1 g2 => by rw [g2 k hk h1 h2 h3]; exact h Q g1 g2⟩
/-- what holds the thing, is closed and least is the piece -/
theorem piece_uniq {a : Ar} {W rp s : Int32} {t : Nat} (hr : RE a) (h1 : bit s t = true) (h2 : Clo a W rp s) (h3 : ∀ u, u < 32 → bit s u = true → bit (piece a W rp t) u = true) : s = piece a W rp t := by
  refine bit_ext fun u hu => ?_
  rw [Bool.eq_iff_iff]
  exact ⟨h3 u hu, fun h => piece_min hu h h1 h2⟩
theorem stp_mono {a : Ar} {W rp s : Int32} {k u : Nat} (h : bit s u = true) : bit (stp a W rp k s) u = true := by
  unfold stp; split
  · rw [bit_or, h]; rfl
  · exact h
theorem pas_mono {a : Ar} {W rp s : Int32} {u : Nat} (h : bit s u = true) : ∀ n, bit (pas a W rp n s) u = true
  | 0 => h
  | n + 1 => stp_mono (pas_mono h n)
theorem stp_in {a : Ar} {W rp s : Int32} {k t : Nat} (hr : RE a) (hk : k < cR a) (h : ∀ u, u < 32 → bit s u = true → bit (piece a W rp t) u = true) : ∀ u, u < 32 → bit (stp a W rp k s) u = true → bit (piece a W rp t) u = true := by
  intro u hu hb
  unfold stp at hb
  split at hb
  · rename_i hc
    simp only [Bool.and_eq_true, Bool.or_eq_true] at hc
    obtain ⟨⟨h1, h2, h3⟩, h4⟩ := hc
    rw [bit_or, Bool.or_eq_true] at hb
    rcases hb with hb | hb
    · exact h u hu hb
    have hA : eA a k < 8 := (hr k hk).1.2
    have hB : eB a k < 8 := (hr k hk).2.2
    have hc := piece_clo (W := W) (rp := rp) hr t k hk h1 h2 h3
    have hA2 : bit (piece a W rp t) (eA a k) = true := by
      rcases h4 with h4 | h4
      · exact h _ (by omega) h4
      · rw [hc]; exact h _ (by omega) h4
    rw [bit_two hr hk hu] at hb
    simp only [Bool.or_eq_true, decide_eq_true_eq] at hb
    rcases hb with rfl | rfl
    · exact hA2
    · rw [← hc]; exact hA2
  · exact h u hu hb
theorem pas_in {a : Ar} {W rp s : Int32} {t : Nat} (hr : RE a) (h : ∀ u, u < 32 → bit s u = true → bit (piece a W rp t) u = true) : ∀ n, n ≤ cR a → ∀ u, u < 32 → bit (pas a W rp n s) u = true → bit (piece a W rp t) u = true
  | 0, _ => h
  | n + 1, hn => stp_in hr (by omega) (pas_in hr h n (by omega))
theorem pas_same {a : Ar} {W rp s : Int32} (n : Nat) (h : pas a W rp n s = s) : ∀ k, k ≤ n → pas a W rp k s = s := by
  intro k hk
  refine bit_ext fun u hu => ?_
  rw [Bool.eq_iff_iff]
  refine ⟨fun hb => ?_, fun hb => pas_mono hb k⟩
  have key : ∀ j, bit (pas a W rp (k + j) s) u = true := by
    intro j
    induction j with
    | zero => exact hb
    | succ j ih => exact stp_mono ih
  have := key (n - k)
  rw [show k + (n - k) = n by omega, h] at this
  exact this
theorem pas_clo {a : Ar} {W rp s : Int32} (hr : RE a) (h : pas a W rp (cR a) s = s) : Clo a W rp s := by
  intro k hk h1 h2 h3
  have e1 := pas_same _ h k (by omega)
  have e2 := pas_same _ h (k + 1) (by omega)
  have e3 : stp a W rp k s = s := by rw [← e2]; show _ = stp a W rp k (pas a W rp k s); rw [e1, e2]
  have hA : eA a k < 8 := (hr k hk).1.2
  have hB : eB a k < 8 := (hr k hk).2.2
  cases hc : (bit s (eA a k) || bit s (eB a k)) with
  | false => simp only [Bool.or_eq_false_iff] at hc; rw [hc.1, hc.2]
  | true =>
    unfold stp at e3
    rw [h1, h2, h3, hc] at e3
    simp only [Bool.and_self, if_true] at e3
    have g1 : bit s (eA a k) = true := by rw [← e3, bit_or, bit_two hr hk (by omega)]; simp
    have g2 : bit s (eB a k) = true := by rw [← e3, bit_or, bit_two hr hk (by omega)]; simp
    rw [g1, g2]
def cnt0 (s : Int32) : Nat := sumN 8 (fun k => if bit s k = true then 0 else 1)
theorem sumN_mono {f g : Nat → Nat} : ∀ n, (∀ k, k < n → f k ≤ g k) → sumN n f ≤ sumN n g
  | 0, _ => Nat.le_refl _
  | n + 1, h => by
    have ih := sumN_mono n (fun k hk => h k (by omega))
    have := h n (by omega)
    simp only [sumN]; omega
theorem sumN_lt {f g : Nat → Nat} : ∀ n j, (∀ k, k < n → f k ≤ g k) → j < n → f j < g j → sumN n f < sumN n g
  | 0, _, _, hj, _ => by omega
  | n + 1, j, h, hj, hl => by
    have h1 := h n (by omega)
    have h2 := sumN_mono n (fun k hk => h k (by omega))
    simp only [sumN]
    by_cases e : j = n
    · subst e; omega
    · have := sumN_lt n j (fun k hk => h k (by omega)) (by omega) hl; omega
theorem cnt0_lt {s s' : Int32} (h : ∀ u, u < 32 → bit s u = true → bit s' u = true) (h8 : ∀ u, u < 32 → bit s' u = true → u < 8) (hn : s' ≠ s) : cnt0 s' < cnt0 s := by
  have hx : ∃ u, u < 32 ∧ bit s' u = true ∧ bit s u = false := Classical.byContradiction fun hc => hn (bit_ext fun u hu => by
    cases h1 : bit s u with
    | true => exact h u hu h1
    | false =>
      cases h2 : bit s' u with
      | false => rfl
      | true => exact absurd ⟨u, hu, h2, h1⟩ hc)
  obtain ⟨u, hu, h1, h2⟩ := hx
  refine sumN_lt 8 u (fun k hk => ?_) (h8 u hu h1) ?_
  · by_cases hb : bit s k = true
    · rw [if_pos hb, if_pos (h k (by omega) hb)]; exact Nat.le_refl _
    · rw [if_neg hb]; split <;> omega
  · rw [if_pos h1, if_neg (by rw [h2]; decide)]; decide
theorem g3_hangs_in {M : Bl} (g : GC M.2.1) (hr : RE M.2.1) {W rp : Int32} {s : Int32} (K8 : Int32 × Int32 → Option Int32) : loop (g3_hangsWith_20 M W rp s K8) FU (s, (0 : Int32)) = K8 (pas M.2.1 W rp (cR M.2.1) s, if pas M.2.1 W rp (cR M.2.1) s = s then 0 else 1) := by
  obtain ⟨-, -, ⟨hR, h12⟩, -⟩ := g
  refine loop_seq (fun k => (pas M.2.1 W rp k s, Int32.ofNat k)) (cR M.2.1) (by omega) ?_ ?_
  · intro K k hk
    have hA : eA M.2.1 k < 8 := (hr k hk).1.2
    have hB : eB M.2.1 k < 8 := (hr k hk).2.2
    simp only [g3_hangsWith_20]
    rw [hR, if_on hk (by omega), chk_h (zI_in (by omega) (by decide)), chk_h (zI_in (by omega) (by decide)), zI_nat (by omega), zI_succ, ltv_s, has_bit (by omega), bnd_s, if_bit]
    show _ = K (stp M.2.1 W rp k (pas M.2.1 W rp k s), _)
    generalize pas M.2.1 W rp k s = v
    change (if bit rp k = true then (if two M.2.1 k &&& (W ^^^ (-1 : Int32)) = 0 then (if two M.2.1 k &&& v = 0 then K (v, _) else K (v ||| two M.2.1 k, _)) else K (v, _)) else K (v, _)) = _
    have e1 : (two M.2.1 k &&& (W ^^^ (-1 : Int32)) = 0) ↔ (bit W (eA M.2.1 k) && bit W (eB M.2.1 k)) = true := by
      rw [and_zero_iff, Bool.and_eq_true]
      constructor
      · intro h
        have h1 := h (eA M.2.1 k) (by omega)
        have h2 := h (eB M.2.1 k) (by omega)
        rw [bit_two hr hk (by omega), bit_not _ (by omega)] at h1 h2
        exact ⟨by simpa using h1, by simpa using h2⟩
      · rintro ⟨h1, h2⟩ j hj
        rw [bit_two hr hk hj, bit_not _ hj]
        by_cases ea : j = eA M.2.1 k
        · subst ea; simp [h1]
        · by_cases eb : j = eB M.2.1 k
          · subst eb; simp [h2]
          · simp [ea, eb]
    have e2 : (two M.2.1 k &&& v = 0) ↔ (bit v (eA M.2.1 k) || bit v (eB M.2.1 k)) = false := by
      rw [and_zero_iff, Bool.or_eq_false_iff]
      constructor
      · intro h
        have h1 := h (eA M.2.1 k) (by omega)
        have h2 := h (eB M.2.1 k) (by omega)
        rw [bit_two hr hk (by omega)] at h1 h2
        exact ⟨by simpa using h1, by simpa using h2⟩
      · rintro ⟨h1, h2⟩ j hj
        rw [bit_two hr hk hj]
        by_cases ea : j = eA M.2.1 k
        · subst ea; simp [h1]
        · by_cases eb : j = eB M.2.1 k
          · subst eb; simp [h2]
          · simp [ea, eb]
    unfold stp
    cases h1 : bit rp k with
    | false => simp
    | true =>
      cases h2 : (bit W (eA M.2.1 k) && bit W (eB M.2.1 k)) with
      | false => rw [if_pos rfl, if_neg (fun z => by rw [e1, h2] at z; cases z)]; simp
      | true =>
        rw [if_pos rfl, if_pos (e1.mpr h2)]
        cases h3 : (bit v (eA M.2.1 k) || bit v (eB M.2.1 k)) with
        | false => rw [if_pos (e2.mpr h3)]; simp
        | true => rw [if_neg (fun z => by rw [e2, h3] at z; cases z)]; simp
  · intro K
    simp only [g3_hangsWith_20]
    rw [hR, if_off]
    split <;> rfl
theorem f3_hangsWith_eq {M : Bl} (g : GC M.2.1) (hr : RE M.2.1) {W rp : Int32} {t : Nat} (ht : t < 8) : f3_hangsWith M (Int32.ofNat t) W rp = some (piece M.2.1 W rp t) := by
  unfold f3_hangsWith
  refine loop_meas (S := Int32 × Int32) (fun s => bit s.1 t = true ∧ (∀ u, u < 32 → bit s.1 u = true → bit (piece M.2.1 W rp t) u = true) ∧ (s.2 = 0 → Clo M.2.1 W rp s.1)) (fun s => if s.2 = 0 then 0 else cnt0 s.1 + 1) (fun _ => some (piece M.2.1 W rp t)) ?_ ?_ ?_
  · rintro K ⟨s, f⟩ ⟨h1, h2, h3⟩ hK
    simp only [g3_hangsWith_8]
    by_cases hf : f = 0
    · rw [if_pos hf]
      exact congrArg some (piece_uniq hr h1 (h3 hf) h2)
    · rw [if_neg hf, g3_hangs_in g hr]
      refine hK _ ⟨pas_mono h1 _, pas_in hr h2 _ (Nat.le_refl _), fun hz => ?_⟩ ?_
      · have hz : (if pas M.2.1 W rp (cR M.2.1) s = s then (0 : Int32) else 1) = 0 := hz
        by_cases e : pas M.2.1 W rp (cR M.2.1) s = s
        · show Clo M.2.1 W rp (pas M.2.1 W rp (cR M.2.1) s)
          rw [e]; exact pas_clo hr e
        · rw [if_neg e] at hz; cases hz
      · show (if (if pas M.2.1 W rp (cR M.2.1) s = s then (0 : Int32) else 1) = 0 then 0 else _) < if f = 0 then 0 else _
        rw [if_neg hf]
        by_cases e : pas M.2.1 W rp (cR M.2.1) s = s
        · rw [if_pos (if_pos e)]; exact Nat.succ_pos _
        · rw [if_neg (by rw [if_neg e]; decide)]
          exact Nat.succ_lt_succ (cnt0_lt (fun u _ hu => pas_mono hu _) (fun u hu hb => piece_lt hu (pas_in hr h2 _ (Nat.le_refl _) u hu hb)) e)
  · refine ⟨by rw [bit_shl (by omega) (by omega)]; simp, fun u hu hb => ?_, fun h => by cases h⟩
    rw [bit_shl (by omega) hu] at hb
    have e : u = t := by simpa using hb
    subst e
    exact piece_self ht
  · show (if (1 : Int32) = 0 then 0 else cnt0 ((1 : Int32) <<< (Int32.ofNat t &&& 31)) + 1) < _
    rw [if_neg (by decide)]
    have : cnt0 ((1 : Int32) <<< (Int32.ofNat t &&& 31)) ≤ 8 * 1 := sumN_le 8 (fun k _ => by split <;> omega)
    omega

/-! PLAIN LAW: sums over sets, who rides what, margins, what sinks -/
set_option maxRecDepth 100000
theorem sumN_ext {f : Nat → Nat} {n : Nat} : ∀ m, n ≤ m → (∀ k, n ≤ k → k < m → f k = 0) → sumN m f = sumN n f := by
  intro m
  induction m with
  | zero => intro h _; have : n = 0 := by omega
            subst this; rfl
  | succ m ih =>
    intro h hz
    by_cases e : n = m + 1
    · subst e; rfl
    · simp only [sumN]; rw [ih (by omega) (fun k h1 h2 => hz k h1 (by omega)), hz m (by omega) (by omega)]; rfl
/-- how many are in a set -/
def pop (s : Int32) : Nat := sumN 16 (fun k => if bit s k = true then 1 else 0)
theorem f3_bits_eq (s : Int32) : f3_bits s = some (Int32.ofNat (pop s)) := by
  unfold f3_bits pop
  refine loop_seq (fun k => (Int32.ofNat (sumN k (fun k => if bit s k = true then 1 else 0)), Int32.ofNat k)) 16 (by omega) ?_ ?_
  · intro K k hk
    simp only [g3_bits_4]
    have h16 : (16 : Int32) = Int32.ofNat 16 := rfl
    rw [h16, if_on hk (by omega), sh_bit (by omega), zI_succ]
    simp only [sumN, Int32.ofNat_add]
    cases bit s k <;> rfl
  · intro K
    simp only [g3_bits_4]
    have h16 : (16 : Int32) = Int32.ofNat 16 := rfl
    rw [h16, if_off]
theorem bitCount_dec : ∀ i, i < 64 → ∀ j, j < 64 → fJ8_bitCount (Int32.ofNat (64 * i + j)) = some (Int32.ofNat (pop (Int32.ofNat (64 * i + j)))) := by decide +kernel
theorem bitCount_eq {s : Int32} (h : ∀ k, 12 ≤ k → k < 32 → bit s k = false) : fJ8_bitCount s = some (Int32.ofNat (pop s)) := by
  obtain ⟨m, hm, rfl⟩ := mkS_nat h
  have e : m = 64 * (m / 64) + m % 64 := by omega
  rw [e]
  exact bitCount_dec _ (by omega) _ (by omega)
theorem pop_le (s : Int32) : pop s ≤ 16 := by
  have := sumN_le (f := fun k => if bit s k = true then 1 else 0) (B := 1) 16 (fun k _ => by split <;> omega)
  unfold pop; omega
/-! sums over the things of a set -/
def sFl (a : Ar) (s : Int32) : Int32 := sumI (cT a) (fun t => if bit s t = true then a 7 t else 0)
def sWt (a : Ar) (s : Int32) : Int32 := sumI (cT a) (fun t => if bit s t = true then a 6 t else 0)
theorem f3_floatOf_eq {M : Bl} {s : Int32} (g : GC M.2.1) : f3_floatOf M s = some (sFl M.2.1 s) := by
  obtain ⟨-, ⟨hT, h8⟩, -⟩ := g
  unfold f3_floatOf sFl
  refine loop_seq (fun k => (sumI k (fun t => if bit s t = true then M.2.1 7 t else 0), Int32.ofNat k)) (cT M.2.1) (by omega) ?_ ?_
  · intro K k hk
    simp only [g3_floatOf_4]
    rw [hT, if_on hk (by omega), has_bit (by omega), bnd_s, if_bit, chk_h (zI_in (by omega) (by decide)), zI_nat (by omega), zI_succ]
    simp only [sumI]
    cases bit s k <;> rfl
  · intro K
    simp only [g3_floatOf_4]
    rw [hT, if_off]
theorem f3_weightOf_eq {M : Bl} {s : Int32} (g : GC M.2.1) : f3_weightOf M s = some (sWt M.2.1 s) := by
  obtain ⟨-, ⟨hT, h8⟩, -⟩ := g
  unfold f3_weightOf sWt
  refine loop_seq (fun k => (sumI k (fun t => if bit s t = true then M.2.1 6 t else 0), Int32.ofNat k)) (cT M.2.1) (by omega) ?_ ?_
  · intro K k hk
    simp only [g3_weightOf_4]
    rw [hT, if_on hk (by omega), has_bit (by omega), bnd_s, if_bit, chk_h (zI_in (by omega) (by decide)), zI_nat (by omega), zI_succ]
    simp only [sumI]
    cases bit s k <;> rfl
  · intro K
    simp only [g3_weightOf_4]
    rw [hT, if_off]
theorem f1_bearsOf_eq {F : Bl} {a : Ar} {s : Int32} (g : GC a) (h : FR F a) : f1_bearsOf F s = some (sFl a s - sWt a s) := by
  have h8 := g.2.1.2
  unfold f1_bearsOf sFl sWt
  rw [← sumI_sub]
  refine loop_seq (fun k => (sumI k (fun t => (if bit s t = true then a 7 t else 0) - (if bit s t = true then a 6 t else 0)), Int32.ofNat k)) (cT a) (by omega) ?_ ?_
  · intro K k hk
    simp only [g1_bearsOf_4]
    rw [h.nT g, if_on hk (by omega), has_bit0 (by omega), bnd_s, if_bit, chk_h (zI_in (by omega) (by decide)), chk_h (zI_in (by omega) (by decide)), zI_nat (by omega), zI_succ, h.bears hk, h.weight hk]
    simp only [sumI]
    cases bit s k with
    | false => rw [if_neg (by decide), if_neg (by decide), if_neg (by decide), Int32.sub_self]
    | true => rw [if_pos rfl, if_pos rfl, if_pos rfl]
  · intro K
    simp only [g1_bearsOf_4]
    rw [h.nT g, if_off]
/-! the flow's parts -/
theorem bS_self (F : Bl) (f : Nat) : bS F f (F.2.1 f) = F := by
  obtain ⟨x, y, z⟩ := F
  simp only [bS, Prod.mk.injEq, true_and, and_true]
  funext g
  by_cases h : g = f
  · subst h; simp
  · simp [h]
theorem bS_bS (F : Bl) (f : Nat) (g h : Nat → Int32) : bS (bS F f g) f h = bS F f h := by
  simp only [bS, Prod.mk.injEq, true_and, and_true]
  funext k
  by_cases e : k = f <;> simp [e]
theorem FR.parts {F : Bl} {a : Ar} {g : Nat → Int32} (h : FR F a) : FR (bS F 28 g) a := h
/-- the parts as they were told last -/
def PA (F : Bl) (a : Ar) (rp : Int32) : Prop := ∀ t, t < cT a → F.2.1 28 t = if a 9 t = 0 then pc a rp t else 0
noncomputable def paV (F : Bl) (a : Ar) (rp : Int32) (n : Nat) : Nat → Int32 := fun j => if j < n then (if a 9 j = 0 then pc a rp j else 0) else F.2.1 28 j
theorem f1_parts_eq {F : Bl} {a : Ar} {rp : Int32} (g : GC a) (hr : RE a) (h : FR F a) : f1_parts F rp = some (bS F 28 (paV F a rp (cT a))) := by
  have h8 := g.2.1.2
  unfold f1_parts
  have e0 : bS F 28 (paV F a rp 0) = F := by
    have : paV F a rp 0 = F.2.1 28 := by funext j; simp [paV]
    rw [this, bS_self]
  refine Eq.trans ?_ (loop_seq (body := g1_parts_2 rp) (fun k => (bS F 28 (paV F a rp k), Int32.ofNat k)) (cT a) (by omega) ?_ ?_)
  · (try dsimp only); rw [e0]; rfl
  · intro K k hk
    simp only [g1_parts_2]
    have hs : FR (bS F 28 (paV F a rp k)) a := h.parts
    rw [hs.nT g, if_on hk (by omega), chk_h (zI_in (by omega) (by decide)), chk_h (zI_in (by omega) (by decide)), zI_nat (by omega), zI_succ, f1_pieceBy_eq g hr hs (by omega), bnd_s, chk_h (zI_in (by omega) (by decide)), hs.state hk]
    have key : ∀ v, (if a 9 k = 0 then pc a rp k else 0) = v → bA (bS F 28 (paV F a rp k)) 28 k v = bS F 28 (paV F a rp (k + 1)) := by
      intro v hv
      rw [bA, bS_bS]
      congr 1
      funext j
      simp only [upd, paV]
      by_cases e : j = k
      · subst e; simp [bS, hv]
      · have h2 : (j < k + 1) = (j < k) := propext ⟨fun z => by omega, fun z => by omega⟩
        simp [e, h2, bS, paV]
    by_cases hz : a 9 k = 0
    · rw [if_pos hz, key _ (if_pos hz)]
    · rw [if_neg hz, key _ (if_neg hz)]
  · intro K
    simp only [g1_parts_2]
    have hs : FR (bS F 28 (paV F a rp (cT a))) a := h.parts
    rw [hs.nT g, if_off]
theorem PA_parts {F : Bl} {a : Ar} {rp : Int32} : PA (bS F 28 (paV F a rp (cT a))) a rp := by
  intro t ht
  show paV F a rp (cT a) t = _
  simp [paV, ht]
/-! who rides what -/
def sOw (a : Ar) (q : Int32) : Int32 := mkS (cT a) (fun t => decide (a 5 t = q) && decide (a 9 t = 0))
theorem f1_ownOf_eq {F : Bl} {a : Ar} {q : Int32} (g : GC a) (h : FR F a) : f1_ownOf F q = some (sOw a q) := by
  have h8 := g.2.1.2
  unfold f1_ownOf sOw
  refine loop_seq (fun k => (mkS k (fun t => decide (a 5 t = q) && decide (a 9 t = 0)), Int32.ofNat k)) (cT a) (by omega) ?_ ?_
  · intro K k hk
    simp only [g1_ownOf_4]
    rw [h.nT g, if_on hk (by omega), chk_h (zI_in (by omega) (by decide)), chk_h (zI_in (by omega) (by decide)), zI_nat (by omega), zI_succ, h.state hk, h.owner hk]
    by_cases hz : a 5 k = q
    · rw [if_pos hz]
      by_cases hy : a 9 k = 0
      · rw [if_pos hy, mkS_yes (by omega) (by simp [hz, hy])]
      · rw [if_neg hy, mkS_no0 (by simp [hy])]
    · rw [if_neg hz, mkS_no0 (by simp [hz])]
  · intro K
    simp only [g1_ownOf_4]
    rw [h.nT g, if_off]
noncomputable def cq (a : Ar) (rp q : Int32) (t : Nat) : Nat := sumN (cT a) (fun o => if (bit (pc a rp t) o && decide (a 5 o = q)) = true then 1 else 0)
theorem cq_le {a : Ar} {rp q : Int32} {t : Nat} (h8 : cT a ≤ 8) : cq a rp q t ≤ 8 := by
  have := sumN_le (f := fun o => if (bit (pc a rp t) o && decide (a 5 o = q)) = true then 1 else 0) (B := 1) (cT a) (fun k _ => by split <;> omega)
  unfold cq; omega
noncomputable def rd (a : Ar) (rp q : Int32) : Nat → Option Nat × Nat
  | 0 => (none, 0)
  | k + 1 => if a 9 k = 0 ∧ (rd a rp q k).2 < cq a rp q k then (some k, cq a rp q k) else rd a rp q k
noncomputable def rdr (a : Ar) (rp : Int32) (q : Nat) : Option Nat := if a 4 q = 0 then (rd a rp (Int32.ofNat q) (cT a)).1 else none
theorem rd_some {a : Ar} {rp q : Int32} {t : Nat} : ∀ k, (rd a rp q k).1 = some t → t < k ∧ a 9 t = 0
  | 0, h => by cases h
  | k + 1, h => by
    unfold rd at h
    split at h
    · rename_i hc
      have e : k = t := Option.some.inj h
      subst e
      exact ⟨by omega, hc.1⟩
    · have := rd_some k h
      exact ⟨by omega, this.2⟩
theorem rd_max {a : Ar} {rp q : Int32} {t : Nat} : ∀ k, t < k → a 9 t = 0 → cq a rp q t ≤ (rd a rp q k).2
  | 0, h, _ => by omega
  | k + 1, h, h0 => by
    unfold rd
    by_cases e : t = k
    · subst e
      split
      · exact Nat.le_refl _
      · rename_i hc
        exact Nat.not_lt.mp (fun z => hc ⟨h0, z⟩)
    · have ih := rd_max (rp := rp) (q := q) k (show t < k by omega) h0
      split
      · rename_i hc; exact Nat.le_of_lt (Nat.lt_of_le_of_lt ih hc.2)
      · exact ih
theorem rd_le {a : Ar} {rp q : Int32} (h8 : cT a ≤ 8) : ∀ k, (rd a rp q k).2 ≤ 8
  | 0 => by simp [rd]
  | k + 1 => by
    unfold rd
    split
    · exact cq_le h8
    · exact rd_le h8 k
theorem rdr_some {a : Ar} {rp : Int32} {q t : Nat} (h : rdr a rp q = some t) : t < cT a ∧ a 9 t = 0 ∧ a 4 q = 0 := by
  unfold rdr at h
  split at h
  · rename_i h0
    exact ⟨(rd_some _ h).1, (rd_some _ h).2, h0⟩
  · cases h
def oI : Option Nat → Int32
  | none => -1
  | some t => Int32.ofNat t
noncomputable def pS (a : Ar) (rp : Int32) : Option Nat → Int32
  | none => 0
  | some t => pc a rp t
theorem bit_sOw {a : Ar} {q : Int32} {u : Nat} (hu : u < 32) : bit (sOw a q) u = (decide (u < cT a) && (decide (a 5 u = q) && decide (a 9 u = 0))) := by rw [sOw, bit_mkS hu]
theorem pop_own {a : Ar} {rp q : Int32} {t : Nat} (g : GC a) (hr : RA a) (ht : t < cT a) (h0 : a 9 t = 0) : pop (pc a rp t &&& sOw a q) = cq a rp q t := by
  have h8 := g.2.1.2
  rw [pop, sumN_ext 16 (n := cT a) (by omega) (fun k h1 h2 => by rw [bit_and, bit_sOw (by omega)]; simp [Nat.not_lt.mpr h1]), cq]
  refine sumN_congr fun k hk => ?_
  rw [bit_and, bit_sOw (by omega)]
  cases hb : bit (pc a rp t) k with
  | false => simp
  | true =>
    have h9 := (pc_af hr ht h8 h0 (by omega) hb).2
    simp [hk, h9]
theorem f1_rides_eq {F : Bl} {a : Ar} {rp : Int32} {q : Nat} (g : GC a) (hr : RA a) (h : FR F a) (hp : PA F a rp) (hq : q < cO a) : f1_rides F (Int32.ofNat q) = some (oI (rdr a rp q)) := by
  have h8 := g.2.1.2
  have h6 := g.1.2
  unfold f1_rides rdr
  rw [chk_h (zI_in (by omega) (by decide)), zI_nat (by omega), h.place hq]
  by_cases hz : a 4 q = 0
  · rw [if_pos hz, if_pos hz, f1_ownOf_eq g h, bnd_s]
    refine loop_seq (body := g1_rides_27 F (sOw a (Int32.ofNat q))) (fun k => (oI (rd a rp (Int32.ofNat q) k).1, Int32.ofNat (rd a rp (Int32.ofNat q) k).2, Int32.ofNat k)) (cT a) (by omega) ?_ ?_
    · intro K k hk
      simp only [g1_rides_27]
      have hl := rd_le (a := a) (rp := rp) (q := Int32.ofNat q) h8 k
      rw [h.nT g, if_on hk (by omega), chk_h (zI_in (by omega) (by decide)), zI_nat (by omega), zI_succ, hp k hk]
      by_cases h9 : a 9 k = 0
      · rw [if_pos h9, bitCount_eq (fun j h1 h2 => by rw [bit_and, bit_sOw h2]; simp [Nat.not_lt.mpr (show cT a ≤ j by omega)]), bnd_s, pop_own g hr hk h9]
        have hc := cq_le (a := a) (rp := rp) (q := Int32.ofNat q) (t := k) h8
        rw [zif_lt (by omega) (by omega)]
        by_cases hlt : (rd a rp (Int32.ofNat q) k).2 < cq a rp (Int32.ofNat q) k
        · rw [if_pos hlt, rd, if_pos ⟨h9, hlt⟩]; rfl
        · rw [if_neg hlt, rd, if_neg (fun z => hlt z.2)]
      · rw [if_neg h9, bitCount_eq (fun j h1 h2 => by rw [bit_and, bit_zero]; rfl), bnd_s]
        have e : pop (0 &&& sOw a (Int32.ofNat q)) = 0 := by
          rw [pop, sumN_ext 16 (n := 0) (by omega) (fun k h1 h2 => by rw [bit_and, bit_zero]; rfl)]; rfl
        rw [e, zif_lt (by omega) (by omega), if_neg (Nat.not_lt_zero _), rd, if_neg (fun z => h9 z.1)]
    · intro K
      simp only [g1_rides_27]
      rw [h.nT g, if_off]
  · rw [if_neg hz, if_neg hz]
    refine loop_seq (body := g1_rides_27 F 0) (fun k => ((-1 : Int32), (0 : Int32), Int32.ofNat k)) (cT a) (by omega) ?_ ?_
    · intro K k hk
      simp only [g1_rides_27]
      rw [h.nT g, if_on hk (by omega), chk_h (zI_in (by omega) (by decide)), zI_succ]
      have e0 : ∀ x : Int32, x &&& 0 = 0 := fun x => bit_ext fun k _ => by rw [bit_and, bit_zero]; simp
      rw [e0, bitCount_eq (fun j _ _ => bit_zero j), bnd_s]
      rfl
    · intro K
      simp only [g1_rides_27]
      rw [h.nT g, if_off]; rfl
/-- the pieces of the first ones -/
noncomputable def sn (a : Ar) (rp : Int32) : Nat → Int32
  | 0 => 0
  | k + 1 => if a 9 k = 0 ∧ bit (sn a rp k) k = false then sn a rp k ||| pc a rp k else sn a rp k
theorem sn_bit {a : Ar} {rp : Int32} (g : GC a) (hr : RA a) {u : Nat} (hu : u < 32) : ∀ k, k ≤ cT a → (bit (sn a rp k) u = true ↔ ∃ t, t < k ∧ a 9 t = 0 ∧ bit (pc a rp t) u = true)
  | 0, _ => by simp [sn, bit_zero]
  | k + 1, hk => by
    have h8 := g.2.1.2
    have ih := sn_bit (rp := rp) g hr hu k (by omega)
    have ihk := sn_bit (rp := rp) g hr (u := k) (by omega) k (by omega)
    have old : ∀ (X : Prop), (∃ t, t < k ∧ a 9 t = 0 ∧ bit (pc a rp t) u = true) → (∃ t, t < k + 1 ∧ a 9 t = 0 ∧ bit (pc a rp t) u = true) := fun _ ⟨t, h1, h2⟩ => ⟨t, by omega, h2⟩
    unfold sn
    by_cases hc : a 9 k = 0 ∧ bit (sn a rp k) k = false
    · rw [if_pos hc, bit_or, Bool.or_eq_true, ih]
      constructor
      · rintro (h | h)
        · exact old True h
        · exact ⟨k, by omega, hc.1, h⟩
      · rintro ⟨t, h1, h2, h3⟩
        by_cases e : t = k
        · subst e; exact Or.inr h3
        · exact Or.inl ⟨t, by omega, h2, h3⟩
    · rw [if_neg hc, ih]
      refine ⟨old True, ?_⟩
      rintro ⟨t, h1, h2, h3⟩
      by_cases e : t = k
      · subst e
        have hb : bit (sn a rp t) t = true := by
          cases hb : bit (sn a rp t) t with
          | true => rfl
          | false => exact absurd ⟨h2, hb⟩ hc
        obtain ⟨t', g1, g2, g3⟩ := ihk.mp hb
        refine ⟨t', g1, g2, ?_⟩
        rw [← pc_eq hr.1 (by omega) (by omega) g3]; exact h3
      · exact ⟨t, by omega, h2, h3⟩
theorem g3_ridden_in {M : Bl} (g : GC M.2.1) {q : Nat} {rp v3 v5 v6 v7 P : Int32} {m : Nat} (hm : m ≤ 8) (K17 : Int32 × Int32 × Int32 × Int32 → Option Int32) :
    loop (g3_riddenBy_81 M (Int32.ofNat q) rp v3 (Int32.ofNat m) v5 v6 v7 P K17) FU ((0 : Int32), (0 : Int32)) = if sumN (cT M.2.1) (fun o => if (bit P o && decide (M.2.1 5 o = Int32.ofNat q)) = true then 1 else 0) ≤ m then K17 (v3, Int32.ofNat m, v5, v7 + 1) else K17 (P, Int32.ofNat (sumN (cT M.2.1) (fun o => if (bit P o && decide (M.2.1 5 o = Int32.ofNat q)) = true then 1 else 0)), v5, v7 + 1) := by
  obtain ⟨-, ⟨hT, h8⟩, -⟩ := g
  refine loop_seq (fun k => (Int32.ofNat (sumN k (fun o => if (bit P o && decide (M.2.1 5 o = Int32.ofNat q)) = true then 1 else 0)), Int32.ofNat k)) (cT M.2.1) (by omega) ?_ ?_
  · intro K k hk
    simp only [g3_riddenBy_81]
    rw [hT, if_on hk (by omega), has_bit (by omega), bnd_s, if_bit, chk_h (zI_in (by omega) (by decide)), zI_nat (by omega), zI_succ]
    simp only [sumN, Int32.ofNat_add]
    cases bit P k with
    | false => rfl
    | true =>
      by_cases h : M.2.1 5 k = Int32.ofNat q
      · simp [h]
      · simp [h]
  · intro K
    simp only [g3_riddenBy_81]
    have hl := sumN_le (f := fun o => if (bit P o && decide (M.2.1 5 o = Int32.ofNat q)) = true then 1 else 0) (B := 1) (cT M.2.1) (fun k _ => by split <;> omega)
    rw [hT, if_off]
    have hle : (Int32.ofNat (sumN (cT M.2.1) (fun o => if (bit P o && decide (M.2.1 5 o = Int32.ofNat q)) = true then 1 else 0)) ≤ Int32.ofNat m) = (sumN (cT M.2.1) (fun o => if (bit P o && decide (M.2.1 5 o = Int32.ofNat q)) = true then 1 else 0) ≤ m) := zI_le (by omega) (by omega)
    simp only [g3_riddenBy_142, hle]
    by_cases hc : sumN (cT M.2.1) (fun o => if (bit P o && decide (M.2.1 5 o = Int32.ofNat q)) = true then 1 else 0) ≤ m
    · simp only [if_pos hc]
    · simp only [if_neg hc]
theorem f3_riddenBy_eq {M : Bl} {rp : Int32} {q : Nat} (g : GC M.2.1) (hr : RA M.2.1) (hq : q < cO M.2.1) : f3_riddenBy M (Int32.ofNat q) rp = some (pS M.2.1 rp (rdr M.2.1 rp q)) := by
  have hT := g.2.1.1
  have h8 := g.2.1.2
  have h6 := g.1.2
  unfold f3_riddenBy rdr
  rw [f3_afloat_eq g, bnd_s]
  by_cases hz : M.2.1 4 q = 0
  · rw [if_pos hz]
    refine loop_seq (body := g3_riddenBy_17 M (Int32.ofNat q) rp (sAf M.2.1)) (fun k => (pS M.2.1 rp (rd M.2.1 rp (Int32.ofNat q) k).1, Int32.ofNat (rd M.2.1 rp (Int32.ofNat q) k).2, sn M.2.1 rp k, Int32.ofNat k)) (cT M.2.1) (by omega) ?_ ?_
    · intro K k hk
      simp only [g3_riddenBy_17]
      have hl := rd_le (a := M.2.1) (rp := rp) (q := Int32.ofNat q) h8 k
      rw [hT, if_on hk (by omega), chk_h (zI_in (by omega) (by decide)), zI_nat (by omega), if_pos hz, has_bit (by omega), bnd_s, if_bit, bit_af (by omega), has_bit (by omega), bnd_s, if_bit, f3_hangsWith_eq g hr.1 (by omega), bnd_s, piece_af hr, zI_succ]
      by_cases h9 : M.2.1 9 k = 0
      · rw [if_pos (by simp [hk, h9])]
        cases hs : bit (sn M.2.1 rp k) k with
        | true =>
          rw [if_pos rfl]
          obtain ⟨t, g1, g2, g3⟩ := (sn_bit g hr (by omega) k (by omega)).mp hs
          have e : cq M.2.1 rp (Int32.ofNat q) k = cq M.2.1 rp (Int32.ofNat q) t := by rw [cq, cq, pc_eq hr.1 (by omega) (by omega) g3]
          have hx := rd_max (rp := rp) (q := Int32.ofNat q) k g1 g2
          rw [rd, if_neg (fun z => by rw [e] at z; omega), sn, if_neg (fun z => by rw [hs] at z; cases z.2)]
        | false =>
          rw [if_neg (by decide), g3_ridden_in g hl]
          have e : sumN (cT M.2.1) (fun o => if (bit (pc M.2.1 rp k) o && decide (M.2.1 5 o = Int32.ofNat q)) = true then 1 else 0) = cq M.2.1 rp (Int32.ofNat q) k := rfl
          rw [e, zI_succ, sn, if_pos (show M.2.1 9 k = 0 ∧ bit (sn M.2.1 rp k) k = false from ⟨h9, hs⟩), rd]
          by_cases hlt : (rd M.2.1 rp (Int32.ofNat q) k).2 < cq M.2.1 rp (Int32.ofNat q) k
          · rw [if_neg (Nat.not_le.mpr hlt), if_pos ⟨h9, hlt⟩]; rfl
          · rw [if_pos (Nat.not_lt.mp hlt), if_neg (fun z => hlt z.2)]
      · rw [if_neg (by simp [h9]), rd, if_neg (fun z => h9 z.1), sn, if_neg (fun z => h9 z.1)]
    · intro K
      simp only [g3_riddenBy_17]
      rw [hT, if_off]
  · rw [if_neg hz]
    refine loop_seq (body := g3_riddenBy_17 M (Int32.ofNat q) rp (sAf M.2.1)) (fun _ => ((0 : Int32), (0 : Int32), (0 : Int32), (0 : Int32))) 0 (by omega) (fun _ k hk => by omega) ?_
    intro K
    simp only [g3_riddenBy_17]
    by_cases hc : M.2.1 1 3 ≤ 0
    · rw [if_pos hc]; rfl
    · rw [if_neg hc, chk_h (zI_in (by omega) (by decide)), zI_nat (by omega), if_neg hz]; rfl
/-! riders, margins -/
noncomputable def rin (a : Ar) (rp P : Int32) (q : Nat) : Bool := match rdr a rp q with
  | none => false
  | some t => bit P t
noncomputable def sRd (a : Ar) (rp P : Int32) : Int32 := sumI (cO a) (fun q => if rin a rp P q = true then a 3 q else 0)
theorem f1_ridersOf_eq {F : Bl} {a : Ar} {rp P : Int32} (g : GC a) (hr : RA a) (h : FR F a) (hp : PA F a rp) : f1_ridersOf F P = some (sRd a rp P) := by
  have h8 := g.2.1.2
  have h6 := g.1.2
  unfold f1_ridersOf sRd
  refine loop_seq (fun k => (sumI k (fun q => if rin a rp P q = true then a 3 q else 0), Int32.ofNat k)) (cO a) (by omega) ?_ ?_
  · intro K k hk
    simp only [g1_ridersOf_4]
    rw [h.nO g, if_on hk (by omega), f1_rides_eq g hr h hp hk, bnd_s, zI_succ]
    simp only [sumI]
    have hwk : rin a rp P k = (match rdr a rp k with | none => false | some t => bit P t) := rfl
    cases hx : rdr a rp k with
    | none =>
      rw [hx] at hwk
      rw [show oI none = -1 from rfl, if_pos rfl, if_neg (by rw [hwk]; exact fun z => by cases z)]
    | some t =>
      rw [hx] at hwk
      have hwk : rin a rp P k = bit P t := hwk
      rw [hwk]
      have ht := (rdr_some hx).1
      rw [show oI (some t) = Int32.ofNat t from rfl, if_neg (fun z => by have := zI_pos (a := t) (by omega); rw [z] at this; exact absurd this (by decide)), has_bit0 (by omega), bnd_s, if_bit, chk_h (zI_in (by omega) (by decide)), zI_nat (by omega), h.mass hk]
      cases bit P t <;> rfl
  · intro K
    simp only [g1_ridersOf_4]
    rw [h.nO g, if_off]
theorem pS_eq {a : Ar} {rp : Int32} {q u : Nat} (g : GC a) (hr : RA a) (hu : u < cT a) : (pS a rp (rdr a rp q) = pc a rp u) ↔ rin a rp (pc a rp u) q = true := by
  have h8 := g.2.1.2
  unfold rin
  cases hx : rdr a rp q with
  | none =>
    constructor
    · intro z
      have := pc_self (a := a) (rp := rp) (t := u) (by omega)
      rw [← z] at this
      rw [show pS a rp none = 0 from rfl, bit_zero] at this
      cases this
    · intro z; cases z
  | some t =>
    have ht := (rdr_some hx).1
    show pc a rp t = pc a rp u ↔ bit (pc a rp u) t = true
    exact ⟨fun z => by rw [← z]; exact pc_self (by omega), fun z => pc_eq hr.1 (by omega) (by omega) z⟩
theorem f3_ridersOf_eq {M : Bl} {rp : Int32} {u : Nat} (g : GC M.2.1) (hr : RA M.2.1) (hu : u < cT M.2.1) : f3_ridersOf M (pc M.2.1 rp u) rp = some (sRd M.2.1 rp (pc M.2.1 rp u)) := by
  have hO := g.1.1
  have h6 := g.1.2
  unfold f3_ridersOf sRd
  refine loop_seq (fun k => (sumI k (fun q => if rin M.2.1 rp (pc M.2.1 rp u) q = true then M.2.1 3 q else 0), Int32.ofNat k)) (cO M.2.1) (by omega) ?_ ?_
  · intro K k hk
    simp only [g3_ridersOf_5]
    rw [hO, if_on hk (by omega), f3_riddenBy_eq g hr hk, bnd_s, zI_succ, chk_h (zI_in (by omega) (by decide)), zI_nat (by omega)]
    simp only [sumI]
    by_cases hx : rin M.2.1 rp (pc M.2.1 rp u) k = true
    · rw [if_pos ((pS_eq g hr hu).mpr hx), if_pos hx]
    · rw [if_neg (fun z => hx ((pS_eq g hr hu).mp z)), if_neg hx]
  · intro K
    simp only [g3_ridersOf_5]
    rw [hO, if_off]
noncomputable def sMg (a : Ar) (rp P : Int32) : Int32 := sFl a P - sWt a P - sRd a rp P
theorem f3_marginOf_eq {M : Bl} {rp : Int32} {u : Nat} (g : GC M.2.1) (hr : RA M.2.1) (hu : u < cT M.2.1) : f3_marginOf M (pc M.2.1 rp u) rp = some (sMg M.2.1 rp (pc M.2.1 rp u)) := by
  unfold f3_marginOf sMg
  rw [f3_floatOf_eq g, bnd_s, f3_weightOf_eq g, bnd_s, f3_ridersOf_eq g hr hu, bnd_s]
/-! what sinks -/
noncomputable def sk (a : Ar) (rp : Int32) : Nat → Int32
  | 0 => 0
  | k + 1 => if a 9 k = 0 ∧ bit (sn a rp k) k = false ∧ sMg a rp (pc a rp k) < 0 then sk a rp k ||| pc a rp k else sk a rp k
noncomputable def sSk (a : Ar) (rp : Int32) : Int32 := sk a rp (cT a)
theorem f3_sinking_eq {M : Bl} {rp : Int32} (g : GC M.2.1) (hr : RA M.2.1) : f3_sinking M rp = some (sSk M.2.1 rp) := by
  have hT := g.2.1.1
  have h8 := g.2.1.2
  unfold f3_sinking sSk
  rw [f3_afloat_eq g, bnd_s]
  refine loop_seq (body := g3_sinking_13 M rp (sAf M.2.1)) (fun k => (sk M.2.1 rp k, sn M.2.1 rp k, Int32.ofNat k)) (cT M.2.1) (by omega) ?_ ?_
  · intro K k hk
    simp only [g3_sinking_13]
    rw [hT, if_on hk (by omega), has_bit (by omega), bnd_s, if_bit, bit_af (by omega), has_bit (by omega), bnd_s, if_bit, f3_hangsWith_eq g hr.1 (by omega), bnd_s, piece_af hr, f3_marginOf_eq g hr hk, bnd_s, zI_succ]
    by_cases h9 : M.2.1 9 k = 0
    · rw [if_pos (by simp [hk, h9])]
      cases hs : bit (sn M.2.1 rp k) k with
      | true => rw [if_pos rfl, sk, if_neg (fun z => by rw [hs] at z; cases z.2.1), sn, if_neg (fun z => by rw [hs] at z; cases z.2)]
      | false =>
        rw [if_neg (by decide), sk, sn, if_pos (show M.2.1 9 k = 0 ∧ bit (sn M.2.1 rp k) k = false from ⟨h9, hs⟩)]
        by_cases hm : 0 ≤ sMg M.2.1 rp (pc M.2.1 rp k)
        · rw [if_pos hm, if_neg (fun z => absurd hm (Int32.not_le.mpr z.2.2)), Int32.or_zero]
        · rw [if_neg hm, if_pos ⟨h9, hs, Int32.not_le.mp hm⟩]
    · rw [if_neg (by simp [h9]), sk, if_neg (fun z => h9 z.1), sn, if_neg (fun z => h9 z.1)]
  · intro K
    simp only [g3_sinking_13]
    rw [hT, if_off]
theorem f1_sinkingBy_eq {F : Bl} {a : Ar} {rp : Int32} (g : GC a) (hr : RA a) (h : FR F a) : f1_sinkingBy F rp = some (sSk a rp, bS F 28 (paV F a rp (cT a))) := by
  have h8 := g.2.1.2
  unfold f1_sinkingBy sSk
  rw [f1_parts_eq g hr.1 h, bnd_s]
  have hs : FR (bS F 28 (paV F a rp (cT a))) a := h.parts
  have hp : PA (bS F 28 (paV F a rp (cT a))) a rp := PA_parts
  generalize bS F 28 (paV F a rp (cT a)) = F' at hs hp
  refine loop_seq (body := g1_sinkingBy_12 F') (fun k => (sk a rp k, sn a rp k, Int32.ofNat k)) (cT a) (by omega) ?_ ?_
  · intro K k hk
    simp only [g1_sinkingBy_12]
    have hin : inB (Int32.ofNat k) 8 = true := zI_in (by omega) (by decide)
    have hkk : (Int32.ofNat k).toNatClampNeg = k := zI_nat (by omega)
    rw [hs.nT g, if_on hk (by omega)]
    simp only [hin, chk_t, hkk, has_bit0 (show k < 32 by omega), bnd_s, if_bit, f1_bearsOf_eq g hs, f1_ridersOf_eq g hr hs hp, zI_succ, hs.state hk, hp k hk]
    by_cases h9 : a 9 k = 0
    · rw [if_pos h9, if_pos h9]
      cases hx : bit (sn a rp k) k with
      | true => rw [if_pos rfl, sk, if_neg (fun z => by rw [hx] at z; cases z.2.1), sn, if_neg (fun z => by rw [hx] at z; cases z.2)]
      | false =>
        rw [if_neg (by decide), sk, sn, if_pos (show a 9 k = 0 ∧ bit (sn a rp k) k = false from ⟨h9, hx⟩)]
        show (if 0 ≤ sMg a rp (pc a rp k) then _ else _) = _
        by_cases hm : 0 ≤ sMg a rp (pc a rp k)
        · rw [if_pos hm, if_neg (fun z => absurd hm (Int32.not_le.mpr z.2.2))]
        · rw [if_neg hm, if_pos ⟨h9, hx, Int32.not_le.mp hm⟩]
    · rw [if_neg h9, sk, if_neg (fun z => h9 z.1), sn, if_neg (fun z => h9 z.1)]
  · intro K
    simp only [g1_sinkingBy_12]
    rw [hs.nT g, if_off]
/-- what sinks is afloat, and a union of pieces -/
theorem sk_bit {a : Ar} {rp : Int32} {u : Nat} : ∀ k, bit (sk a rp k) u = true → ∃ t, t < k ∧ a 9 t = 0 ∧ bit (pc a rp t) u = true
  | 0, h => by rw [sk, bit_zero] at h; cases h
  | k + 1, h => by
    unfold sk at h
    split at h
    · rename_i hc
      rw [bit_or, Bool.or_eq_true] at h
      rcases h with h | h
      · obtain ⟨t, h1, h2⟩ := sk_bit k h; exact ⟨t, by omega, h2⟩
      · exact ⟨k, by omega, hc.1, h⟩
    · obtain ⟨t, h1, h2⟩ := sk_bit k h; exact ⟨t, by omega, h2⟩
theorem sSk_af {a : Ar} {rp : Int32} {u : Nat} (g : GC a) (hr : RA a) (hu : u < 32) (h : bit (sSk a rp) u = true) : u < cT a ∧ a 9 u = 0 := by
  obtain ⟨t, h1, h2, h3⟩ := sk_bit _ h
  exact pc_af hr h1 g.2.1.2 h2 hu h3
theorem sk_clo {a : Ar} {rp : Int32} (hr : RE a) {j : Nat} (hj : j < cR a) (h1 : bit rp j = true) : ∀ k, bit (sk a rp k) (eA a j) = bit (sk a rp k) (eB a j)
  | 0 => by rw [sk, bit_zero, bit_zero]
  | k + 1 => by
    unfold sk
    split
    · rw [bit_or, bit_or, sk_clo hr hj h1 k, pc_clo hr hj h1]
    · exact sk_clo hr hj h1 k
/-- a piece is within what sinks, or apart from it -/
theorem sSk_piece {a : Ar} {rp : Int32} {t u : Nat} (hr : RE a) (hu : u < 32) (h : bit (pc a rp t) u = true) : bit (sSk a rp) t = true → bit (sSk a rp) u = true :=
  fun h1 => pc_min hu h h1 (fun _ hk g => sk_clo hr hk g _)

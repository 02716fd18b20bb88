/-! PLAIN LAW: the game -/
set_option maxRecDepth 100000
def wo (k t : Nat) : Int32 := Int32.ofNat k &&& (((1 : Int32) <<< (Int32.ofNat t &&& 31)) ^^^ (-1 : Int32))
def mn (k t : Nat) : Nat := (wo k t).toNatClampNeg
theorem wo_bit {k t j : Nat} (ht : t < 32) (hj : j < 32) : bit (wo k t) j = (k.testBit j && !decide (j = t)) := by
  unfold wo; rw [bit_and, bit_not _ hj, bit_shl ht hj, bit_nI hj]
theorem wo_nat {k t : Nat} (hk : k < 256) (ht : t < 32) : wo k t = Int32.ofNat (mn k t) ∧ mn k t < 256 := by
  obtain ⟨m, hm, e⟩ := mkS_nat (n := 8) (s := wo k t) (fun j h1 h2 => by
    rw [wo_bit ht h2, Nat.testBit_lt_two_pow (Nat.lt_of_lt_of_le (show k < 2 ^ 8 from hk) (Nat.pow_le_pow_right (by decide) h1))]; rfl)
  have hm : m < 256 := hm
  have e2 : mn k t = m := by unfold mn; rw [e, zI_nat (by omega)]
  rw [e2]; exact ⟨e, hm⟩
theorem mn_dec : ∀ k, k < 256 → ∀ t, t < 8 → bit (Int32.ofNat k) t = true → mn k t < k := by decide +kernel
theorem mn_lt {k t : Nat} (hk : k < 256) (ht : t < 8) (hb : bit (Int32.ofNat k) t = true) : mn k t < k := mn_dec k hk t ht hb
def sbO (n k : Nat) : Prop := (Int32.ofNat k &&& (Int32.ofNat n ^^^ (-1 : Int32))) = 0
theorem sbO_mn {n k t : Nat} (hk : k < 256) (ht : t < 8) (h : sbO n k) : sbO n (mn k t) := by
  obtain ⟨e, hm⟩ := wo_nat hk (show t < 32 by omega)
  unfold sbO
  rw [← e]
  refine bit_ext fun j hj => ?_
  have h1 : bit (Int32.ofNat k &&& (Int32.ofNat n ^^^ (-1 : Int32))) j = false := by unfold sbO at h; rw [h, bit_zero]
  rw [bit_and, bit_nI hj] at h1
  rw [bit_and, wo_bit (by omega) hj, bit_zero]
  cases hx : k.testBit j with
  | false => rfl
  | true => rw [hx, Bool.true_and] at h1; rw [h1, Bool.and_false]
/-- t taken from the set k wins -/
def won (a : Ar) (w : Nat → Int32) (k t : Nat) : Bool := bit (Int32.ofNat k) t && (brn a (wo k t) && decide (w (mn k t) = 0))
theorem won_cg {a : Ar} {w w' : Nat → Int32} {k t : Nat} (h : bit (Int32.ofNat k) t = true → w (mn k t) = w' (mn k t)) : won a w k t = won a w' k t := by
  unfold won
  cases hb : bit (Int32.ofNat k) t with
  | false => rfl
  | true => rw [h hb]
theorem bo_nar (b c : Bool) : vp_nar .boolean (b2 b ||| b2 c) = b2 (b || c) := by cases b <;> cases c <;> decide
theorem bo_nar0 : vp_nar .boolean (0 : Int32) = 0 := by decide
theorem bo_nar1 : vp_nar .boolean (1 : Int32) = 1 := by decide
theorem bA_bA {s : Bl} {f i : Nat} {u v : Int32} : bA (bA s f i u) f i v = bA s f i v := by
  unfold bA
  rw [bS_bS]
  congr 1
  funext j
  simp only [bS, if_true]
  unfold upd
  by_cases e2 : j = i <;> simp [e2]
theorem upX_id (x : Nat → Bl) (j : Nat) : upX x j (x j) = x := by
  funext i; unfold upX; by_cases e : i = j
  · subst e; simp
  · simp [e]
section G
variable {x : Nat → Bl} {M : Bl} {v v1 v2 v3 : Int32}
theorem f0_isWon_eq (hz : ¬ (x 0).1 0 = 0) (g : GR M.2.1) (hf : FR (x 1) M.2.1) {k t : Nat} (hk : k < 256) (ht : t < 8) : f0_isWon x (Int32.ofNat k) (Int32.ofNat t) = some (b2 (won M.2.1 ((x 0).2.1 26) k t)) := by
  obtain ⟨e, hm⟩ := wo_nat hk (show t < 32 by omega)
  have hcf : decide (¬ (x 0).1 0 = 0) = true := decide_eq_true hz
  unfold f0_isWon won
  rw [has_bit0 (by omega), bnd_s, if_bit]
  cases hb : bit (Int32.ofNat k) t with
  | false => rfl
  | true =>
    rw [if_pos rfl, hcf, chk_t, f1_bearsOf_eq g.1 hf, bnd_s]
    have hng := bears_neg g (S := wo k t)
    show (if sFl M.2.1 (wo k t) - sWt M.2.1 (wo k t) < 0 then _ else chk (inB (wo k t) 256) (if (x 0).2.1 26 (mn k t) = 0 then _ else _)) = _
    unfold brn
    by_cases hl : sFl M.2.1 (wo k t) < sWt M.2.1 (wo k t)
    · rw [if_pos (by rw [hng]; exact hl), decide_eq_false (not_not_intro hl)]; rfl
    · rw [if_neg (by rw [hng]; exact hl), decide_eq_true hl, e, chk_h (zI_in hm (by decide))]
      by_cases hw : (x 0).2.1 26 (mn k t) = 0
      · rw [if_pos hw, decide_eq_true hw]; rfl
      · rw [if_neg hw, decide_eq_false hw]; rfl
theorem f3_winningFrom_eq (g : GR M.2.1) {k : Nat} (hk : k < 256) : f3_winningFrom M (Int32.ofNat k) = some (if fsN (won M.2.1 (M.2.1 68) k) (cT M.2.1) < cT M.2.1 then Int32.ofNat (fsN (won M.2.1 (M.2.1 68) k) (cT M.2.1)) else -1) := by
  obtain ⟨hT, h8⟩ := g.1.2.1
  have hs := fsN_spec (won M.2.1 (M.2.1 68) k) (cT M.2.1)
  have hl := fsN_le (won M.2.1 (M.2.1 68) k) (cT M.2.1)
  have body : ∀ (K : Int32 → Option Int32) (t : Nat), t < cT M.2.1 → g3_winningFrom_2 M (Int32.ofNat k) K (Int32.ofNat t) = if won M.2.1 (M.2.1 68) k t = true then some (Int32.ofNat t) else K (Int32.ofNat (t + 1)) := by
    intro K t ht
    obtain ⟨e, hm⟩ := wo_nat hk (show t < 32 by omega)
    simp only [g3_winningFrom_2]
    rw [hT, if_on ht (by omega), has_bit (by omega), bnd_s, if_bit, zI_succ]
    unfold won
    cases hb : bit (Int32.ofNat k) t with
    | false => rfl
    | true =>
      rw [if_pos rfl, f3_isBorne_eq g, bnd_s, if_bit]
      show (if brn M.2.1 (wo k t) = true then chk (inB (wo k t) 256) (if M.2.1 68 (mn k t) = 0 then _ else _) else _) = _
      cases hl : brn M.2.1 (wo k t) with
      | false => rfl
      | true =>
        rw [if_pos rfl, e, chk_h (zI_in hm (by decide))]
        by_cases hw : M.2.1 68 (mn k t) = 0
        · rw [if_pos hw, decide_eq_true hw]; rfl
        · rw [if_neg hw, decide_eq_false hw]; rfl
  unfold f3_winningFrom
  refine loop_seq (fun t => Int32.ofNat t) (fsN (won M.2.1 (M.2.1 68) k) (cT M.2.1)) (by omega) ?_ ?_
  · intro K t ht
    rw [body K t (by omega), hs.1 t ht, if_neg (by decide)]
  · intro K
    by_cases hc : fsN (won M.2.1 (M.2.1 68) k) (cT M.2.1) < cT M.2.1
    · rw [body K _ hc, hs.2 hc, if_pos rfl, if_pos hc]
    · rw [if_neg hc, show fsN (won M.2.1 (M.2.1 68) k) (cT M.2.1) = cT M.2.1 by omega]
      simp only [g3_winningFrom_2]
      rw [hT, if_off]
theorem game_sim (h : RL x M) : Sim x M (f0_game x v1 v2) (f3_game M v1 v2) := by
  have hV := h.1
  unfold f0_game f3_game
  rw [f0_isAfloat_eq hV, f3_isAfloat_eq hV.gc]
  simp only [bnd_s, if_bit]
  cases hk : isAf M.2.1 v1 with
  | false => exact Sim.same h _
  | true =>
    obtain ⟨hz, hv⟩ := hV.of_K (Or.inl rfl) (isAf_K hk)
    have hcf : decide (¬ (x 0).1 0 = 0) = true := decide_eq_true hz
    obtain ⟨hT, h8⟩ := hv.2.1.1.2.1
    obtain ⟨i, hi, rfl⟩ := (isK_iff (by omega)).mp (isAf_K hk)
    simp only [if_true]
    have e0 := f0_in32 v2 0 1
    have e3 := f3_in32 v2 0 1
    change f0_in v2.toInt64 (0 : Int64) (1 : Int64) = _ at e0
    change f3_in v2.toInt64 (0 : Int64) (1 : Int64) = _ at e3
    rw [e0, e3, bnd_s, bnd_s, if_bit, if_bit]
    cases hc : (decide (0 ≤ v2) && decide (v2 ≤ 1)) with
    | false => exact Sim.same h _
    | true =>
      simp only [if_true]
      rw [hcf, chk_t, f1_pieceOf_eq hv.2.1 hv.1 (by omega), f3_pieceOf_eq hv.2.1 (by omega), bnd_s, bnd_s]
      obtain ⟨n, hn, en⟩ : ∃ m : Nat, m < 2 ^ 8 ∧ pc M.2.1 (sRp M.2.1) i = Int32.ofNat m := by
        refine mkS_nat (fun k h1 h2 => ?_)
        cases hb : bit (pc M.2.1 (sRp M.2.1) i) k with
        | false => rfl
        | true => have := pc_lt h2 hb; omega
      have hn : n < 256 := hn
      rw [en]
      have hmx : ∀ n', sbO n' n' := fun n' => by
        unfold sbO
        refine bit_ext fun j hj => ?_
        rw [bit_and, bit_not _ hj, bit_zero]
        cases bit (Int32.ofNat n') j <;> rfl
      refine Sim.ofBo (loop_sim (fun a b => ∃ k, k ≤ n + 1 ∧ a.2 = Int32.ofNat k ∧ b.2 = Int32.ofNat k ∧ (∃ w, a.1 = upX x 0 (bS (x 0) 26 w)) ∧ (∃ w, b.1 = bS M 68 w) ∧ ∀ m, m < k → sbO n m → (a.1 0).2.1 26 m = b.1.2.1 68 m ∧ b.1.2.1 68 m = b2 (decide (fsN (won M.2.1 (b.1.2.1 68) m) (cT M.2.1) < cT M.2.1))) (fun b => 257 - b.2.toNatClampNeg) _ ?_ (s1 := (x, (0 : Int32))) (s2 := (M, (0 : Int32))) ⟨0, by omega, rfl, rfl, ⟨(x 0).2.1 26, by (try dsimp only); rw [bS_self, upX_id]⟩, ⟨M.2.1 68, by (try dsimp only); rw [bS_self]⟩, fun m hm => by omega⟩ (by show 257 - _ < _; omega))
      rintro K1 K2 ⟨x1, w1⟩ ⟨M1, w2⟩ ⟨k, hk1, ew1, ew2, ⟨wx, ex⟩, ⟨wm, em⟩, hinv⟩ hK
      dsimp only at ew1 ew2 ex em hinv
      subst ew1 ew2
      have kx : Kx x x1 := by
        rw [ex]
        refine ⟨fun f hf => by rw [upX_self]; rfl, fun f hf => ?_, fun j hj => upX_ne (by intro e; subst e; revert hj; decide)⟩
        rw [upX_self]
        have : ¬ f = 26 := by intro e; subst e; revert hf; decide
        simp [bS, this]
      have km : Fm [68] [] [] M M1 := by rw [em]; exact Fm.bs (by decide)
      have x11 : x1 1 = x 1 := by rw [ex]; exact upX_ne (by decide)
      have hz1 : ¬ (x1 0).1 0 = 0 := by rw [kx.1 0 (by decide)]; exact hz
      have hcf1 : decide (¬ (x1 0).1 0 = 0) = true := decide_eq_true hz1
      have hag : AG M1.2.1 M.2.1 := ⟨fun i _ => km.sc i (by simp), fun i _ => by rw [km.arr 2, km.arr 3, km.arr 4, km.arr 14, km.arr 15, km.arr 16, km.arr 17, km.arr 18]; exact ⟨rfl, rfl, rfl, rfl, rfl, rfl, rfl, rfl⟩, fun i _ => by rw [km.arr 5, km.arr 6, km.arr 7, km.arr 8, km.arr 9, km.arr 10]; exact ⟨rfl, rfl, rfl, rfl, rfl, rfl⟩, fun i _ => by rw [km.arr 11, km.arr 12, km.arr 13]; exact ⟨rfl, rfl, rfl⟩⟩
      have g1 : GR M1.2.1 := hv.2.1.congr hag
      have cT1 : cT M1.2.1 = cT M.2.1 := hag.eT
      have hbrn : ∀ S, brn M1.2.1 S = brn M.2.1 S := fun S => by
        unfold brn sFl sWt; rw [cT1, km.arr 7, km.arr 6]
      have hwon : ∀ w m t, won M1.2.1 w m t = won M.2.1 w m t := fun w m t => by unfold won; rw [hbrn]
      have hfr : FR (x1 1) M1.2.1 := by rw [x11]; exact hv.1.congr hag hv.2.1.1
      have fin : ∀ r : Int32, Bo (fun (a : Int32 × (Nat → Bl)) (b : Int32 × Bl) => a.1 = b.1 ∧ RL a.2 b.2 ∧ Kx x a.2 ∧ Km M b.2) (some (r, x1)) (some (r, M1)) := fun r => by
        have kM : Km M M1 := Km.of km
        refine Bo.some ⟨rfl, h.keep kx kM (Or.inr ⟨hz1, ?_⟩), kx, kM⟩
        show RVa (x1 1) M1.2.1 (M1.1 55)
        rw [x11, km.fld 55]
        exact hv.congr hag (fun i _ => by rw [km.arr 53]) rfl
      simp only [g0_game_32, g3_game_29]
      rw [zif_lt (by omega) (by omega), zif_lt (by omega) (by omega)]
      by_cases hend : n < k
      · rw [if_pos hend, if_pos hend]
        have hin : inB (Int32.ofNat n) 256 = true := zI_in hn (by decide)
        have hkk : (Int32.ofNat n).toNatClampNeg = n := zI_nat (by omega)
        obtain ⟨q1, q2⟩ := hinv n hend (hmx n)
        rw [hin, chk_t, chk_t, chk_t, hkk, q1]
        by_cases h20 : v2 = 0
        · rw [if_pos h20, if_pos h20]
          by_cases hw : M1.2.1 68 n = 0
          · rw [if_pos hw, if_pos hw]; exact fin _
          · rw [if_neg hw, if_neg hw]; exact fin _
        · rw [if_neg h20, if_neg h20]
          have hwx : ∀ t, t < cT M.2.1 → won M1.2.1 ((x1 0).2.1 26) n t = won M.2.1 (M1.2.1 68) n t := fun t ht => by
            rw [hwon]
            refine won_cg (fun hb => ?_)
            have := mn_lt hn (show t < 8 by omega) hb
            exact (hinv _ (by omega) (sbO_mn hn (by omega) (hmx n))).1
          have hloop : loop (g0_game_122 x1 (Int32.ofNat n)) FU (0 : Int32) = some ((if fsN (won M.2.1 (M1.2.1 68) n) (cT M.2.1) < cT M.2.1 then Int32.ofNat (fsN (won M.2.1 (M1.2.1 68) n) (cT M.2.1)) else -2), x1) := by
            have hs := fsN_spec (won M.2.1 (M1.2.1 68) n) (cT M.2.1)
            have hl := fsN_le (won M.2.1 (M1.2.1 68) n) (cT M.2.1)
            refine loop_seq (fun t => Int32.ofNat t) (fsN (won M.2.1 (M1.2.1 68) n) (cT M.2.1)) (by omega) ?_ ?_
            · intro K t ht
              simp only [g0_game_122]
              rw [hcf1, chk_t, hfr.nT g1.1, cT1, if_on (show t < cT M.2.1 by omega) (by omega), f0_isWon_eq hz1 g1 hfr hn (by omega), bnd_s, if_bit, hwx t (by omega), hs.1 t ht, if_neg (by decide), zI_succ]
            · intro K
              simp only [g0_game_122]
              by_cases hc : fsN (won M.2.1 (M1.2.1 68) n) (cT M.2.1) < cT M.2.1
              · rw [hcf1, chk_t, hfr.nT g1.1, cT1, if_on hc (by omega), f0_isWon_eq hz1 g1 hfr hn (by omega), bnd_s, if_bit, hwx _ hc, hs.2 hc, if_pos rfl, if_pos hc]
              · rw [if_neg hc, show fsN (won M.2.1 (M1.2.1 68) n) (cT M.2.1) = cT M.2.1 by omega, hcf1, chk_t, hfr.nT g1.1, cT1, if_off]
          have hfc : fsN (won M1.2.1 (M1.2.1 68) n) (cT M.2.1) = fsN (won M.2.1 (M1.2.1 68) n) (cT M.2.1) := fsN_congr _ (fun t _ => hwon _ _ _)
          rw [hloop, f3_winningFrom_eq g1 hn, bnd_s, cT1, hfc, q2]
          by_cases hc : fsN (won M.2.1 (M1.2.1 68) n) (cT M.2.1) < cT M.2.1
          · rw [if_pos hc, decide_eq_true hc, if_neg (show ¬ b2 true = 0 by decide), if_pos hc]; exact fin _
          · rw [if_neg hc, decide_eq_false hc, if_pos (show b2 false = 0 from rfl)]; exact fin _
      · rw [if_neg hend, if_neg hend]
        have hk256 : k < 256 := by omega
        have hin : inB (Int32.ofNat k) 256 = true := zI_in hk256 (by decide)
        have hkk : (Int32.ofNat k).toNatClampNeg = k := zI_nat (by omega)
        rw [hin, chk_t, hkk, bo_nar0]
        -- the flow's step ends at K1
        have hstep0 : loop (g0_game_49 v2 (Int32.ofNat n) (Int32.ofNat k) K1) FU (upX x1 0 (bA (x1 0) 26 k (0 : Int32)), (0 : Int32)) = K1 (upX x1 0 (bA (x1 0) 26 k (if (Int32.ofNat k &&& (Int32.ofNat n ^^^ (-1 : Int32))) = 0 then b2 (decide (fsN (won M.2.1 (M1.2.1 68) k) (cT M.2.1) < cT M.2.1)) else 0)), Int32.ofNat (k + 1)) := by
          have hzy : ∀ u, ¬ ((upX x1 0 (bA (x1 0) 26 k u)) 0).1 0 = 0 := fun u => by rw [upX_self]; exact hz1
          have y1 : ∀ u, (upX x1 0 (bA (x1 0) 26 k u)) 1 = x1 1 := fun u => upX_ne (by decide)
          by_cases hsb : sbO n k
          · rw [if_pos (show (Int32.ofNat k &&& (Int32.ofNat n ^^^ (-1 : Int32))) = 0 from hsb)]
            refine loop_seq (fun t => (upX x1 0 (bA (x1 0) 26 k (b2 (decide (fsN (won M.2.1 (M1.2.1 68) k) t < t)))), Int32.ofNat t)) (cT M.2.1) (by omega) ?_ ?_
            · intro K t ht
              simp only [g0_game_49]
              have hsb' : (Int32.ofNat k &&& (Int32.ofNat n ^^^ (-1 : Int32))) = 0 := hsb
              have hfy : FR ((upX x1 0 (bA (x1 0) 26 k (b2 (decide (fsN (won M.2.1 (M1.2.1 68) k) t < t))))) 1) M1.2.1 := by rw [y1]; exact hfr
              rw [chk_h (decide_eq_true (hzy _)), hfy.nT g1.1, cT1, if_on ht (by omega), if_pos hsb', hin, chk_t, f0_isWon_eq (hzy _) g1 hfy hk256 (by omega), bnd_s, chk_t, hkk, upX_upX, upX_self, bA_bA, zI_succ]
              have ebv : (bA (x1 0) 26 k (b2 (decide (fsN (won M.2.1 (M1.2.1 68) k) t < t)))).2.1 26 k = b2 (decide (fsN (won M.2.1 (M1.2.1 68) k) t < t)) := by simp [bA, bS, upd]
              have ewn : won M1.2.1 ((bA (x1 0) 26 k (b2 (decide (fsN (won M.2.1 (M1.2.1 68) k) t < t)))).2.1 26) k t = won M.2.1 (M1.2.1 68) k t := by
                rw [hwon]
                refine won_cg (fun hb => ?_)
                have hlt := mn_lt hk256 (show t < 8 by omega) hb
                rw [← (hinv _ hlt (sbO_mn hk256 (by omega) hsb)).1]
                have : ¬ mn k t = k := by omega
                simp [bA, bS, upd, this]
              rw [ebv, ewn, bo_nar]
              have ed : (decide (fsN (won M.2.1 (M1.2.1 68) k) t < t) || won M.2.1 (M1.2.1 68) k t) = decide (fsN (won M.2.1 (M1.2.1 68) k) (t + 1) < t + 1) := by
                rw [Bool.eq_iff_iff, Bool.or_eq_true, decide_eq_true_eq, decide_eq_true_eq, fsN_ex, fsN_ex]
                constructor
                · rintro (⟨j, hj, hp⟩ | hp)
                  · exact ⟨j, by omega, hp⟩
                  · exact ⟨t, by omega, hp⟩
                · rintro ⟨j, hj, hp⟩
                  by_cases e : j = t
                  · subst e; exact Or.inr hp
                  · exact Or.inl ⟨j, by omega, hp⟩
              rw [ed]
            · intro K
              simp only [g0_game_49]
              have hfy : FR ((upX x1 0 (bA (x1 0) 26 k (b2 (decide (fsN (won M.2.1 (M1.2.1 68) k) (cT M.2.1) < cT M.2.1))))) 1) M1.2.1 := by rw [y1]; exact hfr
              rw [chk_h (decide_eq_true (hzy _)), hfy.nT g1.1, cT1, if_off, zI_succ]
          · rw [if_neg (show ¬ (Int32.ofNat k &&& (Int32.ofNat n ^^^ (-1 : Int32))) = 0 from hsb)]
            have hsb' : ¬ (Int32.ofNat k &&& (Int32.ofNat n ^^^ (-1 : Int32))) = 0 := hsb
            refine loop_seq (body := g0_game_49 v2 (Int32.ofNat n) (Int32.ofNat k) K1) (fun _ => (upX x1 0 (bA (x1 0) 26 k (0 : Int32)), (0 : Int32))) 0 (by omega) (fun K t ht => by omega) ?_
            intro K
            simp only [g0_game_49]
            rw [chk_h (decide_eq_true (hzy _)), if_neg hsb', ite_self, zI_succ]
        rw [hstep0]
        have hx' : ∀ u, ∃ w, upX x1 0 (bA (x1 0) 26 k u) = upX x 0 (bS (x 0) 26 w) := fun u => ⟨upd wx k u, by
          rw [ex, upX_upX, upX_self]
          unfold bA; rw [bS_bS]
          congr 2⟩
        have hmeas : 257 - (Int32.ofNat (k + 1)).toNatClampNeg < 257 - (Int32.ofNat k).toNatClampNeg := by
          rw [zI_nat (by omega), zI_nat (by omega)]; omega
        by_cases hsb : sbO n k
        · have hsb' : (Int32.ofNat k &&& (Int32.ofNat n ^^^ (-1 : Int32))) = 0 := hsb
          have hfc : fsN (won M1.2.1 (M1.2.1 68) k) (cT M.2.1) = fsN (won M.2.1 (M1.2.1 68) k) (cT M.2.1) := fsN_congr _ (fun t _ => hwon _ _ _)
          rw [if_pos hsb', if_pos hsb', f3_winningFrom_eq g1 hk256, bnd_s, cT1, hfc, bo_nar1, zI_succ]
          have hstep3 : ∀ q : Bool, q = decide (fsN (won M.2.1 (M1.2.1 68) k) (cT M.2.1) < cT M.2.1) → Bo (fun a b => a.1 = b.1 ∧ RL a.2 b.2 ∧ Kx x a.2 ∧ Km M b.2) (K1 (upX x1 0 (bA (x1 0) 26 k (b2 q)), Int32.ofNat (k + 1))) (K2 (bA M1 68 k (b2 q), Int32.ofNat (k + 1))) := by
            intro q hq
            refine hK _ _ ⟨k + 1, by omega, rfl, rfl, hx' _, ⟨upd wm k (b2 q), ?_⟩, fun m hm hsm => ?_⟩ hmeas
            · (try dsimp only)
              rw [em]; unfold bA; rw [bS_bS]; congr 1
            · (try dsimp only)
              have e68 : (bA M1 68 k (b2 q)).2.1 68 = upd (M1.2.1 68) k (b2 q) := by simp [bA, bS]
              have e26 : ((upX x1 0 (bA (x1 0) 26 k (b2 q))) 0).2.1 26 = upd ((x1 0).2.1 26) k (b2 q) := by rw [upX_self]; simp [bA, bS]
              have hfm : fsN (won M.2.1 (upd (M1.2.1 68) k (b2 q)) m) (cT M.2.1) = fsN (won M.2.1 (M1.2.1 68) m) (cT M.2.1) := fsN_congr _ (fun t ht => won_cg (fun hb => by
                have := mn_lt (show m < 256 by omega) (show t < 8 by omega) hb
                have hne : ¬ mn m t = k := by omega
                simp [upd, hne]))
              rw [e68, e26, hfm]
              unfold upd
              by_cases e : m = k
              · subst e; rw [if_pos rfl, if_pos rfl, hq]; exact ⟨rfl, rfl⟩
              · rw [if_neg e, if_neg e]; exact hinv m (by omega) hsm
          by_cases hc : fsN (won M.2.1 (M1.2.1 68) k) (cT M.2.1) < cT M.2.1
          · rw [if_pos hc, if_neg (show ¬ Int32.ofNat (fsN (won M.2.1 (M1.2.1 68) k) (cT M.2.1)) = -1 from fun z => by
              have := congrArg Int32.toInt z
              rw [zI_int (by omega)] at this
              have e : Int32.toInt (-1) = -1 := rfl
              omega), decide_eq_true hc]
            exact hstep3 true (decide_eq_true hc).symm
          · rw [if_neg hc, if_pos rfl, decide_eq_false hc]
            exact hstep3 false (decide_eq_false hc).symm
        · have hsb' : ¬ (Int32.ofNat k &&& (Int32.ofNat n ^^^ (-1 : Int32))) = 0 := hsb
          rw [if_neg hsb', if_neg hsb', zI_succ]
          refine hK _ _ ⟨k + 1, by omega, rfl, rfl, hx' _, ⟨wm, em⟩, fun m hm hsm => ?_⟩ hmeas
          have hne : ¬ m = k := fun z => hsb (z ▸ hsm)
          have e26 : ((upX x1 0 (bA (x1 0) 26 k (0 : Int32))) 0).2.1 26 m = (x1 0).2.1 26 m := by rw [upX_self]; simp [bA, bS, upd, hne]
          (try dsimp only)
          rw [e26]; exact hinv m (by omega) hsm
end G

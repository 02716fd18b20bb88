/-! PLAIN LAW: locks, the search; the raft's -/
set_option maxRecDepth 100000
theorem fdN_last {S : Type} {f : Nat → S → S} : ∀ (c t : Nat) (s : S), fdN f t (c + 1) s = f (t + c) (fdN f t c s)
  | 0, _, _ => rfl
  | c + 1, t, s => by
    show fdN f (t + 1) (c + 1) (f t s) = f (t + (c + 1)) (fdN f (t + 1) c (f t s))
    rw [fdN_last c (t + 1) (f t s), show t + 1 + c = t + (c + 1) by omega]
def mxL (u kk : Nat) : Nat := if u < kk + 1 then kk + 1 else u
def prL (used : Nat) (S : Int32 × (Nat → Nat)) : Bool := decide (¬ S.1 = -1) && decide (S.1 ≤ Int32.ofNat used)
/-- weights one after another: to each lock that has room, or a new one -/
def goL (room : Int32) : List Int32 → Nat → (Nat → Nat) → (Nat → Int32) → Nat → Int32 × (Nat → Nat) → Int32 × (Nat → Nat)
  | [], _, asg, _, used, S => if prL used S = true then S else (Int32.ofNat used, asg)
  | w :: ws, k, asg, L, used, S => if prL used S = true then S else fdN (fun kk S => if L kk + w ≤ room then goL room ws (k + 1) (upN asg k kk) (upd L kk (L kk + w)) (mxL used kk) S else S) 0 (used + 1) S
theorem goL_pr {room : Int32} {ws : List Int32} {k used : Nat} {asg : Nat → Nat} {L : Nat → Int32} {S : Int32 × (Nat → Nat)} (h : prL used S = true) : goL room ws k asg L used S = S := by
  cases ws with
  | nil => unfold goL; rw [if_pos h]
  | cons w ws => unfold goL; rw [if_pos h]
/-- weights of those with p from t on -/
def wlL (w : Nat → Int32) (p : Nat → Bool) : Nat → Nat → List Int32
  | 0, _ => []
  | d + 1, t => if p t = true then w t :: wlL w p d (t + 1) else wlL w p d (t + 1)
theorem cntB_s {p : Nat → Bool} {n : Nat} : cntB (n + 1) p = cntB n p + (if p n = true then 1 else 0) := rfl
section R
variable {x0 : Nat → Bl}
def FrL (x0 y : Nat → Bl) : Prop := (∀ f, f ≠ 24 → (y 0).1 f = (x0 0).1 f) ∧ (∀ f, f ≠ 21 → f ≠ 22 → f ≠ 23 → (y 0).2.1 f = (x0 0).2.1 f) ∧ ∀ j, j ≠ 0 → y j = x0 j
theorem FrL.refl : FrL x0 x0 := ⟨fun _ _ => rfl, fun _ _ _ _ => rfl, fun _ _ => rfl⟩
def lkV (p : Nat → Bool) (asg : Nat → Nat) (t : Nat) : Int32 := if p t = true then Int32.ofNat (asg (cntB t p)) else -1
def LkO (y : Nat → Bl) (p : Nat → Bool) (t0 : Nat) (asg : Nat → Nat) : Prop := ∀ t, t < t0 → (y 0).2.1 21 t = lkV p asg t
def LdO (y : Nat → Bl) (L : Nat → Int32) (used : Nat) : Prop := ∀ j, j < used → (y 0).2.1 23 j = L j
def BsO (y : Nat → Bl) (p : Nat → Bool) (T : Nat) (S : Int32 × (Nat → Nat)) : Prop := (y 0).1 24 = S.1 ∧ (¬ S.1 = -1 → ∀ t, t < T → (y 0).2.1 22 t = lkV p S.2 t)
theorem lkV_up {p : Nat → Bool} {asg : Nat → Nat} {t t0 kk : Nat} (h : t < t0) : lkV p (upN asg (cntB t0 p) kk) t = lkV p asg t := by
  unfold lkV
  by_cases c : p t = true
  · rw [if_pos c, if_pos c]
    have h1 : cntB (t + 1) p ≤ cntB t0 p := cntB_mono (by omega)
    rw [cntB_s, if_pos c] at h1
    unfold upN; rw [if_neg (by omega)]
  · rw [if_neg c, if_neg c]
theorem LkO.up {y : Nat → Bl} {p : Nat → Bool} {t0 kk : Nat} {asg : Nat → Nat} : LkO y p t0 (upN asg (cntB t0 p) kk) ↔ LkO y p t0 asg :=
  ⟨fun h t ht => by rw [h t ht, lkV_up ht], fun h t ht => by rw [h t ht, lkV_up ht]⟩
theorem tL_eq {p : Nat → Bool} {w : Nat → Int32} {T : Nat} {room : Int32} (hz : ¬ (x0 0).1 0 = 0) (hnT : (x0 1).1 2 = Int32.ofNat T) (hT8 : T ≤ 8) (hw : ∀ t, t < T → (x0 1).2.1 13 t = w t) (haf : ∀ (y : Nat → Bl) (t : Nat), FrL x0 y → t < T → f0_isAfloat y (Int32.ofNat t) = some (b2 (p t))) : ∀ (d fuel t0 : Nat) (asg : Nat → Nat) (L : Nat → Int32) (used : Nat) (S : Int32 × (Nat → Nat)) (y : Nat → Bl), d < fuel → t0 + d = T → used ≤ cntB t0 p → (∀ j, used ≤ j → L j = 0) → FrL x0 y → LkO y p t0 asg → LdO y L used → BsO y p T S → ∃ y', f0_triesLocks fuel y (Int32.ofNat t0) (Int32.ofNat used) room = some y' ∧ FrL x0 y' ∧ LkO y' p t0 asg ∧ LdO y' L used ∧ BsO y' p T (goL room (wlL w p d t0) (cntB t0 p) asg L used S) := by
  intro d
  induction d with
  | zero =>
    intro fuel t0 asg L used S y hf ht hu hL hF hk hd hb
    match fuel, hf with
    | fuel + 1, _ =>
      have e : t0 = T := by omega
      subst e
      have hcf : decide (¬ (y 0).1 0 = 0) = true := by rw [hF.1 0 (by decide)]; exact decide_eq_true hz
      show ∃ y', b0_triesLocks (f0_triesLocks fuel) y (Int32.ofNat t0) (Int32.ofNat used) room = some y' ∧ _
      have e17 : ∃ y', g0_triesLocks_17 (f0_triesLocks fuel) y (Int32.ofNat t0) (Int32.ofNat used) room = some y' ∧ FrL x0 y' ∧ LkO y' p t0 asg ∧ LdO y' L used ∧ BsO y' p t0 (Int32.ofNat used, asg) := by
        unfold g0_triesLocks_17
        rw [chk_h hcf, hF.2.2 1 (by decide), hnT, if_pos rfl, ltv_s, upX_upX, upX_self]
        refine ⟨_, rfl, ⟨fun f h1 => ?_, fun f h1 h2 h3 => ?_, fun j hj => ?_⟩, fun t ht => ?_, fun j hj => ?_, ?_, fun _ t ht => ?_⟩
        · rw [upX_self, ← hF.1 f h1]; simp [bI, bS, h1]
        · rw [upX_self, ← hF.2.1 f h1 h2 h3]; simp [bI, bS, h2]
        · rw [upX_ne hj]; exact hF.2.2 j hj
        · rw [upX_self, ← hk t ht]; simp [bI, bS]
        · rw [upX_self, ← hd j hj]; simp [bI, bS]
        · rw [upX_self]; simp [bI, bS]
        · rw [upX_self, ← hk t ht]
          have h8 : t < 8 := by omega
          simp [bI, bS, va_cpy, h8]
      unfold b0_triesLocks
      rw [hb.1]
      show ∃ y', _ ∧ _ ∧ _ ∧ _ ∧ BsO y' p t0 (if prL used S = true then S else (Int32.ofNat used, asg))
      unfold prL
      by_cases c1 : S.1 = -1
      · rw [if_pos c1, decide_eq_false (fun z => z c1), Bool.false_and, if_neg (by decide)]; exact e17
      · rw [if_neg c1, decide_eq_true c1, Bool.true_and]
        by_cases c2 : Int32.ofNat used < S.1
        · rw [if_pos c2, decide_eq_false (Int32.not_le.mpr c2), if_neg (by decide)]; exact e17
        · rw [if_neg c2, decide_eq_true (Int32.not_lt.mp c2), if_pos rfl]
          exact ⟨y, rfl, hF, hk, hd, hb⟩
  | succ d ih =>
    intro fuel t0 asg L used S y hf ht hu hL hF hk hd hb
    match fuel, hf with
    | fuel + 1, hf =>
      have hcf : ∀ y, FrL x0 y → decide (¬ (y 0).1 0 = 0) = true := fun y hF => by rw [hF.1 0 (by decide)]; exact decide_eq_true hz
      have hct := cntB_le (p := p) t0
      have htn : inB (Int32.ofNat t0) 8 = true := zI_in (by omega) (by decide)
      have nt : (Int32.ofNat t0).toNatClampNeg = t0 := zI_nat (by omega)
      show ∃ y', b0_triesLocks (f0_triesLocks fuel) y (Int32.ofNat t0) (Int32.ofNat used) room = some y' ∧ _
      have e17 : prL used S = false → ∃ y', g0_triesLocks_17 (f0_triesLocks fuel) y (Int32.ofNat t0) (Int32.ofNat used) room = some y' ∧ FrL x0 y' ∧ LkO y' p t0 asg ∧ LdO y' L used ∧ BsO y' p T (goL room (wlL w p (d + 1) t0) (cntB t0 p) asg L used S) := by
        intro hpr
        unfold g0_triesLocks_17
        rw [chk_h (hcf y hF), hF.2.2 1 (by decide), hnT, zif_eq (by omega) (by omega), if_neg (by omega), chk_h htn, nt]
        have hF1 : FrL x0 (upX y 0 (bA (y 0) 21 t0 (-1))) := by
          refine ⟨fun f h1 => by rw [upX_self]; exact hF.1 f h1, fun f h1 h2 h3 => ?_, fun j hj => by rw [upX_ne hj]; exact hF.2.2 j hj⟩
          rw [upX_self, ← hF.2.1 f h1 h2 h3]; simp [bA, bS, h1]
        have hk1 : LkO (upX y 0 (bA (y 0) 21 t0 (-1))) p t0 asg := fun t ht => by
          rw [upX_self, ← hk t ht]
          show upd ((y 0).2.1 21) t0 (-1) t = _
          unfold upd; rw [if_neg (by omega)]
        have h1t : ((upX y 0 (bA (y 0) 21 t0 (-1))) 0).2.1 21 t0 = -1 := by rw [upX_self]; simp [bA, bS, upd]
        have hd1 : LdO (upX y 0 (bA (y 0) 21 t0 (-1))) L used := fun j hj => by rw [upX_self, ← hd j hj]; simp [bA, bS]
        have hb1 : BsO (upX y 0 (bA (y 0) 21 t0 (-1))) p T S := ⟨by rw [upX_self]; exact hb.1, fun h0 t ht => by rw [upX_self, ← hb.2 h0 t ht]; simp [bA, bS]⟩
        generalize upX y 0 (bA (y 0) 21 t0 (-1)) = y1 at hF1 hk1 h1t hd1 hb1 ⊢
        rw [haf y1 t0 hF1 (by omega), bnd_s, if_bit]
        by_cases hp : p t0 = true
        · rw [if_pos hp]
          have hcs : cntB (t0 + 1) p = cntB t0 p + 1 := by rw [cntB_s, if_pos hp]
          have hwl : wlL w p (d + 1) t0 = w t0 :: wlL w p d (t0 + 1) := by
            show (if p t0 = true then _ else _) = _
            rw [if_pos hp]
          rw [hwl]
          have hgo : goL room (w t0 :: wlL w p d (t0 + 1)) (cntB t0 p) asg L used S = fdN (fun kk S => if L kk + w t0 ≤ room then goL room (wlL w p d (t0 + 1)) (cntB t0 p + 1) (upN asg (cntB t0 p) kk) (upd L kk (L kk + w t0)) (mxL used kk) S else S) 0 (used + 1) S := by
            show (if prL used S = true then S else _) = _
            rw [hpr]; rfl
          rw [hgo]
          refine loop_post (fun s : (Nat → Bl) × Int32 => ∃ kk S1, s.2 = Int32.ofNat kk ∧ kk ≤ used + 1 ∧ FrL x0 s.1 ∧ LkO s.1 p t0 asg ∧ LdO s.1 L used ∧ BsO s.1 p T S1 ∧ fdN (fun kk S => if L kk + w t0 ≤ room then goL room (wlL w p d (t0 + 1)) (cntB t0 p + 1) (upN asg (cntB t0 p) kk) (upd L kk (L kk + w t0)) (mxL used kk) S else S) kk (used + 1 - kk) S1 = fdN (fun kk S => if L kk + w t0 ≤ room then goL room (wlL w p d (t0 + 1)) (cntB t0 p + 1) (upN asg (cntB t0 p) kk) (upd L kk (L kk + w t0)) (mxL used kk) S else S) 0 (used + 1) S) (fun s => 100 - s.2.toNatClampNeg) _ ?_ ⟨0, S, rfl, Nat.zero_le _, hF1, hk1, hd1, hb1, rfl⟩ (by omega)
          clear hF1 hk1 h1t hd1 hb1 y1
          rintro K ⟨y1, v4⟩ ⟨kk, S1, hv, hkk, hF1, hk1, hd1, hb1, hfd⟩ IH
          dsimp only at hv hF1 hk1 hd1 hb1
          subst hv
          simp only [g0_triesLocks_77]
          rw [zif_lt (by omega) (by omega)]
          by_cases hend : used < kk
          · rw [if_pos hend]
            rw [show used + 1 - kk = 0 by omega] at hfd
            exact ⟨y1, rfl, hF1, hk1, hd1, by rw [← hfd]; exact hb1⟩
          · rw [if_neg hend, show (8 : Int32) = Int32.ofNat 8 from rfl, zif_le (by omega) (by omega), if_neg (by omega), zif_eq (by omega) (by omega)]
            rw [show used + 1 - kk = (used + 1 - (kk + 1)) + 1 by omega] at hfd
            have hfd2 : fdN (fun kk S => if L kk + w t0 ≤ room then goL room (wlL w p d (t0 + 1)) (cntB t0 p + 1) (upN asg (cntB t0 p) kk) (upd L kk (L kk + w t0)) (mxL used kk) S else S) (kk + 1) (used + 1 - (kk + 1)) (if L kk + w t0 ≤ room then goL room (wlL w p d (t0 + 1)) (cntB t0 p + 1) (upN asg (cntB t0 p) kk) (upd L kk (L kk + w t0)) (mxL used kk) S1 else S1) = fdN (fun kk S => if L kk + w t0 ≤ room then goL room (wlL w p d (t0 + 1)) (cntB t0 p + 1) (upN asg (cntB t0 p) kk) (upd L kk (L kk + w t0)) (mxL used kk) S else S) 0 (used + 1) S := hfd
            have hkn : inB (Int32.ofNat kk) 8 = true := zI_in (by omega) (by decide)
            have nk : (Int32.ofNat kk).toNatClampNeg = kk := zI_nat (by omega)
            -- the step, from a state where lock kk has L kk
            have step : ∀ y2 : Nat → Bl, FrL x0 y2 → LkO y2 p t0 asg → LdO y2 L used → BsO y2 p T S1 → (y2 0).2.1 23 kk = L kk → ∃ r, g0_triesLocks_104 (f0_triesLocks fuel) K y2 (Int32.ofNat t0) (Int32.ofNat used) room (Int32.ofNat kk) = some r ∧ FrL x0 r ∧ LkO r p t0 asg ∧ LdO r L used ∧ BsO r p T (fdN (fun kk S => if L kk + w t0 ≤ room then goL room (wlL w p d (t0 + 1)) (cntB t0 p + 1) (upN asg (cntB t0 p) kk) (upd L kk (L kk + w t0)) (mxL used kk) S else S) 0 (used + 1) S) := by
              intro y2 hF2 hk2 hd2 hb2 hl2
              unfold g0_triesLocks_104
              have ew : (y2 1).2.1 13 t0 = w t0 := by rw [hF2.2.2 1 (by decide)]; exact hw t0 (by omega)
              rw [chk_h hkn, chk_h (hcf y2 hF2), chk_h htn, nk, nt, hl2, ew]
              have next : ∀ (y3 : Nat → Bl) (S3 : Int32 × (Nat → Nat)), FrL x0 y3 → LkO y3 p t0 asg → LdO y3 L used → BsO y3 p T S3 → fdN (fun kk S => if L kk + w t0 ≤ room then goL room (wlL w p d (t0 + 1)) (cntB t0 p + 1) (upN asg (cntB t0 p) kk) (upd L kk (L kk + w t0)) (mxL used kk) S else S) (kk + 1) (used + 1 - (kk + 1)) S3 = fdN (fun kk S => if L kk + w t0 ≤ room then goL room (wlL w p d (t0 + 1)) (cntB t0 p + 1) (upN asg (cntB t0 p) kk) (upd L kk (L kk + w t0)) (mxL used kk) S else S) 0 (used + 1) S → ∃ r, K (y3, Int32.ofNat kk + (1 : Int32)) = some r ∧ FrL x0 r ∧ LkO r p t0 asg ∧ LdO r L used ∧ BsO r p T (fdN (fun kk S => if L kk + w t0 ≤ room then goL room (wlL w p d (t0 + 1)) (cntB t0 p + 1) (upN asg (cntB t0 p) kk) (upd L kk (L kk + w t0)) (mxL used kk) S else S) 0 (used + 1) S) := by
                intro y3 S3 q1 q2 q3 q4 q5
                refine IH _ ⟨kk + 1, S3, zI_succ kk, by omega, q1, q2, q3, q4, q5⟩ ?_
                dsimp only; rw [zI_succ, zI_nat (by omega), nk]; omega
              by_cases hfit : L kk + w t0 ≤ room
              · rw [if_pos hfit] at hfd2 ⊢
                rw [chk_h hkn, chk_h (hcf y2 hF2), chk_h htn, chk_h hkn, chk_h htn, ltv_s, upX_upX, upX_self, zI_succ, zI_succ]
                have hF3 : FrL x0 (upX y2 0 (bA (bA (y2 0) 23 kk (L kk + w t0)) 21 t0 (Int32.ofNat kk))) := by
                  refine ⟨fun f h1 => by rw [upX_self]; exact hF2.1 f h1, fun f h1 h2 h3 => ?_, fun j hj => by rw [upX_ne hj]; exact hF2.2.2 j hj⟩
                  rw [upX_self, ← hF2.2.1 f h1 h2 h3]; simp [bA, bS, h1, h3]
                have hk3 : LkO (upX y2 0 (bA (bA (y2 0) 23 kk (L kk + w t0)) 21 t0 (Int32.ofNat kk))) p (t0 + 1) (upN asg (cntB t0 p) kk) := by
                  intro t ht
                  rw [upX_self]
                  by_cases ct : t = t0
                  · subst ct
                    have : lkV p (upN asg (cntB t p) kk) t = Int32.ofNat kk := by unfold lkV upN; rw [if_pos hp, if_pos rfl]
                    rw [this]; simp [bA, bS, upd]
                  · rw [lkV_up (by omega), ← hk2 t (by omega)]; simp [bA, bS, upd, ct]
                have hd3 : LdO (upX y2 0 (bA (bA (y2 0) 23 kk (L kk + w t0)) 21 t0 (Int32.ofNat kk))) (upd L kk (L kk + w t0)) (mxL used kk) := by
                  intro j hj
                  rw [upX_self]
                  unfold upd
                  by_cases cj : j = kk
                  · subst cj; rw [if_pos rfl]; simp [bA, bS, upd]
                  · rw [if_neg cj]
                    have hju : j < used := by unfold mxL at hj; split at hj <;> omega
                    rw [← hd2 j hju]; simp [bA, bS, upd, cj]
                have hb3 : BsO (upX y2 0 (bA (bA (y2 0) 23 kk (L kk + w t0)) 21 t0 (Int32.ofNat kk))) p T S1 := ⟨by rw [upX_self]; exact hb2.1, fun h0 t ht => by rw [upX_self, ← hb2.2 h0 t ht]; simp [bA, bS]⟩
                have emx : (if Int32.ofNat used < Int32.ofNat (kk + 1) then Int32.ofNat (kk + 1) else Int32.ofNat used) = Int32.ofNat (mxL used kk) := by
                  rw [zif_lt (by omega) (by omega)]
                  unfold mxL
                  split <;> rfl
                rw [emx]
                obtain ⟨y4, r1, r2, r3, r4, r5⟩ := ih fuel (t0 + 1) (upN asg (cntB t0 p) kk) (upd L kk (L kk + w t0)) (mxL used kk) S1 _ (by omega) (by omega) (by rw [hcs]; unfold mxL; split <;> omega) (fun j hj => by
                  unfold upd
                  have hj2 : used ≤ j ∧ kk < j := by unfold mxL at hj; split at hj <;> omega
                  rw [if_neg (by omega)]; exact hL j hj2.1) hF3 hk3 hd3 hb3
                rw [r1, bnd_s, chk_h hkn, chk_h (hcf y4 r2), chk_h htn, chk_h hkn]
                rw [hcs] at r5
                have ew4 : (y4 1).2.1 13 t0 = w t0 := by rw [r2.2.2 1 (by decide)]; exact hw t0 (by omega)
                have el4 : (y4 0).2.1 23 kk = L kk + w t0 := by
                  have := r4 kk (by unfold mxL; split <;> omega)
                  unfold upd at this; rw [if_pos rfl] at this; exact this
                rw [ew4, el4, Int32.add_sub_cancel, ← zI_succ kk]
                refine next _ _ ⟨fun f h1 => by rw [upX_self]; exact r2.1 f h1, fun f h1 h2 h3 => ?_, fun j hj => by rw [upX_ne hj]; exact r2.2.2 j hj⟩ (fun t ht => ?_) (fun j hj => ?_) ⟨by rw [upX_self]; exact r5.1, fun h0 t ht => ?_⟩ hfd2
                · rw [upX_self, ← r2.2.1 f h1 h2 h3]; simp [bA, bS, h3]
                · rw [upX_self]
                  have := r3 t (by omega)
                  rw [lkV_up ht] at this
                  rw [← this]; simp [bA, bS]
                · rw [upX_self]
                  show upd ((y4 0).2.1 23) kk (L kk) j = _
                  unfold upd
                  by_cases cj : j = kk
                  · rw [if_pos cj, cj]
                  · rw [if_neg cj]
                    have := r4 j (by unfold mxL; split <;> omega)
                    unfold upd at this; rw [if_neg cj] at this; exact this
                · rw [upX_self, ← r5.2 h0 t ht]; simp [bA, bS]
              · rw [if_neg hfit] at hfd2 ⊢
                exact next y2 S1 hF2 hk2 hd2 hb2 hfd2
            by_cases hku : kk = used
            · rw [if_pos hku, chk_h hkn, nk]
              refine step _ ⟨fun f h1 => by rw [upX_self]; exact hF1.1 f h1, fun f h1 h2 h3 => ?_, fun j hj => by rw [upX_ne hj]; exact hF1.2.2 j hj⟩ (fun t ht => ?_) (fun j hj => ?_) ⟨by rw [upX_self]; exact hb1.1, fun h0 t ht => ?_⟩ ?_
              · rw [upX_self, ← hF1.2.1 f h1 h2 h3]; simp [bA, bS, h3]
              · rw [upX_self, ← hk1 t ht]; simp [bA, bS]
              · rw [upX_self]
                show upd ((y1 0).2.1 23) kk 0 j = _
                unfold upd; rw [if_neg (by omega)]; exact hd1 j hj
              · rw [upX_self, ← hb1.2 h0 t ht]; simp [bA, bS]
              · rw [upX_self, hL kk (by omega)]; simp [bA, bS, upd]
            · rw [if_neg hku]
              exact step y1 hF1 hk1 hd1 hb1 (hd1 kk (by omega))
        · rw [if_neg hp]
          have hcs : cntB (t0 + 1) p = cntB t0 p := by rw [cntB_s, if_neg hp]; rfl
          have hwl : wlL w p (d + 1) t0 = wlL w p d (t0 + 1) := by
            show (if p t0 = true then _ else _) = _
            rw [if_neg hp]
          rw [hwl, zI_succ]
          obtain ⟨y4, r1, r2, r3, r4, r5⟩ := ih fuel (t0 + 1) asg L used S y1 (by omega) (by omega) (by rw [hcs]; exact hu) hL hF1 (fun t ht => by
            by_cases ct : t = t0
            · subst ct; rw [h1t]; unfold lkV; rw [if_neg hp]
            · exact hk1 t (by omega)) hd1 hb1
          rw [r1, bnd_s]
          rw [hcs] at r5
          exact ⟨y4, rfl, r2, fun t ht => r3 t (by omega), r4, r5⟩
      unfold b0_triesLocks
      rw [hb.1]
      by_cases c1 : S.1 = -1
      · rw [if_pos c1]; exact e17 (by unfold prL; rw [decide_eq_false (fun z => z c1), Bool.false_and])
      · rw [if_neg c1]
        by_cases c2 : Int32.ofNat used < S.1
        · rw [if_pos c2]; exact e17 (by unfold prL; rw [decide_eq_false (Int32.not_le.mpr c2), Bool.and_false])
        · rw [if_neg c2, goL_pr (by unfold prL; rw [decide_eq_true c1, decide_eq_true (Int32.not_lt.mp c2)]; rfl)]
          exact ⟨y, rfl, hF, hk, hd, hb⟩
end R

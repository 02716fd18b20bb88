/-! PLAIN LAW: entries of an order: what they come to -/
set_option maxRecDepth 100000
def tL (b : Bool) : Int64 := if b = true then 1 else 0
def bop (k : Int32) (a b : Int64) : Int64 :=
  if k = 2 then a + b else if k = 3 then a - b else if k = 4 then tL (decide (a < b)) else if k = 5 then tL (decide (a ≤ b)) else if k = 6 then tL (decide (a = b)) else if k = 7 then tL (decide (b ≤ a)) else if k = 8 then tL (decide (b < a)) else if k = 10 then a &&& b else if k = 13 then a * b else if k = 14 then (if b = 0 then 0 else a / b) else if k = 15 then (if b = 0 then 0 else a - a / b * b) else a ||| b
theorem truth_0 : f3_truth 0 = some 0 := rfl
theorem truth_1 : f3_truth 1 = some 1 := rfl
theorem f3_both_eq {k : Int32} {a b : Int64} : f3_both k a b = some (bop k a b) := by
  unfold f3_both bop
  by_cases h2 : k = 2
  · rw [if_pos h2, if_pos h2]
  rw [if_neg h2, if_neg h2]
  by_cases h3 : k = 3
  · rw [if_pos h3, if_pos h3]
  rw [if_neg h3, if_neg h3]
  by_cases h4 : k = 4
  · rw [if_pos h4, if_pos h4]
    by_cases c : a < b
    · rw [if_neg (fun z => absurd ((lg_cmp_ge a b).mp z) (Int64.not_le.mpr c)), truth_1, bnd_s, decide_eq_true c]; rfl
    · rw [if_pos ((lg_cmp_ge a b).mpr (Int64.not_lt.mp c)), truth_0, bnd_s, decide_eq_false c]; rfl
  rw [if_neg h4, if_neg h4]
  by_cases h5 : k = 5
  · rw [if_pos h5, if_pos h5]
    by_cases c : a ≤ b
    · rw [if_neg (fun z => absurd ((lg_cmp_gt a b).mp z) (Int64.not_lt.mpr c)), truth_1, bnd_s, decide_eq_true c]; rfl
    · rw [if_pos ((lg_cmp_gt a b).mpr (Int64.not_le.mp c)), truth_0, bnd_s, decide_eq_false c]; rfl
  rw [if_neg h5, if_neg h5]
  by_cases h6 : k = 6
  · rw [if_pos h6, if_pos h6]
    by_cases c : a = b
    · rw [if_pos ((lg_cmp_eq a b).mpr c), truth_1, bnd_s, decide_eq_true c]; rfl
    · rw [if_neg (fun z => c ((lg_cmp_eq a b).mp z)), truth_0, bnd_s, decide_eq_false c]; rfl
  rw [if_neg h6, if_neg h6]
  by_cases h7 : k = 7
  · rw [if_pos h7, if_pos h7]
    by_cases c : b ≤ a
    · rw [if_neg (fun z => absurd ((lg_cmp_lt a b).mp z) (Int64.not_lt.mpr c)), truth_1, bnd_s, decide_eq_true c]; rfl
    · rw [if_pos ((lg_cmp_lt a b).mpr (Int64.not_le.mp c)), truth_0, bnd_s, decide_eq_false c]; rfl
  rw [if_neg h7, if_neg h7]
  by_cases h8 : k = 8
  · rw [if_pos h8, if_pos h8]
    by_cases c : b < a
    · rw [if_neg (fun z => absurd ((lg_cmp_le a b).mp z) (Int64.not_le.mpr c)), truth_1, bnd_s, decide_eq_true c]; rfl
    · rw [if_pos ((lg_cmp_le a b).mpr (Int64.not_lt.mp c)), truth_0, bnd_s, decide_eq_false c]; rfl
  rw [if_neg h8, if_neg h8]
  by_cases h10 : k = 10
  · rw [if_pos h10, if_pos h10]
  rw [if_neg h10, if_neg h10]
  by_cases h13 : k = 13
  · rw [if_pos h13, if_pos h13]
  rw [if_neg h13, if_neg h13]
  by_cases h14 : k = 14
  · rw [if_pos h14, if_pos h14]
    by_cases c : b = 0
    · rw [if_pos ((lg_cmp_eq b 0).mpr c), if_pos c]
    · rw [if_neg (fun z => c ((lg_cmp_eq b 0).mp z)), if_neg c, chk_h (decide_eq_true c)]
  rw [if_neg h14, if_neg h14]
  by_cases h15 : k = 15
  · rw [if_pos h15, if_pos h15]
    by_cases c : b = 0
    · rw [if_pos ((lg_cmp_eq b 0).mpr c), if_pos c]
    · rw [if_neg (fun z => c ((lg_cmp_eq b 0).mp z)), if_neg c, chk_h (decide_eq_true c)]
  rw [if_neg h15, if_neg h15]
/-- an entry, on a stack -/
def stE (so nu : Int32) (w : Nat → Int64) (ls : List Int64) : Option (List Int64) :=
  if so = 0 then some (nu.toInt64 :: ls) else if so = 1 then (if inB nu 12 = true then some (w nu.toNatClampNeg :: ls) else none)
  else if so = 9 then (match ls with | a :: t => some ((1 - a) :: t) | [] => none)
  else (match ls with | b :: a :: t => some (bop so a b :: t) | _ => none)
def rnE (so nu : Nat → Int32) (w : Nat → Int64) : Nat → Nat → List Int64 → Option (List Int64)
  | _, 0, ls => some ls
  | a, n + 1, ls => match stE (so a) (nu a) w ls with
    | some l => rnE so nu w (a + 1) n l
    | none => none
theorem rnE_s {so nu : Nat → Int32} {w : Nat → Int64} {a n : Nat} {ls : List Int64} : rnE so nu w a (n + 1) ls = match stE (so a) (nu a) w ls with | some l => rnE so nu w (a + 1) n l | none => none := rfl
/-- the entries from a up to b come to F -/
def EV (so nu : Nat → Int32) (a b : Nat) (F : (Nat → Int64) → Int64) : Prop := a ≤ b ∧ ∀ w ls, rnE so nu w a (b - a) ls = some (F w :: ls)
theorem rnE_add {so nu : Nat → Int32} {w : Nat → Int64} (n : Nat) : ∀ (m a : Nat) (ls l : List Int64), rnE so nu w a m ls = some l → rnE so nu w a (m + n) ls = rnE so nu w (a + m) n l
  | 0, a, ls, l, h => by
    simp only [rnE, Option.some.injEq] at h
    subst h; rw [Nat.zero_add, Nat.add_zero]
  | m + 1, a, ls, l, h => by
    rw [show m + 1 + n = (m + n) + 1 by omega]
    rw [rnE_s] at h ⊢
    cases hs : stE (so a) (nu a) w ls with
    | none => rw [hs] at h; cases h
    | some l2 =>
      rw [hs] at h
      dsimp only at h ⊢
      rw [rnE_add n m (a + 1) l2 l h, show a + 1 + m = a + (m + 1) by omega]
theorem EV.lt {so nu : Nat → Int32} {a b : Nat} {F : (Nat → Int64) → Int64} (h : EV so nu a b F) : a < b := by
  rcases Nat.lt_or_ge a b with c | c
  · exact c
  · have e : b - a = 0 := by omega
    have := h.2 (fun _ => 0) []
    rw [e] at this; simp [rnE] at this
theorem rnE_cg {so nu so' nu' : Nat → Int32} {w : Nat → Int64} : ∀ (n a : Nat) (ls : List Int64), (∀ k, a ≤ k → k < a + n → so k = so' k ∧ nu k = nu' k) → rnE so nu w a n ls = rnE so' nu' w a n ls
  | 0, _, _, _ => rfl
  | n + 1, a, ls, h => by
    unfold rnE
    rw [(h a (Nat.le_refl _) (by omega)).1, (h a (Nat.le_refl _) (by omega)).2]
    cases stE (so' a) (nu' a) w ls with
    | none => rfl
    | some l => exact rnE_cg n (a + 1) l (fun k h1 h2 => h k (by omega) (by omega))
theorem EV.cg {so nu so' nu' : Nat → Int32} {a b : Nat} {F : (Nat → Int64) → Int64} (h : EV so nu a b F) (e : ∀ k, a ≤ k → k < b → so k = so' k ∧ nu k = nu' k) : EV so' nu' a b F :=
  ⟨h.1, fun w ls => by rw [← rnE_cg (b - a) a ls (fun k h1 h2 => e k h1 (by have := h.1; omega))]; exact h.2 w ls⟩
theorem stE_w {so nu : Int32} {w w' : Nat → Int64} (e : ∀ k, k < 12 → w k = w' k) (ls : List Int64) : stE so nu w ls = stE so nu w' ls := by
  unfold stE
  by_cases h0 : so = 0
  · rw [if_pos h0, if_pos h0]
  rw [if_neg h0, if_neg h0]
  by_cases h1 : so = 1
  · rw [if_pos h1, if_pos h1]
    by_cases c : inB nu 12 = true
    · rw [if_pos c, if_pos c, e _ (of_decide_eq_true (Bool.and_eq_true _ _ ▸ c).2)]
    · rw [if_neg c, if_neg c]
  rw [if_neg h1, if_neg h1]
theorem rnE_w {so nu : Nat → Int32} {w w' : Nat → Int64} (e : ∀ k, k < 12 → w k = w' k) : ∀ (n a : Nat) (ls : List Int64), rnE so nu w a n ls = rnE so nu w' a n ls
  | 0, _, _ => rfl
  | n + 1, a, ls => by
    unfold rnE
    rw [stE_w e]
    cases stE (so a) (nu a) w' ls with
    | none => rfl
    | some l => exact rnE_w e n (a + 1) l
theorem EV.w {so nu : Nat → Int32} {a b : Nat} {F : (Nat → Int64) → Int64} (h : EV so nu a b F) {w w' : Nat → Int64} (e : ∀ k, k < 12 → w k = w' k) : F w = F w' := by
  have h1 := h.2 w []
  rw [rnE_w e, h.2 w' []] at h1
  simp only [Option.some.injEq, List.cons.injEq, and_true] at h1
  exact h1.symm
theorem EV.one {so nu : Nat → Int32} {a : Nat} {F : (Nat → Int64) → Int64} (h : ∀ w ls, stE (so a) (nu a) w ls = some (F w :: ls)) : EV so nu a (a + 1) F :=
  ⟨by omega, fun w ls => by rw [show a + 1 - a = 1 by omega]; simp only [rnE, h]⟩
theorem EV.num {so nu : Nat → Int32} {a : Nat} (h : so a = 0) : EV so nu a (a + 1) (fun _ => (nu a).toInt64) := EV.one fun w ls => by unfold stE; rw [if_pos h]
theorem EV.word {so nu : Nat → Int32} {a : Nat} (h : so a = 1) (h2 : inB (nu a) 12 = true) : EV so nu a (a + 1) (fun w => w (nu a).toNatClampNeg) := EV.one fun w ls => by
  unfold stE; rw [if_neg (by rw [h]; decide), if_pos h, if_pos h2]
theorem EV.bin {so nu : Nat → Int32} {a b c : Nat} {F G : (Nat → Int64) → Int64} (h1 : EV so nu a b F) (h2 : EV so nu b c G) {k : Int32} (hk : so c = k) (hk2 : ¬ k = 0 ∧ ¬ k = 1 ∧ ¬ k = 9) : EV so nu a (c + 1) (fun w => bop k (F w) (G w)) := by
  have g1 := h1.1
  have g2 := h2.1
  refine ⟨by omega, fun w ls => ?_⟩
  rw [show c + 1 - a = (b - a) + ((c - b) + 1) by omega, rnE_add _ (b - a) a ls _ (h1.2 w ls), show a + (b - a) = b by omega, rnE_add _ (c - b) b _ _ (h2.2 w _), show b + (c - b) = c by omega]
  simp only [rnE, hk, stE, if_neg hk2.1, if_neg hk2.2.1, if_neg hk2.2.2]
theorem EV.not {so nu : Nat → Int32} {a b : Nat} {F : (Nat → Int64) → Int64} (h1 : EV so nu a b F) (hk : so b = 9) : EV so nu a (b + 1) (fun w => 1 - F w) := by
  have g1 := h1.1
  refine ⟨by omega, fun w ls => ?_⟩
  rw [show b + 1 - a = (b - a) + 1 by omega, rnE_add _ (b - a) a ls _ (h1.2 w ls), show a + (b - a) = b by omega]
  simp only [rnE, hk, stE]
  rw [if_neg (by decide), if_neg (by decide), if_pos trivial]
/-- the stack at 50, top first -/
def Stk (f : Nat → Int64) : List Int64 → Prop
  | [] => True
  | a :: t => f t.length = a ∧ Stk f t
theorem Stk.up {f : Nat → Int64} {n : Nat} {v : Int64} : ∀ (ls : List Int64), ls.length ≤ n → Stk f ls → Stk (vp_updL f n v) ls
  | [], _, _ => trivial
  | a :: t, h, hs => by
    simp only [List.length_cons] at h
    refine ⟨?_, Stk.up t (by omega) hs.2⟩
    unfold vp_updL; rw [if_neg (by omega)]; exact hs.1
theorem Stk.push {f : Nat → Int64} {ls : List Int64} {n : Nat} {v : Int64} (e : n = ls.length) (h : Stk f ls) : Stk (vp_updL f n v) (v :: ls) := by
  refine ⟨?_, Stk.up ls (by omega) h⟩
  unfold vp_updL; rw [if_pos e.symm]
/-- nothing but the stack changes -/
def Kb (M s : Bl) : Prop := s.1 = M.1 ∧ s.2.1 = M.2.1 ∧ ∀ f, f ≠ 50 → s.2.2 f = M.2.2 f
theorem Kb.refl {M : Bl} : Kb M M := ⟨rfl, rfl, fun _ _ => rfl⟩
theorem Kb.trans {M N P : Bl} (h : Kb M N) (k : Kb N P) : Kb M P := ⟨k.1.trans h.1, k.2.1.trans h.2.1, fun f hf => (k.2.2 f hf).trans (h.2.2 f hf)⟩
theorem Kb.put {M s : Bl} {n : Nat} {v : Int64} (h : Kb M s) : Kb M (bL s 50 n v) := ⟨h.1, h.2.1, fun f hf => by rw [← h.2.2 f hf]; simp [bL, bT, hf]⟩
theorem bL_50 {s : Bl} {n : Nat} {v : Int64} : (bL s 50 n v).2.2 50 = vp_updL (s.2.2 50) n v := by simp [bL, bT]
/-- sorts and numbers of slot r -/
def soA (a : Ar) (r : Nat) : Nat → Int32 := fun k => a 42 (300 * r + k)
def nuA (a : Ar) (r : Nat) : Nat → Int32 := fun k => a 43 (300 * r + k)
theorem f3_answer_eq {M : Bl} {r a b : Nat} (hr : r < 6) (hb : b ≤ 300) {F : (Nat → Int64) → Int64} (h : EV (soA M.2.1 r) (nuA M.2.1 r) a b F) : ∃ s', f3_answer M (Int32.ofNat r) (Int32.ofNat a) (Int32.ofNat b) = some (F (M.2.2 49), s') ∧ Kb M s' := by
  have hab := h.1
  have key : ∃ q, f3_answer M (Int32.ofNat r) (Int32.ofNat a) (Int32.ofNat b) = some q ∧ q.1 = F (M.2.2 49) ∧ Kb M q.2 := by
    unfold f3_answer
    refine loop_post (fun s : Bl × Int32 × Int32 => ∃ (k : Nat) (ls : List Int64), s.2.2 = Int32.ofNat k ∧ a ≤ k ∧ k ≤ b ∧ s.2.1 = Int32.ofNat ls.length ∧ ls.length ≤ k - a ∧ Stk (s.1.2.2 50) ls ∧ Kb M s.1 ∧ rnE (soA M.2.1 r) (nuA M.2.1 r) (M.2.2 49) k (b - k) ls = some [F (M.2.2 49)]) (fun s => 1000 - s.2.2.toNatClampNeg) _ ?_ ⟨a, [], rfl, Nat.le_refl _, hab, rfl, by simp, trivial, Kb.refl, h.2 _ _⟩ (by omega)
    rintro K ⟨s, n, k0⟩ ⟨k, ls, hk, hak, hkb, hn, hl, hst, hkb2, hrun⟩ IH
    dsimp only at hk hn hst hkb2
    subst hk hn
    simp only [g3_answer_6]
    rw [zif_le (by omega) (by omega)]
    by_cases hend : b ≤ k
    · rw [if_pos hend]
      have e : b - k = 0 := by omega
      rw [e] at hrun
      simp only [rnE, Option.some.injEq] at hrun
      subst hrun
      exact ⟨_, rfl, hst.1, hkb2⟩
    · rw [if_neg hend]
      have eix : (300 : Int32) * Int32.ofNat r + Int32.ofNat k = Int32.ofNat (300 * r + k) := by
        rw [show (300 : Int32) = Int32.ofNat 300 from rfl, ← Int32.ofNat_mul, ← Int32.ofNat_add]
      have hix : inB (Int32.ofNat (300 * r + k)) 1800 = true := zI_in (by omega) (by decide)
      have nix : (Int32.ofNat (300 * r + k)).toNatClampNeg = 300 * r + k := zI_nat (by omega)
      rw [eix, chk_h hix, chk_h hix, nix, hkb2.2.1]
      have es : M.2.1 42 (300 * r + k) = soA M.2.1 r k := rfl
      have en : M.2.1 43 (300 * r + k) = nuA M.2.1 r k := rfl
      rw [es, en]
      rw [show b - k = (b - (k + 1)) + 1 by omega] at hrun
      unfold rnE at hrun
      have hln : inB (Int32.ofNat ls.length) 300 = true := zI_in (by omega) (by decide)
      have nln : (Int32.ofNat ls.length).toNatClampNeg = ls.length := zI_nat (by omega)
      have goes : ∀ (s' : Bl) (l2 : List Int64), stE (soA M.2.1 r k) (nuA M.2.1 r k) (M.2.2 49) ls = some l2 → l2.length ≤ ls.length + 1 → Stk (s'.2.2 50) l2 → Kb M s' → ∃ q, K (s', Int32.ofNat l2.length, Int32.ofNat k + (1 : Int32)) = some q ∧ q.1 = F (M.2.2 49) ∧ Kb M q.2 := by
        intro s' l2 hs h1 h2 h3
        rw [hs] at hrun
        refine IH _ ⟨k + 1, l2, zI_succ k, by omega, by omega, rfl, by omega, h2, h3, hrun⟩ ?_
        dsimp only
        rw [zI_succ, zI_nat (by omega), zI_nat (by omega)]; omega
      by_cases h0 : soA M.2.1 r k = 0
      · rw [if_pos h0]
        unfold g3_answer_53
        rw [if_pos h0, chk_h hln, nln, zI_succ]
        refine goes _ ((nuA M.2.1 r k).toInt64 :: ls) (by unfold stE; rw [if_pos h0]) (by simp) ?_ hkb2.put
        rw [bL_50]; exact Stk.push rfl hst
      rw [if_neg h0]
      by_cases h1 : soA M.2.1 r k = 1
      · rw [if_pos h1]
        unfold g3_answer_53
        rw [if_neg h0]
        by_cases c : inB (nuA M.2.1 r k) 12 = true
        · rw [chk_h c, chk_h hln, nln, zI_succ]
          rw [hkb2.2.2 49 (by decide)]
          refine goes _ (M.2.2 49 (nuA M.2.1 r k).toNatClampNeg :: ls) (by unfold stE; rw [if_neg h0, if_pos h1, if_pos c]) (by simp) ?_ hkb2.put
          rw [bL_50]; exact Stk.push rfl hst
        · have : stE (soA M.2.1 r k) (nuA M.2.1 r k) (M.2.2 49) ls = none := by unfold stE; rw [if_neg h0, if_pos h1, if_neg c]
          rw [this] at hrun; cases hrun
      rw [if_neg h1]
      by_cases h9 : soA M.2.1 r k = 9
      · rw [if_pos h9]
        match ls, hst, hl, hln, nln, hrun, goes with
        | [], _, _, _, _, hrun, _ =>
          have : stE (soA M.2.1 r k) (nuA M.2.1 r k) (M.2.2 49) [] = none := by unfold stE; rw [if_neg h0, if_neg h1, if_pos h9]
          rw [this] at hrun; cases hrun
        | v :: t, hst, hl, hln, nln, hrun, goes =>
          simp only [List.length_cons] at hl hln nln goes ⊢
          have ep : Int32.ofNat (t.length + 1) - (1 : Int32) = Int32.ofNat t.length := by rw [zI_pred (by omega), Nat.add_sub_cancel]
          have hlt : inB (Int32.ofNat t.length) 300 = true := zI_in (by omega) (by decide)
          rw [ep, chk_h hlt, chk_h hlt, zI_nat (by omega), hst.1]
          refine goes _ ((1 - v) :: t) (by unfold stE; rw [if_neg h0, if_neg h1, if_pos h9]) (by simp) ?_ hkb2.put
          rw [bL_50]; exact Stk.push rfl hst.2
      rw [if_neg h9]
      match ls, hst, hl, hln, nln, hrun, goes with
      | [], _, _, _, _, hrun, _ =>
        have : stE (soA M.2.1 r k) (nuA M.2.1 r k) (M.2.2 49) [] = none := by unfold stE; rw [if_neg h0, if_neg h1, if_neg h9]
        rw [this] at hrun; cases hrun
      | [v], _, _, _, _, hrun, _ =>
        have : stE (soA M.2.1 r k) (nuA M.2.1 r k) (M.2.2 49) [v] = none := by unfold stE; rw [if_neg h0, if_neg h1, if_neg h9]
        rw [this] at hrun; cases hrun
      | v :: u :: t, hst, hl, hln, nln, hrun, goes =>
        simp only [List.length_cons] at hl hln nln goes ⊢
        have ep : Int32.ofNat (t.length + 1 + 1) + (-1 : Int32) = Int32.ofNat (t.length + 1) := by
          have : Int32.ofNat (t.length + 1 + 1) + (-1 : Int32) = Int32.ofNat (t.length + 1 + 1) - (1 : Int32) := by rw [Int32.sub_eq_add_neg]
          rw [this, zI_pred (by omega), Nat.add_sub_cancel]
        have ep2 : Int32.ofNat (t.length + 1) - (1 : Int32) = Int32.ofNat t.length := by rw [zI_pred (by omega), Nat.add_sub_cancel]
        have hlt : inB (Int32.ofNat t.length) 300 = true := zI_in (by omega) (by decide)
        have hlt1 : inB (Int32.ofNat (t.length + 1)) 300 = true := zI_in (by omega) (by decide)
        have ntl : (Int32.ofNat t.length).toNatClampNeg = t.length := zI_nat (by omega)
        have ntl1 : (Int32.ofNat (t.length + 1)).toNatClampNeg = t.length + 1 := zI_nat (by omega)
        have e1 : s.2.2 50 (t.length + 1) = v := hst.1
        have e2 : s.2.2 50 t.length = u := hst.2.1
        rw [ep, ep2, chk_h hlt, chk_h hlt1, ntl, ntl1, e1, e2, f3_both_eq, bnd_s, chk_h hlt]
        refine goes _ (bop (soA M.2.1 r k) u v :: t) (by unfold stE; rw [if_neg h0, if_neg h1, if_neg h9]) (by simp) ?_ hkb2.put
        rw [bL_50]; exact Stk.push rfl hst.2.2
  obtain ⟨⟨q1, q2⟩, e1, e2, e3⟩ := key
  dsimp only at e2 e3
  subst e2
  exact ⟨q2, e1, e3⟩

/-! PLAIN LAW: reading, what both see -/
set_option maxRecDepth 100000
theorem byte_all {P : Int32 → Prop} (h : ∀ n, n < 256 → P (Int32.ofNat n - 128)) {b : Int32} (h1 : -128 ≤ b.toInt) (h2 : b.toInt ≤ 127) : P b := by
  have e : b = Int32.ofNat (b.toInt + 128).toNat - 128 := by
    refine Int32.toInt_inj.mp ?_
    have e1 : (Int32.ofNat (b.toInt + 128).toNat).toInt = b.toInt + 128 := by rw [zI_int (by omega)]; omega
    have e2 : (128 : Int32).toInt = 128 := rfl
    rw [tI_sub (by rw [e1, e2]; omega) (by rw [e1, e2]; omega), e1, e2]; omega
  rw [e]; exact h _ (by omega)
theorem byte_c {b : Int32} (h1 : -128 ≤ b.toInt) (h2 : b.toInt ≤ 127) {c : Nat} (hc : c < 128) : (b &&& 255 = Int32.ofNat c) ↔ b = Int32.ofNat c :=
  byte_all (P := fun b => ∀ c, c < 128 → ((b &&& 255 = Int32.ofNat c) ↔ b = Int32.ofNat c)) (by decide +kernel) h1 h2 c hc
theorem byte_d {b : Int32} (h1 : -128 ≤ b.toInt) (h2 : b.toInt ≤ 127) : (decide (48 ≤ (b &&& 255)) && decide ((b &&& 255) ≤ 57)) = (decide (48 ≤ b) && decide (b ≤ 57)) :=
  byte_all (P := fun b => (decide (48 ≤ (b &&& 255)) && decide ((b &&& 255) ≤ 57)) = (decide (48 ≤ b) && decide (b ≤ 57))) (by decide +kernel) h1 h2
theorem byte_m {b : Int32} (h1 : -128 ≤ b.toInt) (h2 : b.toInt ≤ 127) : ¬ (b &&& 255) = -1 :=
  byte_all (P := fun b => ¬ (b &&& 255) = -1) (by decide +kernel) h1 h2
theorem byte_n {b : Int32} (h1 : -128 ≤ b.toInt) (h2 : b.toInt ≤ 127) (h : (decide (48 ≤ b) && decide (b ≤ 57)) = true) : (b &&& 255) = b ∧ ∃ k, k < 10 ∧ b = Int32.ofNat (48 + k) :=
  byte_all (P := fun b => (decide (48 ≤ b) && decide (b ≤ 57)) = true → (b &&& 255) = b ∧ ∃ k, k < 10 ∧ b = Int32.ofNat (48 + k)) (by decide +kernel) h1 h2 h
/-- a tape of T bytes -/
def TpO (y : Nat → Bl) (T : Nat) (bt : Nat → Int32) : Prop := (y 0).1 8 = Int32.ofNat T ∧ ∀ i, i < T → (y 0).2.1 7 i = bt i
def TpM (s : Bl) (T : Nat) (bt : Nat → Int32) : Prop := s.1 31 = Int32.ofNat T ∧ ∀ i, i < T → s.2.1 41 i = bt i
def TpB (T : Nat) (bt : Nat → Int32) : Prop := T ≤ 400 ∧ ∀ i, i < T → -128 ≤ (bt i).toInt ∧ (bt i).toInt ≤ 127
def skD (T : Nat) (bt : Nat → Int32) (p : Nat) : Nat := fsN (fun d => !decide (bt (p + d) = 32)) (T - p)
def skp (T : Nat) (bt : Nat → Int32) (p : Nat) : Nat := p + skD T bt p
def sgn (T : Nat) (bt : Nat → Int32) (p : Nat) : Int32 := if p < T then bt p &&& 255 else -1
def dgB (T : Nat) (bt : Nat → Int32) (p : Nat) : Bool := decide (p < T) && (decide (48 ≤ bt p) && decide (bt p ≤ 57))
def lwB (bt : Nat → Int32) (p : Nat) : Bool := decide (97 ≤ bt p) && decide (bt p ≤ 122)
def lnN (T : Nat) (bt : Nat → Int32) (p : Nat) : Nat := fsN (fun d => !lwB bt (p + d)) (T - p)
def msN (bt : Nat → Int32) (p k : Nat) : Nat := fsN (fun i => !decide ((sBy k).getD i 0 = bt (p + i))) (sBy k).length
def isW (T : Nat) (bt : Nat → Int32) (p k : Nat) : Bool := decide (lnN T bt p = (sBy k).length) && decide (msN bt p k = (sBy k).length)
/-- at place p -/
def nx (y : Nat → Bl) (p : Nat) : Nat → Bl := upX y 14 (bI (y 14) 2 (Int32.ofNat p))
def ps (s : Bl) (p : Nat) : Bl := bI s 32 (Int32.ofNat p)
theorem bI_bI {s : Bl} {f : Nat} {u v : Int32} : bI (bI s f u) f v = bI s f v := by
  refine Prod.ext ?_ rfl
  funext g
  show (if g = f then v else if g = f then u else s.1 g) = if g = f then v else s.1 g
  split <;> rfl
theorem bI_id {s : Bl} {f : Nat} {v : Int32} (h : s.1 f = v) : bI s f v = s := by
  refine Prod.ext ?_ rfl
  funext g
  show (if g = f then v else s.1 g) = s.1 g
  by_cases c : g = f
  · rw [if_pos c, c, h]
  · rw [if_neg c]
theorem nx_nx {y : Nat → Bl} {p q : Nat} : nx (nx y p) q = nx y q := by unfold nx; rw [upX_upX, upX_self, bI_bI]
theorem nx_id {y : Nat → Bl} {p : Nat} (h : (y 14).1 2 = Int32.ofNat p) : nx y p = y := by unfold nx; rw [bI_id h, upX_id]
theorem nx_at {y : Nat → Bl} {p : Nat} : (nx y p 14).1 2 = Int32.ofNat p := by unfold nx; rw [upX_self, bI_v]
theorem nx_ne {y : Nat → Bl} {p j : Nat} (h : j ≠ 14) : nx y p j = y j := upX_ne h
theorem nx_f {y : Nat → Bl} {p f : Nat} (h : f ≠ 2) : (nx y p 14).1 f = (y 14).1 f := by unfold nx; rw [upX_self]; simp [bI, h]
theorem nx_a {y : Nat → Bl} {p : Nat} : (nx y p 14).2 = (y 14).2 := by unfold nx; rw [upX_self]; rfl
theorem ps_ps {s : Bl} {p q : Nat} : ps (ps s p) q = ps s q := bI_bI
theorem ps_id {s : Bl} {p : Nat} (h : s.1 32 = Int32.ofNat p) : ps s p = s := bI_id h
theorem ps_at {s : Bl} {p : Nat} : (ps s p).1 32 = Int32.ofNat p := bI_v
theorem ps_f {s : Bl} {p f : Nat} (h : f ≠ 32) : (ps s p).1 f = s.1 f := by unfold ps; simp [bI, h]
theorem ps_a {s : Bl} {p : Nat} : (ps s p).2 = s.2 := rfl
theorem TpO.nx {y : Nat → Bl} {T : Nat} {bt : Nat → Int32} {p : Nat} (h : TpO y T bt) : TpO (nx y p) T bt := by unfold TpO; rw [nx_ne (by decide)]; exact h
theorem TpM.ps {s : Bl} {T : Nat} {bt : Nat → Int32} {p : Nat} (h : TpM s T bt) : TpM (ps s p) T bt := ⟨by rw [ps_f (by decide)]; exact h.1, h.2⟩
theorem skp_le {T : Nat} {bt : Nat → Int32} {p : Nat} (hp : p ≤ T) : skp T bt p ≤ T := by
  have := fsN_le (fun d => !decide (bt (p + d) = 32)) (T - p)
  unfold skp skD; omega
theorem skp_ge {T : Nat} {bt : Nat → Int32} {p : Nat} : p ≤ skp T bt p := Nat.le_add_right _ _
theorem skp_not {T : Nat} {bt : Nat → Int32} {p : Nat} (h : skp T bt p < T) : ¬ bt (skp T bt p) = 32 := by
  have hs := (fsN_spec (fun d => !decide (bt (p + d) = 32)) (T - p)).2 (by unfold skp skD at h; omega)
  have hs := hs
  simp only [Bool.not_eq_true', decide_eq_false_iff_not] at hs
  exact hs
theorem skp_stay {T : Nat} {bt : Nat → Int32} {p : Nat} (h : p < T → ¬ bt p = 32) : skp T bt p = p := by
  unfold skp skD
  have hl := fsN_le (fun d => !decide (bt (p + d) = 32)) (T - p)
  have hs := fsN_spec (fun d => !decide (bt (p + d) = 32)) (T - p)
  by_cases c : p < T
  · have : ¬ 0 < fsN (fun d => !decide (bt (p + d) = 32)) (T - p) := fun z => by
      have := hs.1 0 z
      simp at this
      exact h c this
    omega
  · omega
theorem skp_skp {T : Nat} {bt : Nat → Int32} {p : Nat} : skp T bt (skp T bt p) = skp T bt p := skp_stay skp_not
theorem lnN_le {T : Nat} {bt : Nat → Int32} {p : Nat} (hp : p ≤ T) : p + lnN T bt p ≤ T := by
  have := fsN_le (fun d => !lwB bt (p + d)) (T - p)
  unfold lnN; omega
theorem isW_len {T : Nat} {bt : Nat → Int32} {p k : Nat} (hp : p ≤ T) (h : isW T bt p k = true) : p + (sBy k).length ≤ T := by
  unfold isW at h
  rw [Bool.and_eq_true, decide_eq_true_iff] at h
  have := lnN_le (bt := bt) hp
  omega
section P
variable {y : Nat → Bl} {s : Bl} {T p : Nat} {bt : Nat → Int32}
theorem f4_see_eq (hB : TpB T bt) (hO : TpO y T bt) (hp : p ≤ T) (h2 : (y 14).1 2 = Int32.ofNat p) : f4_see y = some (sgn T bt (skp T bt p), nx y (skp T bt p)) := by
  have hT := hB.1
  have hl := fsN_le (fun d => !decide (bt (p + d) = 32)) (T - p)
  have hs := fsN_spec (fun d => !decide (bt (p + d) = 32)) (T - p)
  have e0 : y = nx y (p + 0) := (nx_id h2).symm
  have key : loop (g4_see_0) FU (nx y (p + 0)) = some (sgn T bt (skp T bt p), nx y (skp T bt p)) := by
    refine loop_seq (fun k => nx y (p + k)) (skD T bt p) (by unfold skD; omega) ?_ ?_
    · intro K k hk
      unfold skD at hk
      have hb := hs.1 k hk
      simp only [Bool.not_eq_false', decide_eq_true_iff] at hb
      have hin : inB (Int32.ofNat (p + k)) 400 = true := zI_in (by omega) (by decide)
      unfold g4_see_0
      rw [nx_ne (by decide), hO.1, nx_at, zif_le (by omega) (by omega), if_neg (by omega), chk_h hin, zI_nat (by omega), hO.2 _ (by omega), if_pos hb, zI_succ]
      congr 1
      show nx (nx y (p + k)) (p + k + 1) = _
      rw [nx_nx]; rfl
    · intro K
      show g4_see_0 K (nx y (skp T bt p)) = _
      have hq := skp_le (bt := bt) hp
      have hnot := skp_not (T := T) (bt := bt) (p := p)
      generalize skp T bt p = q at hq hnot ⊢
      have hin : q < T → inB (Int32.ofNat q) 400 = true := fun hh => zI_in (by omega) (by decide)
      unfold g4_see_0 g4_see_44 sgn
      rw [nx_ne (by decide), hO.1, nx_at, zif_le (by omega) (by omega), zif_le (by omega) (by omega)]
      by_cases c : q < T
      · have c' : ¬ T ≤ q := by omega
        simp only [if_neg c', if_pos c, chk_h (hin c), zI_nat (show q < 2147483648 by omega), hO.2 _ c, if_neg (hnot c)]
      · have c' : T ≤ q := by omega
        simp only [if_pos c', if_neg c]
  rw [← nx_id h2]
  rw [Nat.add_zero] at key
  rw [nx_nx]; exact key
theorem f3_sign_eq (hB : TpB T bt) (hM : TpM s T bt) (hp : p ≤ T) (h2 : s.1 32 = Int32.ofNat p) : f3_sign s = some (sgn T bt p) := by
  have hT := hB.1
  unfold f3_sign sgn
  rw [hM.1, h2, zif_le (by omega) (by omega)]
  by_cases c : p < T
  · have hin : inB (Int32.ofNat p) 400 = true := zI_in (by omega) (by decide)
    rw [if_neg (by omega), if_pos c, chk_h hin, zI_nat (by omega), hM.2 _ c]
  · rw [if_pos (by omega), if_neg c]
theorem sgn_c (hB : TpB T bt) {c : Nat} (hc : c < 128) : (sgn T bt p = Int32.ofNat c) ↔ (p < T ∧ bt p = Int32.ofNat c) := by
  unfold sgn
  by_cases h : p < T
  · rw [if_pos h, byte_c (hB.2 p h).1 (hB.2 p h).2 hc]
    exact ⟨fun z => ⟨h, z⟩, fun z => z.2⟩
  · rw [if_neg h]
    exact ⟨fun z => absurd z.symm (nat_m1 (by omega)), fun z => absurd z.1 h⟩
theorem f3_blanks_eq (hB : TpB T bt) (hM : TpM s T bt) (hp : p ≤ T) (h2 : s.1 32 = Int32.ofNat p) : f3_blanks s = some (ps s (skp T bt p)) := by
  have hT := hB.1
  have hl := fsN_le (fun d => !decide (bt (p + d) = 32)) (T - p)
  have hs := fsN_spec (fun d => !decide (bt (p + d) = 32)) (T - p)
  have key : loop (g3_blanks_0) FU (ps s (p + 0)) = some (ps s (skp T bt p)) := by
    refine loop_seq (fun k => ps s (p + k)) (skD T bt p) (by unfold skD; omega) ?_ ?_
    · intro K k hk
      unfold skD at hk
      have hb := hs.1 k hk
      simp only [Bool.not_eq_false', decide_eq_true_iff] at hb
      unfold g3_blanks_0
      rw [f3_sign_eq hB hM.ps (by omega) ps_at, bnd_s, if_pos (show sgn T bt (p + k) = (32 : Int32) from (sgn_c hB (c := 32) (by omega)).mpr ⟨by omega, hb⟩), ps_at, zI_succ]
      congr 1
      show ps (ps s (p + k)) (p + k + 1) = _
      rw [ps_ps]; rfl
    · intro K
      show g3_blanks_0 K (ps s (skp T bt p)) = _
      have hq := skp_le (bt := bt) hp
      have hnot := skp_not (T := T) (bt := bt) (p := p)
      generalize skp T bt p = q at hq hnot ⊢
      unfold g3_blanks_0
      rw [f3_sign_eq hB hM.ps hq ps_at, bnd_s, if_neg (fun z => by
        have := (sgn_c hB (c := 32) (by omega)).mp z
        exact hnot this.1 this.2)]
  unfold f3_blanks
  rw [← key, Nat.add_zero, ps_id h2]
theorem f4_isDigit_eq (hB : TpB T bt) (hO : TpO y T bt) (hp : p ≤ T) : f4_isDigit y (Int32.ofNat p) = some (b2 (dgB T bt p)) := by
  have hT := hB.1
  unfold f4_isDigit dgB
  rw [hO.1, zif_le (by omega) (by omega)]
  by_cases c : p < T
  · have hin : inB (Int32.ofNat p) 400 = true := zI_in (by omega) (by decide)
    rw [if_neg (by omega), chk_h hin, zI_nat (by omega), hO.2 _ c, decide_eq_true c, Bool.true_and]
    by_cases c1 : bt p < 48
    · rw [if_pos c1, decide_eq_false (Int32.not_le.mpr c1)]; rfl
    · rw [if_neg c1, chk_h hin, decide_eq_true (Int32.not_lt.mp c1), Bool.true_and]
      by_cases c2 : 57 < bt p
      · rw [if_pos c2, decide_eq_false (Int32.not_le.mpr c2)]; rfl
      · rw [if_neg c2, decide_eq_true (Int32.not_lt.mp c2)]; rfl
  · rw [if_pos (by omega), decide_eq_false c]; rfl
theorem f3_isDigit_eq (hB : TpB T bt) (hM : TpM s T bt) (hp : p ≤ T) (h2 : s.1 32 = Int32.ofNat p) : f3_isDigit s = some (b2 (dgB T bt p)) := by
  have hT := hB.1
  unfold f3_isDigit dgB
  have e3 := f3_in32 (sgn T bt p) 48 57
  change f3_in (sgn T bt p).toInt64 (48 : Int64) (57 : Int64) = _ at e3
  rw [f3_sign_eq hB hM hp h2, bnd_s, e3, bnd_s, chk_h (isB_b2 _)]
  congr 2
  unfold sgn
  by_cases c : p < T
  · rw [if_pos c, byte_d (hB.2 p c).1 (hB.2 p c).2, decide_eq_true c, Bool.true_and]
  · rw [if_neg c, decide_eq_false c]; rfl
theorem f4_letters_eq (hB : TpB T bt) (hO : TpO y T bt) (hp : p ≤ T) (h2 : (y 14).1 2 = Int32.ofNat p) : f4_letters y = some (Int32.ofNat (lnN T bt (skp T bt p)), nx y (skp T bt p)) := by
  have hT := hB.1
  unfold f4_letters
  rw [f4_see_eq hB hO hp h2, bnd2_s]
  have hq := skp_le (bt := bt) hp
  generalize skp T bt p = q at hq ⊢
  have hl := fsN_le (fun d => !lwB bt (q + d)) (T - q)
  have hs := fsN_spec (fun d => !lwB bt (q + d)) (T - q)
  have one : ∀ (K : Int32 → Option (Int32 × (Nat → Bl))) (d : Nat), q + d < T → g4_letters_7 (nx y q) K (Int32.ofNat d) = if lwB bt (q + d) = true then K (Int32.ofNat (d + 1)) else some (Int32.ofNat d, nx y q) := by
    intro K d hd
    have hin : inB (Int32.ofNat (q + d)) 400 = true := zI_in (by omega) (by decide)
    unfold g4_letters_7 lwB
    rw [nx_ne (by decide), hO.1, nx_at, ← Int32.ofNat_add, zif_le (by omega) (by omega), if_neg (by omega), chk_h hin, zI_nat (by omega), hO.2 _ hd, zI_succ]
    by_cases c1 : bt (q + d) < 97
    · rw [if_pos c1, decide_eq_false (Int32.not_le.mpr c1)]; rfl
    · rw [if_neg c1, chk_h hin, decide_eq_true (Int32.not_lt.mp c1), Bool.true_and]
      by_cases c2 : 122 < bt (q + d)
      · rw [if_pos c2, decide_eq_false (Int32.not_le.mpr c2)]; rfl
      · rw [if_neg c2, decide_eq_true (Int32.not_lt.mp c2)]; rfl
  refine loop_seq (fun d => Int32.ofNat d) (lnN T bt q) (by unfold lnN; omega) ?_ ?_
  · intro K d hd
    unfold lnN at hd
    have hb := hs.1 d hd
    simp only [Bool.not_eq_false'] at hb
    rw [one K d (by omega), if_pos hb]
  · intro K
    by_cases c : lnN T bt q < T - q
    · have hb := hs.2 c
      simp only [Bool.not_eq_true'] at hb
      have hb : lwB bt (q + lnN T bt q) = false := hb
      rw [one K _ (by omega), hb]; rfl
    · have e : lnN T bt q = T - q := by unfold lnN at c ⊢; omega
      unfold g4_letters_7
      rw [nx_ne (by decide), hO.1, nx_at, ← Int32.ofNat_add, zif_le (by omega) (by omega), if_pos (by omega)]
theorem f4_isWord_eq (hB : TpB T bt) (hO : TpO y T bt) (hp : p ≤ T) (h2 : (y 14).1 2 = Int32.ofNat p) {k : Nat} (hk : k < 23) : f4_isWord y k = some (b2 (isW T bt (skp T bt p) k), nx y (skp T bt p)) := by
  have hT := hB.1
  have hkd : decide (k < 23) = true := decide_eq_true hk
  unfold f4_isWord
  rw [f4_letters_eq hB hO hp h2, bnd2_s, chk_h hkd]
  have hq := skp_le (bt := bt) hp
  generalize skp T bt p = q at hq ⊢
  have hln := lnN_le (bt := bt) hq
  have hlen : (sBy k).length < 100 := (by decide : ∀ k, k < 23 → (sBy k).length < 100) k hk
  rw [zif_eq (by omega) (by omega)]
  unfold isW
  by_cases c : lnN T bt q = (sBy k).length
  · rw [if_pos c, decide_eq_true c, Bool.true_and]
    have hl := fsN_le (fun i => !decide ((sBy k).getD i 0 = bt (q + i))) (sBy k).length
    have hs := fsN_spec (fun i => !decide ((sBy k).getD i 0 = bt (q + i))) (sBy k).length
    have one : ∀ (K : Int32 × Int32 → Option (Int32 × (Nat → Bl))) (i : Nat), i < (sBy k).length → g4_isWord_22 (nx y q) k (Int32.ofNat (lnN T bt q)) K ((1 : Int32), Int32.ofNat i) = if (sBy k).getD i 0 = bt (q + i) then K ((1 : Int32), Int32.ofNat (i + 1)) else K ((0 : Int32), Int32.ofNat (i + 1)) := by
      intro K i hi
      have hin : inB (Int32.ofNat (q + i)) 400 = true := zI_in (by omega) (by decide)
      have hin2 : inB (Int32.ofNat i) (sBy k).length = true := zI_in hi (by omega)
      simp only [g4_isWord_22]
      rw [if_neg (show ¬ (1 : Int32) = 0 by decide), zif_le (by omega) (by omega), if_neg (by omega), chk_h hkd, chk_h hin2, nx_at, ← Int32.ofNat_add, chk_h hin, zI_nat (by omega), zI_nat (by omega), nx_ne (by decide), hO.2 _ (by omega), zI_succ]
    refine loop_seq (fun i => if i ≤ msN bt q k then ((1 : Int32), Int32.ofNat i) else ((0 : Int32), Int32.ofNat i)) (if msN bt q k < (sBy k).length then msN bt q k + 1 else msN bt q k) (by unfold msN; split <;> omega) ?_ ?_
    · intro K i hi
      have him : i ≤ msN bt q k := by split at hi <;> omega
      have hil : i < (sBy k).length := by unfold msN at hi him; split at hi <;> omega
      rw [if_pos him, one K i hil]
      by_cases ci : i < msN bt q k
      · have hb := hs.1 i ci
        simp only [Bool.not_eq_false', decide_eq_true_iff] at hb
        rw [if_pos hb, if_pos (by omega)]
      · have e : i = msN bt q k := by omega
        have hb := hs.2 (by unfold msN at e; omega)
        simp only [Bool.not_eq_true', decide_eq_false_iff_not] at hb
        have hb : ¬ (sBy k).getD (msN bt q k) 0 = bt (q + msN bt q k) := hb
        rw [e, if_neg hb, if_neg (by omega)]
    · intro K
      by_cases cm : msN bt q k < (sBy k).length
      · rw [if_pos cm, if_neg (by omega), decide_eq_false (by omega)]
        simp only [g4_isWord_22]
        rw [if_pos trivial]; rfl
      · rw [if_neg cm, if_pos (Nat.le_refl _), decide_eq_true (by unfold msN at cm ⊢; omega)]
        have e : msN bt q k = (sBy k).length := by unfold msN at cm ⊢; omega
        simp only [g4_isWord_22]
        rw [if_neg (show ¬ (1 : Int32) = 0 by decide), zif_le (by omega) (by omega), if_pos (by omega)]; rfl
  · rw [if_neg c, decide_eq_false c, Bool.false_and]
    refine loop_seq (fun _ => ((0 : Int32), (0 : Int32))) 0 (by omega) (fun _ k hk => absurd hk (Nat.not_lt_zero k)) ?_
    intro K
    simp only [g4_isWord_22]
    rw [if_pos trivial]; rfl
theorem f3_stood_eq (hB : TpB T bt) (hM : TpM s T bt) (hp : p ≤ T) (h2 : s.1 32 = Int32.ofNat p) {k : Nat} (hk : k < 23) : f3_stood s k = some (b2 (isW T bt p k)) := by
  have hT := hB.1
  have hkd : decide (k < 23) = true := decide_eq_true hk
  have hl := fsN_le (fun d => !lwB bt (p + d)) (T - p)
  have hs := fsN_spec (fun d => !lwB bt (p + d)) (T - p)
  have hlen : (sBy k).length < 100 := (by decide : ∀ k, k < 23 → (sBy k).length < 100) k hk
  have hln := lnN_le (bt := bt) hp
  have g41 : g3_stood_41 s k (Int32.ofNat (p + lnN T bt p)) = some (b2 (isW T bt p k)) := by
    unfold g3_stood_41 isW
    rw [chk_h hkd, h2, show Int32.ofNat (p + lnN T bt p) - Int32.ofNat p = Int32.ofNat (lnN T bt p) by rw [Nat.add_comm, Int32.ofNat_add, Int32.add_sub_cancel], zif_eq (by omega) (by omega)]
    by_cases c : lnN T bt p = (sBy k).length
    · rw [if_pos c, decide_eq_true c, Bool.true_and]
      have hl := fsN_le (fun i => !decide ((sBy k).getD i 0 = bt (p + i))) (sBy k).length
      have hs := fsN_spec (fun i => !decide ((sBy k).getD i 0 = bt (p + i))) (sBy k).length
      have one : ∀ (K : Int32 × Int32 → Option Int32) (i : Nat), i < (sBy k).length → g3_stood_63 s k K ((1 : Int32), Int32.ofNat i) = if (sBy k).getD i 0 = bt (p + i) then K ((1 : Int32), Int32.ofNat (i + 1)) else K ((0 : Int32), Int32.ofNat (i + 1)) := by
        intro K i hi
        have hin : inB (Int32.ofNat (p + i)) 400 = true := zI_in (by omega) (by decide)
        have hin2 : inB (Int32.ofNat i) (sBy k).length = true := zI_in hi (by omega)
        simp only [g3_stood_63]
        rw [chk_h hkd, zif_le (by omega) (by omega), if_neg (by omega), if_neg (show ¬ (1 : Int32) = 0 by decide), h2, ← Int32.ofNat_add, chk_h hin, chk_h hkd, chk_h hin2, zI_nat (by omega), zI_nat (by omega), hM.2 _ (by omega), zI_succ]
        by_cases ce : (sBy k).getD i 0 = bt (p + i)
        · rw [if_pos ce, if_pos ce.symm]
        · rw [if_neg ce, if_neg (fun z => ce z.symm)]
      refine loop_seq (fun i => if i ≤ msN bt p k then ((1 : Int32), Int32.ofNat i) else ((0 : Int32), Int32.ofNat i)) (if msN bt p k < (sBy k).length then msN bt p k + 1 else msN bt p k) (by unfold msN; split <;> omega) ?_ ?_
      · intro K i hi
        have him : i ≤ msN bt p k := by split at hi <;> omega
        have hil : i < (sBy k).length := by unfold msN at hi him; split at hi <;> omega
        rw [if_pos him, one K i hil]
        by_cases ci : i < msN bt p k
        · have hb := hs.1 i ci
          simp only [Bool.not_eq_false', decide_eq_true_iff] at hb
          rw [if_pos hb, if_pos (by omega)]
        · have e : i = msN bt p k := by omega
          have hb := hs.2 (by unfold msN at e; omega)
          simp only [Bool.not_eq_true', decide_eq_false_iff_not] at hb
          have hb : ¬ (sBy k).getD (msN bt p k) 0 = bt (p + msN bt p k) := hb
          rw [e, if_neg hb, if_neg (by omega)]
      · intro K
        by_cases cm : msN bt p k < (sBy k).length
        · rw [if_pos cm, if_neg (by omega), decide_eq_false (by omega)]
          simp only [g3_stood_63]
          rw [chk_h hkd, zif_le (by omega) (by omega)]
          split
          · rfl
          · rw [if_pos trivial]; rfl
        · rw [if_neg cm, if_pos (Nat.le_refl _), decide_eq_true (by unfold msN at cm ⊢; omega)]
          have e : msN bt p k = (sBy k).length := by unfold msN at cm ⊢; omega
          simp only [g3_stood_63]
          rw [chk_h hkd, zif_le (by omega) (by omega), if_pos (by omega)]; rfl
    · rw [if_neg c, decide_eq_false c, Bool.false_and]
      refine loop_seq (fun _ => ((0 : Int32), (0 : Int32))) 0 (by omega) (fun _ k hk => absurd hk (Nat.not_lt_zero k)) ?_
      intro K
      simp only [g3_stood_63]
      rw [chk_h hkd]
      split
      · rfl
      · rw [if_pos trivial]; rfl
  have one : ∀ (K : Int32 → Option Int32) (d : Nat), p + d < T → g3_stood_5 s k K (Int32.ofNat (p + d)) = if lwB bt (p + d) = true then K (Int32.ofNat (p + (d + 1))) else g3_stood_41 s k (Int32.ofNat (p + d)) := by
    intro K d hd
    have hin : inB (Int32.ofNat (p + d)) 400 = true := zI_in (by omega) (by decide)
    unfold g3_stood_5 lwB
    rw [hM.1, zif_le (by omega) (by omega), if_neg (by omega), chk_h hin, zI_nat (by omega), hM.2 _ hd, zI_succ]
    by_cases c1 : bt (p + d) < 97
    · rw [if_pos c1, decide_eq_false (Int32.not_le.mpr c1)]; rfl
    · rw [if_neg c1, chk_h hin, decide_eq_true (Int32.not_lt.mp c1), Bool.true_and]
      by_cases c2 : 122 < bt (p + d)
      · rw [if_pos c2, decide_eq_false (Int32.not_le.mpr c2)]; rfl
      · rw [if_neg c2, decide_eq_true (Int32.not_lt.mp c2)]; rfl
  have key : loop (g3_stood_5 s k) FU (Int32.ofNat (p + 0)) = some (b2 (isW T bt p k)) := by
    refine loop_seq (fun d => Int32.ofNat (p + d)) (lnN T bt p) (by unfold lnN; omega) ?_ ?_
    · intro K d hd
      unfold lnN at hd
      have hb := hs.1 d hd
      simp only [Bool.not_eq_false'] at hb
      rw [one K d (by omega), if_pos hb]
    · intro K
      by_cases c : lnN T bt p < T - p
      · have hb := hs.2 c
        simp only [Bool.not_eq_true'] at hb
        have hb : lwB bt (p + lnN T bt p) = false := hb
        rw [one K _ (by omega), hb]; exact g41
      · have e : lnN T bt p = T - p := by unfold lnN at c ⊢; omega
        unfold g3_stood_5
        rw [hM.1, zif_le (by omega) (by omega), if_pos (by omega)]; exact g41
  unfold f3_stood
  rw [h2]; exact key
end P

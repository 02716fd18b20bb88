/-! PLAIN LAW: the Model's ropes go, one by one from above -/
set_option maxRecDepth 100000
/-- what else stays: arrays but As, scalars but Ss, fields but Is -/
def Fm (As Ss Is : List Nat) (M M' : Bl) : Prop := (∀ f, f ∉ Is → M'.1 f = M.1 f) ∧ (∀ k, k ∉ As → k ≠ 1 → M'.2.1 k = M.2.1 k) ∧ (∀ i, i ∉ Ss → M'.2.1 1 i = M.2.1 1 i) ∧ M'.2.2 = M.2.2
theorem Fm.refl {M : Bl} : Fm [] [] [] M M := ⟨fun _ _ => rfl, fun _ _ _ => rfl, fun _ _ => rfl, rfl⟩
theorem Fm.trans {A S I A' S' I' : List Nat} {M M' M'' : Bl} (h : Fm A S I M M') (h' : Fm A' S' I' M' M'') : Fm (A ++ A') (S ++ S') (I ++ I') M M'' := by
  refine ⟨fun f hf => ?_, fun k hk h1 => ?_, fun i hi => ?_, h'.2.2.2.trans h.2.2.2⟩
  · rw [List.mem_append, not_or] at hf; exact (h'.1 f hf.2).trans (h.1 f hf.1)
  · rw [List.mem_append, not_or] at hk; exact (h'.2.1 k hk.2 h1).trans (h.2.1 k hk.1 h1)
  · rw [List.mem_append, not_or] at hi; exact (h'.2.2.1 i hi.2).trans (h.2.2.1 i hi.1)
theorem Fm.weak {A S I A' S' I' : List Nat} {M M' : Bl} (h : Fm A S I M M') (hA : A ⊆ A' := by decide) (hS : S ⊆ S' := by decide) (hI : I ⊆ I' := by decide) : Fm A' S' I' M M' :=
  ⟨fun f hf => h.1 f (fun z => hf (hI z)), fun k hk h1 => h.2.1 k (fun z => hk (hA z)) h1, fun i hi => h.2.2.1 i (fun z => hi (hS z)), h.2.2.2⟩
theorem Fm.arr {A S I : List Nat} {M M' : Bl} (h : Fm A S I M M') (k : Nat) (hk : k ∉ A := by decide) (h1 : k ≠ 1 := by decide) : M'.2.1 k = M.2.1 k := h.2.1 k hk h1
theorem Fm.sc {A S I : List Nat} {M M' : Bl} (h : Fm A S I M M') (i : Nat) (hi : i ∉ S := by decide) : M'.2.1 1 i = M.2.1 1 i := h.2.2.1 i hi
theorem Fm.fld {A S I : List Nat} {M M' : Bl} (h : Fm A S I M M') (f : Nat) (hf : f ∉ I := by decide) : M'.1 f = M.1 f := h.1 f hf
theorem Fm.ba {M : Bl} {k i : Nat} {v : Int32} (h1 : k ≠ 1) : Fm [k] [] [] M (bA M k i v) := by
  refine ⟨fun _ _ => rfl, fun j hj _ => ?_, fun j _ => ?_, rfl⟩
  · have : ¬ j = k := fun z => hj (by rw [z]; exact List.mem_cons_self)
    simp [bA, bS, this]
  · have : ¬ 1 = k := fun z => h1 z.symm
    simp [bA, bS, this]
theorem Fm.bs {M : Bl} {k : Nat} {g : Nat → Int32} (h1 : k ≠ 1) : Fm [k] [] [] M (bS M k g) := by
  refine ⟨fun _ _ => rfl, fun j hj _ => ?_, fun j _ => ?_, rfl⟩
  · have : ¬ j = k := fun z => hj (by rw [z]; exact List.mem_cons_self)
    simp [bS, this]
  · have : ¬ 1 = k := fun z => h1 z.symm
    simp [bS, this]
theorem Fm.ba1 {M : Bl} {i : Nat} {v : Int32} : Fm [] [i] [] M (bA M 1 i v) := by
  refine ⟨fun _ _ => rfl, fun j _ h1 => ?_, fun j hj => ?_, rfl⟩
  · simp [bA, bS, h1]
  · have : ¬ j = i := fun z => hj (by rw [z]; exact List.mem_cons_self)
    simp [bA, bS, upd, this]
theorem Fm.bi {M : Bl} {f : Nat} {v : Int32} : Fm [] [] [f] M (bI M f v) := by
  refine ⟨fun j hj => ?_, fun _ _ _ => rfl, fun _ _ => rfl, rfl⟩
  have : ¬ j = f := fun z => hj (by rw [z]; exact List.mem_cons_self)
  simp [bI, this]
def bR3 (M : Bl) (f g h : Nat → Int32) : Bl := (M.1, fun k => if k = 11 then f else if k = 12 then g else if k = 13 then h else M.2.1 k, M.2.2)
theorem bR3_self (M : Bl) : bR3 M (M.2.1 11) (M.2.1 12) (M.2.1 13) = M := by
  obtain ⟨x, y, z⟩ := M
  simp only [bR3, Prod.mk.injEq, true_and, and_true]
  funext k
  by_cases h1 : k = 11
  · subst h1; simp
  · by_cases h2 : k = 12
    · subst h2; simp
    · by_cases h3 : k = 13
      · subst h3; simp
      · simp [h1, h2, h3]
theorem bR3_all {M : Bl} {f g h : Nat → Int32} {i : Nat} {u v w : Int32} : bA (bA (bA (bR3 M f g h) 11 i u) 12 i v) 13 i w = bR3 M (upd f i u) (upd g i v) (upd h i w) := by
  simp only [bR3, bA, bS, Prod.mk.injEq, true_and, and_true]
  funext k
  by_cases h1 : k = 11
  · subst h1; simp
  · by_cases h2 : k = 12
    · subst h2; simp
    · by_cases h3 : k = 13
      · subst h3; simp
      · simp [h1, h2, h3]
def shf (k j : Nat) (f : Nat → Int32) (i : Nat) : Int32 := if k ≤ i ∧ i < j then f (i + 1) else f i
theorem shf_zero (k : Nat) (f : Nat → Int32) : shf k k f = f := by
  funext i; unfold shf; rw [if_neg (by omega)]
theorem shf_succ {k j : Nat} {f : Nat → Int32} (h : k ≤ j) : upd (shf k j f) j (shf k j f (j + 1)) = shf k (j + 1) f := by
  funext i
  unfold upd shf
  by_cases e : i = j
  · subst e; rw [if_pos rfl, if_neg (by omega), if_pos (by omega)]
  · rw [if_neg e]
    by_cases e2 : k ≤ i ∧ i < j
    · rw [if_pos e2, if_pos (by omega)]
    · rw [if_neg e2, if_neg (by omega)]
def rg (M : Bl) (k n : Nat) : Bl := bA (bR3 M (shf k (n - 1) (M.2.1 11)) (shf k (n - 1) (M.2.1 12)) (shf k (n - 1) (M.2.1 13))) 1 4 (Int32.ofNat (n - 1))
theorem f3_ropeGoes_eq {M : Bl} {k n : Nat} (hn : M.2.1 1 4 = Int32.ofNat n) (h12 : n ≤ 12) (hk : k < n) : f3_ropeGoes M (Int32.ofNat k) = some (rg M k n) := by
  unfold f3_ropeGoes
  have e0 : bR3 M (shf k (k + 0) (M.2.1 11)) (shf k (k + 0) (M.2.1 12)) (shf k (k + 0) (M.2.1 13)) = M := by
    rw [Nat.add_zero, shf_zero, shf_zero, shf_zero, bR3_self]
  refine Eq.trans ?_ (loop_seq (body := g3_ropeGoes_2) (fun j => (bR3 M (shf k (k + j) (M.2.1 11)) (shf k (k + j) (M.2.1 12)) (shf k (k + j) (M.2.1 13)), Int32.ofNat (k + j))) (n - 1 - k) (by omega) ?_ ?_)
  · (try dsimp only); rw [e0]; rfl
  · intro K j hj
    simp only [g3_ropeGoes_2]
    have e4 : (bR3 M (shf k (k + j) (M.2.1 11)) (shf k (k + j) (M.2.1 12)) (shf k (k + j) (M.2.1 13))).2.1 1 4 = Int32.ofNat n := hn
    rw [e4, zI_succ, if_on (by omega) (by omega), chk_h (zI_in (by omega) (by decide)), chk_h (zI_in (by omega) (by decide)), chk_h (zI_in (by omega) (by decide)), chk_h (zI_in (by omega) (by decide)), ltv_s, chk_h (zI_in (by omega) (by decide)), chk_h (zI_in (by omega) (by decide)), zI_nat (by omega), zI_nat (by omega)]
    have e5 := bR3_all (M := M) (f := shf k (k + j) (M.2.1 11)) (g := shf k (k + j) (M.2.1 12)) (h := shf k (k + j) (M.2.1 13)) (i := k + j) (u := shf k (k + j) (M.2.1 11) (k + j + 1)) (v := shf k (k + j) (M.2.1 12) (k + j + 1)) (w := shf k (k + j) (M.2.1 13) (k + j + 1))
    rw [shf_succ (by omega), shf_succ (by omega), shf_succ (by omega)] at e5
    exact congrArg (fun z => K (z, Int32.ofNat (k + j + 1))) e5
  · intro K
    simp only [g3_ropeGoes_2]
    have e4 : (bR3 M (shf k (k + (n - 1 - k)) (M.2.1 11)) (shf k (k + (n - 1 - k)) (M.2.1 12)) (shf k (k + (n - 1 - k)) (M.2.1 13))).2.1 1 4 = Int32.ofNat n := hn
    rw [e4, zI_succ, zI_pred (by omega)]
    have e5 : k + (n - 1 - k) = n - 1 := by omega
    rw [e5, show n - 1 + 1 = n by omega, if_off]
    rfl
theorem rg_frame {M : Bl} {k n : Nat} : Fm [11, 12, 13] [4] [] M (rg M k n) := by
  have h1 : Fm [11, 12, 13] [] [] M (bR3 M (shf k (n - 1) (M.2.1 11)) (shf k (n - 1) (M.2.1 12)) (shf k (n - 1) (M.2.1 13))) := by
    refine ⟨fun _ _ => rfl, fun j hj _ => ?_, fun _ _ => rfl, rfl⟩
    simp only [List.mem_cons, List.not_mem_nil, or_false, not_or] at hj
    simp [bR3, hj.1, hj.2.1, hj.2.2]
  exact (h1.trans Fm.ba1).weak
theorem rg_n {M : Bl} {k n : Nat} : (rg M k n).2.1 1 4 = Int32.ofNat (n - 1) := by simp [rg, bA, bS, upd]
theorem rg_rl {M : Bl} {k n : Nat} (hk : k < n) : rl ((rg M k n).2.1 11) ((rg M k n).2.1 12) ((rg M k n).2.1 13) (n - 1) = (rl (M.2.1 11) (M.2.1 12) (M.2.1 13) n).take k ++ (rl (M.2.1 11) (M.2.1 12) (M.2.1 13) n).drop (k + 1) := by
  have e1 : (rg M k n).2.1 11 = shf k (n - 1) (M.2.1 11) := by simp [rg, bA, bS, bR3]
  have e2 : (rg M k n).2.1 12 = shf k (n - 1) (M.2.1 12) := by simp [rg, bA, bS, bR3]
  have e3 : (rg M k n).2.1 13 = shf k (n - 1) (M.2.1 13) := by simp [rg, bA, bS, bR3]
  rw [e1, e2, e3]
  refine List.ext_getElem? fun i => ?_
  rw [rl_get, List.getElem?_append, List.length_take, rl_len, List.getElem?_take, List.getElem?_drop, rl_get, rl_get]
  by_cases h1 : i < k
  · rw [if_pos (by omega), if_pos (by omega), if_pos h1, if_pos (by omega)]
    simp only [shf]
    rw [if_neg (by omega), if_neg (by omega), if_neg (by omega)]
  · rw [if_neg (show ¬ i < min k n by omega)]
    have e9 : k + 1 + (i - min k n) = i + 1 := by omega
    rw [e9]
    by_cases h2 : i < n - 1
    · rw [if_pos h2, if_pos (by omega)]
      simp only [shf]
      rw [if_pos (by omega), if_pos (by omega), if_pos (by omega)]
    · rw [if_neg h2, if_neg (by omega)]
/-- of the ropes L those from k on are sifted -/
def TD (L : List Tr) (P : Tr → Bool) (k : Nat) (s : Bl) : Prop := ∃ m, s.2.1 1 4 = Int32.ofNat m ∧ m ≤ 12 ∧ rl (s.2.1 11) (s.2.1 12) (s.2.1 13) m = L.take k ++ (L.drop k).filter (fun x => !P x)
theorem TD_at {L : List Tr} {P : Tr → Bool} {k : Nat} {s : Bl} (h : TD L P k s) {i : Nat} (hi : i < k) (hk : k ≤ L.length) : L[i]? = some (s.2.1 11 i, s.2.1 12 i, s.2.1 13 i) := by
  obtain ⟨m, -, -, e⟩ := h
  have hm : k ≤ m := by
    have := congrArg List.length e
    rw [rl_len, List.length_append, List.length_take] at this; omega
  have := congrArg (fun l => l[i]?) e
  simp only [rl_get] at this
  rw [if_pos (by omega), List.getElem?_append_left (by rw [List.length_take]; omega), List.getElem?_take, if_pos hi] at this
  exact this.symm
theorem drop_at {α : Type} {L : List α} {k : Nat} {x : α} (h : L[k]? = some x) : L.drop k = x :: L.drop (k + 1) := by
  obtain ⟨hl, e⟩ := List.getElem?_eq_some_iff.mp h
  rw [List.drop_eq_getElem_cons hl, e]
theorem take_at {α : Type} {L : List α} {k : Nat} {x : α} (h : L[k]? = some x) : L.take (k + 1) = L.take k ++ [x] := by
  rw [List.take_add_one, h]; rfl
theorem TD_keep {L : List Tr} {P : Tr → Bool} {k : Nat} {s : Bl} {x : Tr} (h : TD L P (k + 1) s) (hx : L[k]? = some x) (hp : P x = false) : TD L P k s := by
  obtain ⟨m, h1, h2, e⟩ := h
  refine ⟨m, h1, h2, ?_⟩
  rw [e, drop_at hx, take_at hx, List.filter_cons, hp]
  simp
theorem TD_go {L : List Tr} {P : Tr → Bool} {k : Nat} {s : Bl} {x : Tr} (h : TD L P (k + 1) s) (hx : L[k]? = some x) (hp : P x = true) : ∃ s', f3_ropeGoes s (Int32.ofNat k) = some s' ∧ TD L P k s' ∧ Fm [11, 12, 13] [4] [] s s' := by
  obtain ⟨m, h1, h2, e⟩ := h
  have hl := (List.getElem?_eq_some_iff.mp hx).1
  have hm : k < m := by
    have := congrArg List.length e
    rw [rl_len, List.length_append, List.length_take] at this; omega
  refine ⟨rg s k m, f3_ropeGoes_eq h1 h2 hm, ⟨m - 1, rg_n, by omega, ?_⟩, rg_frame⟩
  rw [rg_rl hm, e, drop_at hx, List.filter_cons, hp]
  have hlt : (L.take (k + 1)).length = k + 1 := by rw [List.length_take]; omega
  rw [List.take_append_of_le_length (by omega), List.take_take, Nat.min_eq_left (by omega), List.drop_append, hlt, List.drop_eq_nil_of_le (by omega), Nat.sub_self, List.drop_zero, List.nil_append]
  rfl
def tch (S : Int32) (x : Tr) : Bool := bit S x.1.toNatClampNeg || bit S x.2.1.toNatClampNeg
def rlM (a : Ar) : List Tr := rl (a 11) (a 12) (a 13) (cR a)
theorem rlM_get {a : Ar} {i : Nat} : (rlM a)[i]? = if i < cR a then some (a 11 i, a 12 i, a 13 i) else none := rl_get i
theorem rlM_len {a : Ar} : (rlM a).length = cR a := rl_len
theorem TD_start {a : Bl} {P : Tr → Bool} (g : GC a.2.1) : TD (rlM a.2.1) P (cR a.2.1) a := by
  refine ⟨cR a.2.1, g.2.2.1.1, g.2.2.1.2, ?_⟩
  rw [List.take_of_length_le (by rw [rlM_len]; exact Nat.le_refl _), List.drop_eq_nil_of_le (by rw [rlM_len]; exact Nat.le_refl _)]
  simp [rlM]
theorem TD_end {L : List Tr} {P : Tr → Bool} {s : Bl} (h : TD L P 0 s) : s.2.1 1 4 = Int32.ofNat (cR s.2.1) ∧ cR s.2.1 ≤ 12 ∧ rlM s.2.1 = L.filter (fun x => !P x) := by
  obtain ⟨m, h1, h2, e⟩ := h
  have hc : cR s.2.1 = m := by rw [cR, h1, zI_nat (by omega)]
  rw [rlM, hc]
  exact ⟨h1, h2, e⟩
theorem zif_m1 {α : Type} {A B : α} : (if Int32.ofNat 0 - (1 : Int32) < 0 then A else B) = A := if_pos (by decide)
theorem zif_neg {α : Type} {A B : α} {a : Nat} (ha : a < 2147483648) : (if Int32.ofNat a < 0 then A else B) = B := if_neg (by rw [zI_neg ha]; exact fun z => z)
theorem m1_lt : (Int32.ofNat 0 - (1 : Int32) < 0) = True := by decide
theorem pred_s (k : Nat) : Int32.ofNat (k + 1) - (1 : Int32) = Int32.ofNat k := zI_pred (Nat.succ_pos k)
theorem add_m1 (k : Nat) : Int32.ofNat k + (-1 : Int32) = Int32.ofNat k - 1 := by rw [Int32.sub_eq_add_neg]
theorem f3_ropesGoOf_eq {M : Bl} {S fl : Int32} (g : GC M.2.1) (hr : RE M.2.1) : ∃ M' : Bl, f3_ropesGoOf M S fl = some (Int32.ofNat ((rlM M.2.1).filter (tch S)).length, M') ∧ Fm [11, 12, 13] [1, 4] [] M M' ∧ (M'.2.1 1 4 = Int32.ofNat (cR M'.2.1) ∧ cR M'.2.1 ≤ 12 ∧ rlM M'.2.1 = (rlM M.2.1).filter (fun x => !tch S x)) ∧ M'.2.1 1 1 = if fl = 0 then M.2.1 1 1 else M.2.1 1 1 + sumL ((rlM M.2.1).filter (tch S)) := by
  have h12 := g.2.2.1.2
  unfold f3_ropesGoOf
  generalize hL : rlM M.2.1 = L
  have hlen : L.length = cR M.2.1 := by rw [← hL]; exact rlM_len
  obtain ⟨s9, ⟨k, hk, e4, e3, i1, i2, i3⟩, hx, hG⟩ := loop_out (body := g3_ropesGoOf_12 S fl)
    (fun s => ∃ k, k ≤ cR M.2.1 ∧ s.2.2 = Int32.ofNat k - 1 ∧ s.2.1 = Int32.ofNat ((L.drop k).filter (tch S)).length ∧ TD L (tch S) k s.1 ∧ Fm [11, 12, 13] [1, 4] [] M s.1 ∧ s.1.2.1 1 1 = if fl = 0 then M.2.1 1 1 else M.2.1 1 1 + sumL ((L.drop k).filter (tch S)))
    (fun s => (s.2.2 + 1).toNatClampNeg) (fun s => s.2.2 = Int32.ofNat 0 - 1) (fun s => some (s.2.1, s.1)) (by
      rintro ⟨s, v3, v4⟩ ⟨k, hk, e4, e3, i1, i2, i3⟩
      dsimp only at e4 e3 i1 i2 i3
      subst e4 e3
      match k, hk, i1, i3 with
      | 0, _, _, _ =>
        refine Or.inl ⟨rfl, fun K => ?_⟩
        simp only [g3_ropesGoOf_12]
        rw [zif_m1]
      | k + 1, hk, i1, i3 =>
        right
        have hat := TD_at i1 (Nat.lt_succ_self k) (by omega)
        have horig : L[k]? = some (M.2.1 11 k, M.2.1 12 k, M.2.1 13 k) := by rw [← hL, rlM_get, if_pos (by omega)]
        have hsame := Option.some.inj (hat.symm.trans horig)
        rw [Prod.mk.injEq, Prod.mk.injEq] at hsame
        obtain ⟨⟨a1, a2⟩, b1, b2⟩ := hr k (by omega)
        have hP : tch S (s.2.1 11 k, s.2.1 12 k, s.2.1 13 k) = (bit S (eA M.2.1 k) || bit S (eB M.2.1 k)) := by
          rw [hsame.1, hsame.2.1]; rfl
        have hstep : ∀ K : Bl × Int32 × Int32 → Option (Int32 × Bl), g3_ropesGoOf_12 S fl K (s, Int32.ofNat ((L.drop (k + 1)).filter (tch S)).length, Int32.ofNat k) = if (bit S (eA M.2.1 k) || bit S (eB M.2.1 k)) = true then g3_ropesGoOf_45 K s S fl (Int32.ofNat ((L.drop (k + 1)).filter (tch S)).length) (Int32.ofNat k) else K (s, Int32.ofNat ((L.drop (k + 1)).filter (tch S)).length, Int32.ofNat k + (-1 : Int32)) := by
          intro K
          simp only [g3_ropesGoOf_12]
          rw [zif_neg (by omega), chk_h (zI_in (by omega) (by decide)), chk_h (zI_in (by omega) (by decide)), zI_nat (by omega), hsame.1, hsame.2.1, a1, b1, has_bit (by omega), has_bit (by omega), bnd_s, bnd_s, if_bit, if_bit]
          cases bit S (eA M.2.1 k) <;> cases bit S (eB M.2.1 k) <;> rfl
        have hlen2 : ((L.drop (k + 1)).filter (tch S)).length ≤ 12 := Nat.le_trans (List.length_filter_le _ _) (by rw [List.length_drop]; omega)
        rw [pred_s]
        have hmeas : (Int32.ofNat k - 1 + 1).toNatClampNeg < (Int32.ofNat k + 1).toNatClampNeg := by
          rw [Int32.sub_add_cancel, zI_succ, zI_nat (by omega), zI_nat (by omega)]; omega
        by_cases hb : (bit S (eA M.2.1 k) || bit S (eB M.2.1 k)) = true
        · have hPt : tch S (s.2.1 11 k, s.2.1 12 k, s.2.1 13 k) = true := by rw [hP]; exact hb
          have hd : (L.drop k).filter (tch S) = (s.2.1 11 k, s.2.1 12 k, s.2.1 13 k) :: (L.drop (k + 1)).filter (tch S) := by rw [drop_at hat, List.filter_cons, hPt]; rfl
          have hmv : ∀ x : Int32, TD L (tch S) (k + 1) (bA s 1 1 x) := by
            intro x
            obtain ⟨m, m1, m2, m3⟩ := i1
            exact ⟨m, by simpa [bA, bS, upd] using m1, m2, by simpa [bA, bS] using m3⟩
          obtain ⟨s', q1, q2, q3⟩ := TD_go (hmv (s.2.1 1 1 + if fl = 0 then 0 else s.2.1 13 k)) hat hPt
          refine ⟨(s', Int32.ofNat (((L.drop (k + 1)).filter (tch S)).length + 1), Int32.ofNat k - 1), ⟨k, by omega, rfl, by rw [hd]; rfl, q2, ((i2.trans Fm.ba1).trans q3).weak, ?_⟩, hmeas, fun K => ?_⟩
          · show s'.2.1 1 1 = _
            rw [q3.sc 1]
            have e0 : (bA s 1 1 (s.2.1 1 1 + if fl = 0 then 0 else s.2.1 13 k)).2.1 1 1 = s.2.1 1 1 + if fl = 0 then 0 else s.2.1 13 k := by simp [bA, bS, upd]
            rw [e0, i3, hd]
            by_cases hf : fl = 0
            · rw [if_pos hf, if_pos hf, if_pos hf, Int32.add_zero]
            · rw [if_neg hf, if_neg hf, if_neg hf]
              show _ = _ + (s.2.1 13 k + _)
              rw [Int32.add_assoc, Int32.add_comm (s.2.1 13 k)]
          · rw [hstep, if_pos hb]
            unfold g3_ropesGoOf_45
            by_cases hf : fl = 0
            · rw [if_pos hf] at q1 ⊢
              rw [q1, bnd_s, zI_succ, add_m1]
            · rw [if_neg hf] at q1 ⊢
              rw [chk_h (zI_in (by omega) (by decide)), zI_nat (by omega), q1, bnd_s, zI_succ, add_m1]
        · have hPf : tch S (s.2.1 11 k, s.2.1 12 k, s.2.1 13 k) = false := by rw [hP]; simpa using hb
          have hd : (L.drop k).filter (tch S) = (L.drop (k + 1)).filter (tch S) := by rw [drop_at hat, List.filter_cons, hPf]; rfl
          refine ⟨(s, Int32.ofNat ((L.drop (k + 1)).filter (tch S)).length, Int32.ofNat k - 1), ⟨k, by omega, rfl, by rw [hd], TD_keep i1 hat hPf, i2, by rw [hd]; exact i3⟩, hmeas, fun K => ?_⟩
          rw [hstep, if_neg hb, add_m1])
    (s := (M, (0 : Int32), M.2.1 1 4 - 1)) ⟨cR M.2.1, Nat.le_refl _, by rw [g.2.2.1.1], by rw [List.drop_eq_nil_of_le (by omega)]; rfl, by rw [← hL]; exact TD_start g, (Fm.refl (M := M)).weak, by rw [List.drop_eq_nil_of_le (by omega)]; show _ = if fl = 0 then _ else _ + 0; rw [Int32.add_zero]; split <;> rfl⟩ (by
      show (M.2.1 1 4 - 1 + 1).toNatClampNeg < _
      rw [Int32.sub_add_cancel, g.2.2.1.1, zI_nat (by omega)]; omega)
  have ek : k = 0 := by
    rw [e4] at hx
    have := congrArg (fun z => z + 1) hx
    simp only [Int32.sub_add_cancel] at this
    exact (zI_inj (by omega) (by omega)).mp this
  subst ek
  refine ⟨s9.1, by rw [hG, e3, List.drop_zero], i2, TD_end i1, by rw [i3, List.drop_zero]⟩

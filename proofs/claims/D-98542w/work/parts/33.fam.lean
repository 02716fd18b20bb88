/-! THE WORLD OF PartyRaft: a family of blocks (0 the raft, 1 own, 2 spare, 3 reading, 4 blank, 5-8 the images' flows, 9-12 the images, 13 the fault, 14 a text), and what else there is (rules) -/
set_option maxRecDepth 100000
theorem va_D_iff {A : Nat → Prop} {ws : va_W} : va_D A ws ↔ (ws.map (·.1)).Nodup ∧ ∀ q ∈ ws, A q.1 := by
  constructor
  · intro h
    refine ⟨?_, fun q hq => ?_⟩
    · rw [List.nodup_iff_pairwise_ne, List.pairwise_iff_getElem]
      intro i j hi hj hij he
      have hi' : i < ws.length := by simpa using hi
      have hj' : j < ws.length := by simpa using hj
      have := h.1 i j ws[i] ws[j] (List.getElem?_eq_getElem hi') (List.getElem?_eq_getElem hj') (by simpa using he)
      omega
    · obtain ⟨k, hk⟩ := List.getElem?_of_mem hq
      exact h.2 k q hk
  · rintro ⟨h1, h2⟩
    refine ⟨fun i j p q hp hq e => ?_, fun k q hk => h2 q (List.mem_of_getElem? hk)⟩
    rw [List.nodup_iff_pairwise_ne, List.pairwise_iff_getElem] at h1
    obtain ⟨hi, ei⟩ := List.getElem?_eq_some_iff.mp hp
    obtain ⟨hj, ej⟩ := List.getElem?_eq_some_iff.mp hq
    rcases Nat.lt_trichotomy i j with h | h | h
    · refine absurd ?_ (h1 i j (by simpa using hi) (by simpa using hj) h)
      rw [List.getElem_map, List.getElem_map, ei, ej]; exact e
    · exact h
    · refine absurd ?_ (h1 j i (by simpa using hj) (by simpa using hi) h)
      rw [List.getElem_map, List.getElem_map, ei, ej]; exact e.symm
theorem va_D.perm {A : Nat → Prop} {w1 w2 : va_W} (h : va_D A w1) (hp : w1.Perm w2) : va_D A w2 := by
  rw [va_D_iff] at h ⊢
  exact ⟨h.1.perm (hp.map _), fun q hq => h.2 q (hp.mem_iff.mpr hq)⟩
theorem va_P.perm {D : va_G} {w1 w2 : va_W} {H : Heap} (h : va_P D CL w1 H) (hp : w1.Perm w2) : va_P D CL w2 H := by
  intro k q hk
  obtain ⟨j, hj⟩ := List.getElem?_of_mem (hp.mem_iff.mpr (List.mem_of_getElem? hk))
  exact h j q hj
theorem va_A.perm {w1 w2 : va_W} {sz q : Nat} (h : va_A w1 sz q) (hp : w1.Perm w2) : va_A w2 sz q := by
  rcases h with ⟨k, e, hk⟩ | h
  · obtain ⟨j, hj⟩ := List.getElem?_of_mem (hp.mem_iff.mp (List.mem_of_getElem? hk))
    exact Or.inl ⟨j, e, hj⟩
  · exact Or.inr h
theorem Mt.perm {l : Launch} {d : gD} {y : MethodName} {cc : ByteArray} {nL : Nat} {ret : Option FieldType} {fr : Nat × Nat × Nat} {lo : Nat} {ws w2 : va_W} {as : List Value} {post post2 : Option Value → va_W → Prop} (h : Mt l d y cc nL ret fr lo ws as post) (hp : ws.Perm w2) (hq : ∀ v w, post v w → ∃ w', post2 v w' ∧ w.Perm w') : Mt l d y cc nL ret fr lo w2 as post2 := by
  intro sz p e ha hc hk s m args below hfr happ hpre hT
  obtain ⟨rfl, hsz, hP, hK, hD, hZ⟩ := hpre
  obtain ⟨n, o, h1, h2, h3, ⟨v, w0, hv, hp9, hP1, hD1, hz, hk1⟩, L, hF, hL⟩ := h sz p e ha hc hk s m _ below hfr happ ⟨rfl, hsz, hP.perm hp.symm, hK, hD.perm hp.symm, hZ.narrow (fun q hq => hq.perm hp)⟩ hT
  obtain ⟨w', g1, g2⟩ := hq v w0 hp9
  exact ⟨n, o, h1, h2, h3, ⟨v, w', hv, g1, hP1.perm g2, (hD1.perm g2).weaken (fun _ _ _ hq => hq.perm hp), hz, fun q g3 g4 => hk1 q g3 (fun z => g4 (z.perm hp))⟩, L, hF, fun q hq => (hL q hq).perm hp⟩
/-- the addresses of the blocks; what the fault holds that nobody reads; where the rules lie -/
abbrev XA : Type := (Nat → Nat → Nat) × (Nat → Value) × (Nat → Nat)
def FK0 : FKs := [(5, 0), (5, 0), (5, 0), (5, 0), (5, 0), (0, 0), (5, 0), (2, 400), (0, 0), (6, 5), (6, 1), (6, 12), (8, 6), (0, 0), (4, 12), (1, 7), (1, 7), (1, 6), (0, 0), (0, 0), (0, 0), (1, 8), (1, 8), (1, 8), (0, 0), (1, 8), (3, 256), (0, 0), (9, 4)]
def FK15 : FKs := [(5, 0), (0, 0), (0, 0)]
def FK2 : FKs := [(5, 0), (5, 0), (5, 0), (5, 0), (5, 0), (0, 0), (0, 0), (0, 0)]
def FK4 : FKs := [(5, 0), (5, 0), (0, 0), (0, 0), (0, 0), (0, 0), (5, 0)]
def xci : Nat → Nat
  | 0 => 0
  | 13 => 2
  | 14 => 4
  | 9 => 13
  | 10 => 13
  | 11 => 13
  | 12 => 13
  | _ => 1
def xFK : Nat → FKs
  | 0 => FK0
  | 13 => FK2
  | 14 => FK4
  | 9 => FK15
  | 10 => FK15
  | 11 => FK15
  | 12 => FK15
  | _ => FK1
def xrf (A : XA) : Nat → rF
  | 0 => fun f z => match f with
    | 0 => if z = 0 then .null else .ref (A.1 1 0)
    | 1 => .ref (A.1 1 0)
    | 2 => .ref (A.1 2 0)
    | 3 => .ref (A.1 3 0)
    | 4 => .ref (A.1 4 0)
    | _ => .ref (A.1 13 0)
  | 13 => fun f _ => A.2.1 f
  | 14 => fun f _ => match f with
    | 0 => .ref (A.1 0 12)
    | 1 => .ref (A.1 3 0)
    | _ => .ref (A.1 0 0)
  | 9 => fun _ _ => .ref (A.1 5 0)
  | 10 => fun _ _ => .ref (A.1 6 0)
  | 11 => fun _ _ => .ref (A.1 7 0)
  | 12 => fun _ _ => .ref (A.1 8 0)
  | _ => fun _ _ => .null
def xrq (d : gD) (A : XA) : Nat → rQ
  | 0 => fun f i z => match f with
    | 9 => some (d.2.2.1 (1 + i))
    | 10 => some (d.2.2.1 (6 + i))
    | 11 => some (d.2.2.1 (7 + i))
    | 12 => if z = 0 then none else some (A.2.2 i)
    | _ => if z = 0 then none else if i < 4 then some (A.1 (9 + i) 0) else none
  | _ => fun _ _ _ => none
def XB (d : gD) (A : XA) (j : Nat) (σ : Bl) : va_W := bWr d (xci j) (xFK j) (A.1 j) (xrf A j) (xrq d A j) σ
/-- the world: the blocks of L, and E -/
def XW (d : gD) (A : XA) (L : List Nat) (E : va_W) (x : Nat → Bl) : va_W := L.flatMap (fun j => XB d A j (x j)) ++ E
def upX (x : Nat → Bl) (j : Nat) (σ : Bl) : Nat → Bl := fun i => if i = j then σ else x i
theorem upX_self (x : Nat → Bl) (j : Nat) (σ : Bl) : upX x j σ j = σ := by simp [upX]
theorem upX_ne {x : Nat → Bl} {i j : Nat} {σ : Bl} (h : i ≠ j) : upX x j σ i = x i := by simp [upX, h]
def xOK (L : List Nat) : Prop := L.Nodup ∧ ∀ j ∈ [0, 1, 2, 3, 4, 13], j ∈ L
theorem flat_off {d : gD} {A : XA} {x : Nat → Bl} {j : Nat} {σ : Bl} : ∀ (L : List Nat), j ∉ L → L.flatMap (fun i => XB d A i (upX x j σ i)) = L.flatMap (fun i => XB d A i (x i)) := by
  intro L
  induction L with
  | nil => intro _; rfl
  | cons i L ih =>
    intro h
    rw [List.flatMap_cons, List.flatMap_cons, ih (fun z => h (List.mem_cons_of_mem _ z)), upX_ne (fun z : i = j => h (by rw [z]; exact List.mem_cons_self))]
theorem flat_split {d : gD} {A : XA} {x : Nat → Bl} {j : Nat} : ∀ (L : List Nat), j ∈ L → L.Nodup → ∃ X Y : va_W, L.flatMap (fun i => XB d A i (x i)) = X ++ (XB d A j (x j) ++ Y) ∧ ∀ σ, L.flatMap (fun i => XB d A i (upX x j σ i)) = X ++ (XB d A j σ ++ Y) := by
  intro L
  induction L with
  | nil => intro h; cases h
  | cons i L ih =>
    intro h hn
    have hn' := List.nodup_cons.mp hn
    by_cases hij : i = j
    · subst hij
      refine ⟨[], L.flatMap (fun j => XB d A j (x j)), by simp [List.flatMap_cons], fun σ => ?_⟩
      rw [List.flatMap_cons, flat_off L hn'.1, upX_self]
      rfl
    · obtain ⟨X, Y, h1, h2⟩ := ih (by rcases List.mem_cons.mp h with e | e; exact absurd e.symm hij; exact e) hn'.2
      refine ⟨XB d A i (x i) ++ X, Y, by rw [List.flatMap_cons, h1, List.append_assoc], fun σ => ?_⟩
      rw [List.flatMap_cons, h2, upX_ne hij, List.append_assoc]
theorem xw_split {d : gD} {A : XA} {L : List Nat} {E : va_W} {x : Nat → Bl} {j : Nat} (hj : j ∈ L) (hn : L.Nodup) : ∃ X Y : va_W, XW d A L E x = X ++ (XB d A j (x j) ++ Y) ∧ ∀ σ, XW d A L E (upX x j σ) = X ++ (XB d A j σ ++ Y) := by
  obtain ⟨X, Y, h1, h2⟩ := flat_split (d := d) (A := A) (x := x) L hj hn
  refine ⟨X, Y ++ E, by rw [XW, h1]; simp, fun σ => by rw [XW, h2]; simp⟩
theorem xO {d : gD} {A : XA} {L : List Nat} {E : va_W} {x : Nat → Bl} {j : Nat} (hj : j ∈ L) (hn : L.Nodup) : hasO (XW d A L E x) (A.1 j 0) (xci j) (bFs (A.1 j) (xrf A j) (x j) 0 (xFK j)) := by
  obtain ⟨X, Y, h1, -⟩ := xw_split (d := d) (A := A) (E := E) (x := x) hj hn
  rw [h1]
  exact (bW_O.appL).appR
theorem xA {d : gD} {A : XA} {L : List Nat} {E : va_W} {x : Nat → Bl} {j b : Nat} {z : ClassId × vp_A} (hj : j ∈ L) (hn : L.Nodup) (h : hasA (XB d A j (x j)) b z) : hasA (XW d A L E x) b z := by
  obtain ⟨X, Y, h1, -⟩ := xw_split (d := d) (A := A) (E := E) (x := x) hj hn
  rw [h1]
  exact (h.appL).appR
theorem xpO {d : gD} {A : XA} {L : List Nat} {E : va_W} {x : Nat → Bl} {j b ci : Nat} {fs fs' : List Value} {σ : Bl} (hj : j ∈ L) (hn : L.Nodup) (h : putO (XB d A j (x j)) b ci fs fs' (XB d A j σ)) : putO (XW d A L E x) b ci fs fs' (XW d A L E (upX x j σ)) := by
  obtain ⟨X, Y, h1, h2⟩ := xw_split (d := d) (A := A) (E := E) (x := x) hj hn
  rw [h1, h2]
  exact (h.appL).appR
theorem xpA {d : gD} {A : XA} {L : List Nat} {E : va_W} {x : Nat → Bl} {j b : Nat} {z z' : ClassId × vp_A} {σ : Bl} (hj : j ∈ L) (hn : L.Nodup) (h : putA (XB d A j (x j)) b z z' (XB d A j σ)) : putA (XW d A L E x) b z z' (XW d A L E (upX x j σ)) := by
  obtain ⟨X, Y, h1, h2⟩ := xw_split (d := d) (A := A) (E := E) (x := x) hj hn
  rw [h1, h2]
  exact (h.appL).appR
section FR
variable {l : Launch} {d : gD} {y : MethodName} {cc : ByteArray} {nL : Nat} {ret : Option FieldType} {fr : Nat × Nat × Nat} {lo : Nat} {as : List Value} {A : XA} {L : List Nat} {E : va_W} {x : Nat → Bl} {j i : Nat} {r : Option Value} {σ : Bl}
/-- a method of one block, in the world -/
theorem Mt.x1 (hj : j ∈ L) (hn : L.Nodup) (h : Mt l d y cc nL ret fr lo (XB d A j (x j)) as (fun v w => v = r ∧ w = XB d A j σ)) : Mt l d y cc nL ret fr lo (XW d A L E x) as (fun v w => v = r ∧ w = XW d A L E (upX x j σ)) := by
  obtain ⟨X, Y, h1, h2⟩ := xw_split (d := d) (A := A) (E := E) (x := x) hj hn
  rw [h1, h2]
  refine (h.frame X Y).post ?_
  rintro v w ⟨w0, ⟨rfl, rfl⟩, rfl⟩
  exact ⟨rfl, rfl⟩
theorem Mt.x0 (hj : j ∈ L) (hn : L.Nodup) (h : Mt l d y cc nL ret fr lo (XB d A j (x j)) as (fun v w => v = r ∧ w = XB d A j (x j))) : Mt l d y cc nL ret fr lo (XW d A L E x) as (fun v w => v = r ∧ w = XW d A L E x) := by
  obtain ⟨X, Y, h1, -⟩ := xw_split (d := d) (A := A) (E := E) (x := x) hj hn
  rw [h1]
  refine (h.frame X Y).post ?_
  rintro v w ⟨w0, ⟨rfl, rfl⟩, rfl⟩
  exact ⟨rfl, rfl⟩
theorem xw_perm {d : gD} {A : XA} {L : List Nat} {E : va_W} {x : Nat → Bl} {j i : Nat} (hj : j ∈ L) (hi : i ∈ L) (hij : i ≠ j) (hn : L.Nodup) : ∃ Z : va_W, (XW d A L E x).Perm ((XB d A j (x j) ++ XB d A i (x i)) ++ Z) ∧ ∀ σ, (XW d A L E (upX x j σ)).Perm ((XB d A j σ ++ XB d A i (x i)) ++ Z) := by
  have h1 : L.Perm (j :: L.erase j) := List.perm_cons_erase hj
  have hi2 : i ∈ L.erase j := (List.mem_erase_of_ne hij).mpr hi
  have h2 : (L.erase j).Perm (i :: (L.erase j).erase i) := List.perm_cons_erase hi2
  have h3 : L.Perm (j :: i :: (L.erase j).erase i) := h1.trans (h2.cons _)
  have hn3 : (j :: i :: (L.erase j).erase i).Nodup := hn.perm h3
  have hjn : j ∉ (L.erase j).erase i := fun h => (List.nodup_cons.mp hn3).1 (List.mem_cons_of_mem _ h)
  refine ⟨((L.erase j).erase i).flatMap (fun k => XB d A k (x k)) ++ E, ?_, fun σ => ?_⟩
  · refine ((h3.flatMap_right _).append_right E).trans ?_
    simp only [List.flatMap_cons, List.append_assoc]
    exact List.Perm.refl _
  · refine ((h3.flatMap_right _).append_right E).trans ?_
    simp only [List.flatMap_cons, List.append_assoc, upX_self, upX_ne hij, flat_off _ hjn]
    exact List.Perm.refl _
/-- a method of two blocks, in the world -/
theorem Mt.x2 (hj : j ∈ L) (hi : i ∈ L) (hij : i ≠ j) (hn : L.Nodup) (h : Mt l d y cc nL ret fr lo (XB d A j (x j) ++ XB d A i (x i)) as (fun v w => v = r ∧ w = XB d A j σ ++ XB d A i (x i))) : Mt l d y cc nL ret fr lo (XW d A L E x) as (fun v w => v = r ∧ w = XW d A L E (upX x j σ)) := by
  obtain ⟨Z, h1, h2⟩ := xw_perm (d := d) (A := A) (E := E) (x := x) hj hi hij hn
  have h3 := h.frame [] Z
  refine h3.perm h1.symm ?_
  rintro v w ⟨w0, ⟨rfl, rfl⟩, rfl⟩
  exact ⟨_, ⟨rfl, rfl⟩, (h2 σ).symm⟩
end FR

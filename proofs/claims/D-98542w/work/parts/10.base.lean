/-! BASE: a small logic over the kit's W: a goal 'Go Γ k n ws pc lv st' hides heap, locals' array and written places -/
set_option maxRecDepth 100000
abbrev CL : List vw_C := [(RX0, TX0, 29), (RX1, TX1, 29), (RX2, TX2, 8), (RX3, TX3, 73), (RX4, TX4, 7), (RX5, TX5, 2), (RX6, TX6, 2), (RX8, TX8, 1), (RX9, TX9, 1), (RX10, TX10, 3), (RX12, TX12, 1), (RX13, TX13, 3), (RX14, TX14, 3), (RX15, TX15, 3)]
/-- where the classes and array classes are, where the String constants and their bytes lie -/
abbrev gD : Type := va_G × (Nat → ClassId) × (Nat → Nat) × (Nat → Nat)
def gTy (d : gD) : List (ClassId × FieldType) := [(d.2.1 0, .int), (d.2.1 1, .byte), (d.2.1 2, .boolean), (d.2.1 3, .long), (d.2.1 4, .object "java/lang/String"), (d.2.1 5, .object "PartyRaft$Clause"), (d.2.1 6, .object "PartyRaft$Rule"), (d.2.1 7, .object "PartyRaft$Image")]
/-- the 23 texts -/
def sTx : List String := ["fault", "river", "owner", "thing", "bound", "rapid", "tie", "one", "other", "float", "weight", "soak", "same", "apart", "ropes", "store", "mile", "landing", "left", "if", "not", "and", "or"]
def sBy (i : Nat) : List Int32 := match i with
  | 0 => [102, 97, 117, 108, 116]
  | 1 => [114, 105, 118, 101, 114]
  | 2 => [111, 119, 110, 101, 114]
  | 3 => [116, 104, 105, 110, 103]
  | 4 => [98, 111, 117, 110, 100]
  | 5 => [114, 97, 112, 105, 100]
  | 6 => [116, 105, 101]
  | 7 => [111, 110, 101]
  | 8 => [111, 116, 104, 101, 114]
  | 9 => [102, 108, 111, 97, 116]
  | 10 => [119, 101, 105, 103, 104, 116]
  | 11 => [115, 111, 97, 107]
  | 12 => [115, 97, 109, 101]
  | 13 => [97, 112, 97, 114, 116]
  | 14 => [114, 111, 112, 101, 115]
  | 15 => [115, 116, 111, 114, 101]
  | 16 => [109, 105, 108, 101]
  | 17 => [108, 97, 110, 100, 105, 110, 103]
  | 18 => [108, 101, 102, 116]
  | 19 => [105, 102]
  | 20 => [110, 111, 116]
  | 21 => [97, 110, 100]
  | 22 => [111, 114]
  | _ => []
/-- the places at which String constants stand in the classes' tables: class, entry, which text -/
def sLk : List (String × Nat × Nat) := [("PartyRaft$Fault", 1, 0), ("PartyRaft", 38, 1), ("PartyRaft", 40, 2), ("PartyRaft", 42, 3), ("PartyRaft", 44, 4), ("PartyRaft", 46, 5), ("PartyRaft", 52, 6), ("PartyRaft", 57, 7), ("PartyRaft", 59, 8), ("PartyRaft", 61, 9), ("PartyRaft", 63, 10), ("PartyRaft", 65, 11), ("PartyRaft", 67, 12), ("PartyRaft", 69, 13), ("PartyRaft", 71, 14), ("PartyRaft", 73, 15), ("PartyRaft", 75, 16), ("PartyRaft", 77, 17), ("PartyRaft", 79, 18), ("PartyRaft$Text", 202, 19), ("PartyRaft$Text", 245, 20), ("PartyRaft$Text", 243, 21), ("PartyRaft$Text", 233, 22), ("PartyRaftModel", 310, 1), ("PartyRaftModel", 312, 2), ("PartyRaftModel", 314, 3), ("PartyRaftModel", 316, 4), ("PartyRaftModel", 318, 5), ("PartyRaftModel", 362, 6), ("PartyRaftModel", 191, 7), ("PartyRaftModel", 193, 8), ("PartyRaftModel", 195, 9), ("PartyRaftModel", 197, 10), ("PartyRaftModel", 198, 11), ("PartyRaftModel", 199, 12), ("PartyRaftModel", 201, 13), ("PartyRaftModel", 203, 14), ("PartyRaftModel", 205, 15), ("PartyRaftModel", 207, 16), ("PartyRaftModel", 209, 17), ("PartyRaftModel", 210, 18), ("PartyRaftModel", 364, 19), ("PartyRaftModel", 292, 20), ("PartyRaftModel", 306, 21), ("PartyRaftModel", 308, 22)]
def nestW (w : Cond) : Bool := match w with
  | .fieldLinkNest .. => true
  | .methodLinkNest .. => true
  | .castable .. => true
  | .declares .. => true
  | .arrayOver (.object _) => true
  | _ => false
def lw_nest : List Cond := lw_tbl.filter nestW
theorem lw_n {w : Cond} (h : w ∈ lw_tbl) (g : nestW w = true) : w ∈ lw_nest := List.mem_filter.mpr ⟨h, g⟩
/-- what stays all through a run beside lw_all: the String constants, the words of nest mates -/
def ZS (d : gD) (A : Nat → Prop) (U : State) (H : Heap) : Prop := ∀ i : Nat, i < 23 → va_O "java/lang/String" (d.2.2.1 i) A U H ∧ va_OF "java/lang/String" "coder" "B" (.int 0) (d.2.2.1 i) A U H ∧ va_OF "java/lang/String" "value" "[B" (.ref (d.2.2.2 i)) (d.2.2.1 i) A U H ∧ va_T .byte (d.2.2.2 i) (sBy i).length (fun j => .int ((sBy i).getD j 0)) A U H
def ZL (d : gD) (U : State) : Prop := ∀ q ∈ sLk, vk_R q.1 q.2.1 (sTx.getD q.2.2 "") (d.2.2.1 q.2.2) U
def ZN (U : State) : Prop := ∀ w ∈ lw_nest, va_Nw w U
/-- the JDK's statics that are read -/
def ZT (A : Nat → Prop) (U : State) (H : Heap) : Prop := va_Z "java/lang/String" "COMPACT_STRINGS" "Z" (.int 1) A U H ∧ va_Zq "jdk/internal/util/Preconditions" "SIOOBE_FORMATTER" "Ljava/util/function/BiFunction;" A U H ∧ va_Zq "java/lang/Throwable" "UNASSIGNED_STACK" "[Ljava/lang/StackTraceElement;" A U H ∧ va_Zq "java/lang/Throwable" "SUPPRESSED_SENTINEL" "Ljava/util/List;" A U H
theorem ZT.moved {A : Nat → Prop} {u U : State} {H : Heap} (hvm : u.vm.Alike U.vm) (h : ZT A u H) : ZT A U H := ⟨h.1.moved hvm, h.2.1.moved hvm, h.2.2.1.moved hvm, h.2.2.2.moved hvm⟩
theorem ZT.kept {A : Nat → Prop} {U : State} {H H1 : Heap} (h : ZT A U H) (hq : ∀ a : Nat, a < H.size → ¬ A a → H1[a]? = H[a]?) : ZT A U H1 := ⟨h.1.kept hq, h.2.1.kept hq, h.2.2.1.kept hq, h.2.2.2.kept hq⟩
theorem ZT.narrow {A B : Nat → Prop} {U : State} {H : Heap} (h : ZT A U H) (hAB : ∀ q, B q → A q) : ZT B U H := ⟨h.1.narrow hAB, h.2.1.narrow hAB, h.2.2.1.narrow hAB, h.2.2.2.narrow hAB⟩
def ZZ (d : gD) (A : Nat → Prop) (U : State) : Prop := (ZS d A U U.heap ∧ ZT A U U.heap) ∧ ZL d U ∧ ZN U
theorem ZS.moved {d : gD} {A : Nat → Prop} {u U : State} {H : Heap} (hvm : u.vm.Alike U.vm) (h : ZS d A u H) : ZS d A U H :=
  fun i hi => ⟨va_O.moved hvm (h i hi).1, va_OF.moved hvm (h i hi).2.1, va_OF.moved hvm (h i hi).2.2.1, va_T.moved hvm (h i hi).2.2.2⟩
theorem ZS.kept {d : gD} {A : Nat → Prop} {U : State} {H H1 : Heap} (h : ZS d A U H) (hq : ∀ a : Nat, a < H.size → ¬ A a → H1[a]? = H[a]?) : ZS d A U H1 :=
  fun i hi => ⟨(h i hi).1.kept hq, (h i hi).2.1.kept hq, (h i hi).2.2.1.kept hq, (h i hi).2.2.2.kept hq⟩
theorem ZS.narrow {d : gD} {A B : Nat → Prop} {U : State} {H : Heap} (h : ZS d A U H) (hAB : ∀ q, B q → A q) : ZS d B U H :=
  fun i hi => ⟨(h i hi).1.narrow hAB, (h i hi).2.1.narrow hAB, (h i hi).2.2.1.narrow hAB, (h i hi).2.2.2.narrow hAB⟩
theorem ZL.warm {d : gD} {s U : State} (hW : s.WarmedH U.vm) (h : ZL d s) : ZL d U := fun q hq => (h q hq).warm hW
theorem ZL.same {d : gD} {u U : State} (hv : U.vm = u.vm) (h : ZL d u) : ZL d U := fun q hq => (h q hq).same hv
theorem nest_warm {w : Cond} (hw : nestW w = true) {s U : State} (hW : s.WarmedH U.vm) (h : va_Nw w s) : va_Nw w U := by
  cases w <;> first | (simp [nestW] at hw; done) | exact va_Nw.warmF hW h | exact va_Nw.warmM hW h | exact va_Nw.warmC hW h | exact va_Nw.warmD hW h | skip
  rename_i t
  cases t <;> first | (simp [nestW] at hw; done) | exact va_AO.moved hW.alike h
theorem nest_same {w : Cond} (hw : nestW w = true) {u U : State} (hv : u.vm = U.vm) (h : va_Nw w u) : va_Nw w U := by
  cases w <;> first | (simp [nestW] at hw; done) | exact va_Nw.same rfl hv h | skip
  rename_i t
  cases t <;> first | (simp [nestW] at hw; done) | exact va_AO.moved (hv ▸ Vm.Alike.refl u.vm) h
theorem ZN.warm {s U : State} (hW : s.WarmedH U.vm) (h : ZN s) : ZN U := fun w hw => nest_warm (List.mem_filter.mp hw).2 hW (h w hw)
theorem ZN.same {u U : State} (hv : u.vm = U.vm) (h : ZN u) : ZN U := fun w hw => nest_same (List.mem_filter.mp hw).2 hv (h w hw)

abbrev Gam : Type := Program × Launch × Env × Room × State × MethodId × Array Value × List Frame × Method × Code × Nat × gD × (Nat → Prop) × (State → Prop)
def Go : Gam → Nat → Nat → va_W → Nat → List (Nat × Value) → List Value → Prop
  | (p, l, e, R, s, m, args, below, meth, c, nL, d, A, Q), k, n, ws, pc, lv, st =>
    ∀ (H : Heap) (locs : List Loc) (ls : Array Slot), va_P d.1 CL ws H → va_D A ws → va_S A s.heap H locs → lv_has ls nL lv → W p l e R s m args below meth c H locs k n Q (F0 m pc ls st)
abbrev Gam.d (Γ : Gam) : gD := Γ.2.2.2.2.2.2.2.2.2.2.2.1
/-- what stays all through a method: the code cc of the class own; calls may take fr.1 frames and lo words, fr.2 cells and slots in all -/
def Cx : Gam → ByteArray → String → Nat × Nat × Nat → Nat → Prop
  | (p, l, e, R, s, m, args, below, meth, c, nL, d, A, Q), cc, own, (fr, ce, sl), lo =>
    p.tables.exec = Jvm.exec ∧ c.code = cc ∧ c.maxLocals = nL ∧ s.vm.findClass own = some m.cls ∧ (∀ w ∈ lw_all, w.before args s = true) ∧ meth.locks = false ∧ va_K d.1 CL (gTy d) s ∧ (∀ q : Nat, s.heap.size ≤ q → A q) ∧ ZZ d A s ∧ (fr ≤ R.frames ∧ ce ≤ R.cells ∧ sl ≤ R.slots) ∧ lo ≤ R.locals

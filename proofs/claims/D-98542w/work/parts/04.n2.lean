/-! PartyRaft$Flow -/
set_option maxRecDepth 100000
def RX1 : String := "PartyRaft$Flow"
def TX1 : u_T := fun k => match k with
  | 0 => ("PartyRaft$Flow", "miles", "I", false)
  | 1 => ("PartyRaft$Flow", "ownerMany", "I", false)
  | 2 => ("PartyRaft$Flow", "thingMany", "I", false)
  | 3 => ("PartyRaft$Flow", "rapidMany", "I", false)
  | 4 => ("PartyRaft$Flow", "store", "I", false)
  | 5 => ("PartyRaft$Flow", "ropeMany", "I", false)
  | 6 => ("PartyRaft$Flow", "now", "I", false)
  | 7 => ("PartyRaft$Flow", "undoMany", "I", false)
  | 8 => ("PartyRaft$Flow", "offerMany", "I", false)
  | 9 => ("PartyRaft$Flow", "landing", "[I", true)
  | 10 => ("PartyRaft$Flow", "mass", "[I", true)
  | 11 => ("PartyRaft$Flow", "place", "[I", true)
  | 12 => ("PartyRaft$Flow", "owner", "[I", true)
  | 13 => ("PartyRaft$Flow", "weight", "[I", true)
  | 14 => ("PartyRaft$Flow", "bears", "[I", true)
  | 15 => ("PartyRaft$Flow", "soak", "[I", true)
  | 16 => ("PartyRaft$Flow", "state", "[I", true)
  | 17 => ("PartyRaft$Flow", "sunkAt", "[I", true)
  | 18 => ("PartyRaft$Flow", "ropeA", "[I", true)
  | 19 => ("PartyRaft$Flow", "ropeB", "[I", true)
  | 20 => ("PartyRaft$Flow", "strength", "[I", true)
  | 21 => ("PartyRaft$Flow", "rapidMile", "[I", true)
  | 22 => ("PartyRaft$Flow", "force", "[I", true)
  | 23 => ("PartyRaft$Flow", "offer", "[I", true)
  | 24 => ("PartyRaft$Flow", "undo", "[I", true)
  | 25 => ("PartyRaft$Flow", "sankMany", "I", false)
  | 26 => ("PartyRaft$Flow", "landedMany", "I", false)
  | 27 => ("PartyRaft$Flow", "brokeMany", "I", false)
  | _ => ("PartyRaft$Flow", "pieceAt", "[I", true)
def tyX1 : Nat → FieldType := fun k => match k with
  | 0 => .int
  | 1 => .int
  | 2 => .int
  | 3 => .int
  | 4 => .int
  | 5 => .int
  | 6 => .int
  | 7 => .int
  | 8 => .int
  | 9 => .array .int
  | 10 => .array .int
  | 11 => .array .int
  | 12 => .array .int
  | 13 => .array .int
  | 14 => .array .int
  | 15 => .array .int
  | 16 => .array .int
  | 17 => .array .int
  | 18 => .array .int
  | 19 => .array .int
  | 20 => .array .int
  | 21 => .array .int
  | 22 => .array .int
  | 23 => .array .int
  | 24 => .array .int
  | 25 => .int
  | 26 => .int
  | 27 => .int
  | _ => .array .int
abbrev wsX10 : List Cond := u_ws RX1 TX1 29
set_option maxRecDepth 100000 in
theorem nmX1 : ∀ a, a < 29 → ∀ b, b < 29 → a ≠ b → (TX1 a).2.1 ≠ (TX1 b).2.1 := by decide +kernel
set_option maxRecDepth 100000 in
theorem tyX1_ok : ∀ k, k < 29 → parseFieldDescriptor (TX1 k).2.2.1 = some (tyX1 k) := by decide +kernel
abbrev cX1_init : ByteArray := prog_6_method_1_code
def yX1_init : MethodName := ⟨RX1, "<init>", "()V"⟩
def dkwX1_init_5 : List UInt8 := [188, 10, 181, 0, 54, 42, 17, 6, 4, 188, 10, 181, 0, 57, 42, 16, 8, 188, 10, 181, 0, 60, 177]
abbrev dktX1_init_5 : List UInt8 := dkwX1_init_5 ++ []
def dkwX1_init_4 : List UInt8 := [188, 10, 181, 0, 45, 42, 16, 6, 188, 10, 181, 0, 48, 42, 16, 6, 188, 10, 181, 0, 51, 42, 16, 18]
abbrev dktX1_init_4 : List UInt8 := dkwX1_init_4 ++ dktX1_init_5
def dkwX1_init_3 : List UInt8 := [188, 10, 181, 0, 36, 42, 16, 12, 188, 10, 181, 0, 39, 42, 16, 12, 188, 10, 181, 0, 42, 42, 16, 12]
abbrev dktX1_init_3 : List UInt8 := dkwX1_init_3 ++ dktX1_init_4
def dkwX1_init_2 : List UInt8 := [188, 10, 181, 0, 27, 42, 16, 8, 188, 10, 181, 0, 30, 42, 16, 8, 188, 10, 181, 0, 33, 42, 16, 8]
abbrev dktX1_init_2 : List UInt8 := dkwX1_init_2 ++ dktX1_init_3
def dkwX1_init_1 : List UInt8 := [188, 10, 181, 0, 18, 42, 16, 8, 188, 10, 181, 0, 21, 42, 16, 8, 188, 10, 181, 0, 24, 42, 16, 8]
abbrev dktX1_init_1 : List UInt8 := dkwX1_init_1 ++ dktX1_init_2
def dkwX1_init_0 : List UInt8 := [42, 183, 0, 3, 42, 16, 6, 188, 10, 181, 0, 9, 42, 16, 6, 188, 10, 181, 0, 15, 42, 16, 6]
abbrev dktX1_init_0 : List UInt8 := dkwX1_init_0 ++ dktX1_init_1
theorem dksX1_init_0 : cX1_init.data.toList.drop 0 = dktX1_init_0 := by decide +kernel
theorem dksX1_init_1 : cX1_init.data.toList.drop 23 = dktX1_init_1 := dk_seg dksX1_init_0 23 rfl rfl
theorem dksX1_init_2 : cX1_init.data.toList.drop 47 = dktX1_init_2 := dk_seg dksX1_init_1 24 rfl rfl
theorem dksX1_init_3 : cX1_init.data.toList.drop 71 = dktX1_init_3 := dk_seg dksX1_init_2 24 rfl rfl
theorem dksX1_init_4 : cX1_init.data.toList.drop 95 = dktX1_init_4 := dk_seg dksX1_init_3 24 rfl rfl
theorem dksX1_init_5 : cX1_init.data.toList.drop 119 = dktX1_init_5 := dk_seg dksX1_init_4 24 rfl rfl
theorem dX1_init_0 : decode cX1_init 0 = .ok (.aload_n 0, 1) := dk_42 (dk_at dksX1_init_0 0 rfl rfl)
theorem dX1_init_1 : decode cX1_init 1 = .ok (.invokespecial 3, 3) := dk_183 0 3 (dk_at dksX1_init_0 1 rfl rfl)
theorem dX1_init_4 : decode cX1_init 4 = .ok (.aload_n 0, 1) := dk_42 (dk_at dksX1_init_0 4 rfl rfl)
theorem dX1_init_5 : decode cX1_init 5 = .ok (.bipush 6, 2) := dk_16 6 (dk_at dksX1_init_0 5 rfl rfl)
theorem dX1_init_7 : decode cX1_init 7 = .ok (.newarray .int, 2) := dk_188_10 (dk_at dksX1_init_0 7 rfl rfl)
theorem dX1_init_9 : decode cX1_init 9 = .ok (.putfield 9, 3) := dk_181 0 9 (dk_at dksX1_init_0 9 rfl rfl)
theorem dX1_init_12 : decode cX1_init 12 = .ok (.aload_n 0, 1) := dk_42 (dk_at dksX1_init_0 12 rfl rfl)
theorem dX1_init_13 : decode cX1_init 13 = .ok (.bipush 6, 2) := dk_16 6 (dk_at dksX1_init_0 13 rfl rfl)
theorem dX1_init_15 : decode cX1_init 15 = .ok (.newarray .int, 2) := dk_188_10 (dk_at dksX1_init_0 15 rfl rfl)
theorem dX1_init_17 : decode cX1_init 17 = .ok (.putfield 15, 3) := dk_181 0 15 (dk_at dksX1_init_0 17 rfl rfl)
theorem dX1_init_20 : decode cX1_init 20 = .ok (.aload_n 0, 1) := dk_42 (dk_at dksX1_init_0 20 rfl rfl)
theorem dX1_init_21 : decode cX1_init 21 = .ok (.bipush 6, 2) := dk_16 6 (dk_at dksX1_init_0 21 rfl rfl)
theorem dX1_init_23 : decode cX1_init 23 = .ok (.newarray .int, 2) := dk_188_10 (dk_at dksX1_init_1 0 rfl rfl)
theorem dX1_init_25 : decode cX1_init 25 = .ok (.putfield 18, 3) := dk_181 0 18 (dk_at dksX1_init_1 2 rfl rfl)
theorem dX1_init_28 : decode cX1_init 28 = .ok (.aload_n 0, 1) := dk_42 (dk_at dksX1_init_1 5 rfl rfl)
theorem dX1_init_29 : decode cX1_init 29 = .ok (.bipush 8, 2) := dk_16 8 (dk_at dksX1_init_1 6 rfl rfl)
theorem dX1_init_31 : decode cX1_init 31 = .ok (.newarray .int, 2) := dk_188_10 (dk_at dksX1_init_1 8 rfl rfl)
theorem dX1_init_33 : decode cX1_init 33 = .ok (.putfield 21, 3) := dk_181 0 21 (dk_at dksX1_init_1 10 rfl rfl)
theorem dX1_init_36 : decode cX1_init 36 = .ok (.aload_n 0, 1) := dk_42 (dk_at dksX1_init_1 13 rfl rfl)
theorem dX1_init_37 : decode cX1_init 37 = .ok (.bipush 8, 2) := dk_16 8 (dk_at dksX1_init_1 14 rfl rfl)
theorem dX1_init_39 : decode cX1_init 39 = .ok (.newarray .int, 2) := dk_188_10 (dk_at dksX1_init_1 16 rfl rfl)
theorem dX1_init_41 : decode cX1_init 41 = .ok (.putfield 24, 3) := dk_181 0 24 (dk_at dksX1_init_1 18 rfl rfl)
theorem dX1_init_44 : decode cX1_init 44 = .ok (.aload_n 0, 1) := dk_42 (dk_at dksX1_init_1 21 rfl rfl)
theorem dX1_init_45 : decode cX1_init 45 = .ok (.bipush 8, 2) := dk_16 8 (dk_at dksX1_init_1 22 rfl rfl)
theorem dX1_init_47 : decode cX1_init 47 = .ok (.newarray .int, 2) := dk_188_10 (dk_at dksX1_init_2 0 rfl rfl)
theorem dX1_init_49 : decode cX1_init 49 = .ok (.putfield 27, 3) := dk_181 0 27 (dk_at dksX1_init_2 2 rfl rfl)
theorem dX1_init_52 : decode cX1_init 52 = .ok (.aload_n 0, 1) := dk_42 (dk_at dksX1_init_2 5 rfl rfl)
theorem dX1_init_53 : decode cX1_init 53 = .ok (.bipush 8, 2) := dk_16 8 (dk_at dksX1_init_2 6 rfl rfl)
theorem dX1_init_55 : decode cX1_init 55 = .ok (.newarray .int, 2) := dk_188_10 (dk_at dksX1_init_2 8 rfl rfl)
theorem dX1_init_57 : decode cX1_init 57 = .ok (.putfield 30, 3) := dk_181 0 30 (dk_at dksX1_init_2 10 rfl rfl)
theorem dX1_init_60 : decode cX1_init 60 = .ok (.aload_n 0, 1) := dk_42 (dk_at dksX1_init_2 13 rfl rfl)
theorem dX1_init_61 : decode cX1_init 61 = .ok (.bipush 8, 2) := dk_16 8 (dk_at dksX1_init_2 14 rfl rfl)
theorem dX1_init_63 : decode cX1_init 63 = .ok (.newarray .int, 2) := dk_188_10 (dk_at dksX1_init_2 16 rfl rfl)
theorem dX1_init_65 : decode cX1_init 65 = .ok (.putfield 33, 3) := dk_181 0 33 (dk_at dksX1_init_2 18 rfl rfl)
theorem dX1_init_68 : decode cX1_init 68 = .ok (.aload_n 0, 1) := dk_42 (dk_at dksX1_init_2 21 rfl rfl)
theorem dX1_init_69 : decode cX1_init 69 = .ok (.bipush 8, 2) := dk_16 8 (dk_at dksX1_init_2 22 rfl rfl)
theorem dX1_init_71 : decode cX1_init 71 = .ok (.newarray .int, 2) := dk_188_10 (dk_at dksX1_init_3 0 rfl rfl)
theorem dX1_init_73 : decode cX1_init 73 = .ok (.putfield 36, 3) := dk_181 0 36 (dk_at dksX1_init_3 2 rfl rfl)
theorem dX1_init_76 : decode cX1_init 76 = .ok (.aload_n 0, 1) := dk_42 (dk_at dksX1_init_3 5 rfl rfl)
theorem dX1_init_77 : decode cX1_init 77 = .ok (.bipush 12, 2) := dk_16 12 (dk_at dksX1_init_3 6 rfl rfl)
theorem dX1_init_79 : decode cX1_init 79 = .ok (.newarray .int, 2) := dk_188_10 (dk_at dksX1_init_3 8 rfl rfl)
theorem dX1_init_81 : decode cX1_init 81 = .ok (.putfield 39, 3) := dk_181 0 39 (dk_at dksX1_init_3 10 rfl rfl)
theorem dX1_init_84 : decode cX1_init 84 = .ok (.aload_n 0, 1) := dk_42 (dk_at dksX1_init_3 13 rfl rfl)
theorem dX1_init_85 : decode cX1_init 85 = .ok (.bipush 12, 2) := dk_16 12 (dk_at dksX1_init_3 14 rfl rfl)
theorem dX1_init_87 : decode cX1_init 87 = .ok (.newarray .int, 2) := dk_188_10 (dk_at dksX1_init_3 16 rfl rfl)
theorem dX1_init_89 : decode cX1_init 89 = .ok (.putfield 42, 3) := dk_181 0 42 (dk_at dksX1_init_3 18 rfl rfl)
theorem dX1_init_92 : decode cX1_init 92 = .ok (.aload_n 0, 1) := dk_42 (dk_at dksX1_init_3 21 rfl rfl)
theorem dX1_init_93 : decode cX1_init 93 = .ok (.bipush 12, 2) := dk_16 12 (dk_at dksX1_init_3 22 rfl rfl)
theorem dX1_init_95 : decode cX1_init 95 = .ok (.newarray .int, 2) := dk_188_10 (dk_at dksX1_init_4 0 rfl rfl)
theorem dX1_init_97 : decode cX1_init 97 = .ok (.putfield 45, 3) := dk_181 0 45 (dk_at dksX1_init_4 2 rfl rfl)
theorem dX1_init_100 : decode cX1_init 100 = .ok (.aload_n 0, 1) := dk_42 (dk_at dksX1_init_4 5 rfl rfl)
theorem dX1_init_101 : decode cX1_init 101 = .ok (.bipush 6, 2) := dk_16 6 (dk_at dksX1_init_4 6 rfl rfl)
theorem dX1_init_103 : decode cX1_init 103 = .ok (.newarray .int, 2) := dk_188_10 (dk_at dksX1_init_4 8 rfl rfl)
theorem dX1_init_105 : decode cX1_init 105 = .ok (.putfield 48, 3) := dk_181 0 48 (dk_at dksX1_init_4 10 rfl rfl)
theorem dX1_init_108 : decode cX1_init 108 = .ok (.aload_n 0, 1) := dk_42 (dk_at dksX1_init_4 13 rfl rfl)
theorem dX1_init_109 : decode cX1_init 109 = .ok (.bipush 6, 2) := dk_16 6 (dk_at dksX1_init_4 14 rfl rfl)
theorem dX1_init_111 : decode cX1_init 111 = .ok (.newarray .int, 2) := dk_188_10 (dk_at dksX1_init_4 16 rfl rfl)
theorem dX1_init_113 : decode cX1_init 113 = .ok (.putfield 51, 3) := dk_181 0 51 (dk_at dksX1_init_4 18 rfl rfl)
theorem dX1_init_116 : decode cX1_init 116 = .ok (.aload_n 0, 1) := dk_42 (dk_at dksX1_init_4 21 rfl rfl)
theorem dX1_init_117 : decode cX1_init 117 = .ok (.bipush 18, 2) := dk_16 18 (dk_at dksX1_init_4 22 rfl rfl)
theorem dX1_init_119 : decode cX1_init 119 = .ok (.newarray .int, 2) := dk_188_10 (dk_at dksX1_init_5 0 rfl rfl)
theorem dX1_init_121 : decode cX1_init 121 = .ok (.putfield 54, 3) := dk_181 0 54 (dk_at dksX1_init_5 2 rfl rfl)
theorem dX1_init_124 : decode cX1_init 124 = .ok (.aload_n 0, 1) := dk_42 (dk_at dksX1_init_5 5 rfl rfl)
theorem dX1_init_125 : decode cX1_init 125 = .ok (.sipush 1540, 3) := dk_17 6 4 (dk_at dksX1_init_5 6 rfl rfl)
theorem dX1_init_128 : decode cX1_init 128 = .ok (.newarray .int, 2) := dk_188_10 (dk_at dksX1_init_5 9 rfl rfl)
theorem dX1_init_130 : decode cX1_init 130 = .ok (.putfield 57, 3) := dk_181 0 57 (dk_at dksX1_init_5 11 rfl rfl)
theorem dX1_init_133 : decode cX1_init 133 = .ok (.aload_n 0, 1) := dk_42 (dk_at dksX1_init_5 14 rfl rfl)
theorem dX1_init_134 : decode cX1_init 134 = .ok (.bipush 8, 2) := dk_16 8 (dk_at dksX1_init_5 15 rfl rfl)
theorem dX1_init_136 : decode cX1_init 136 = .ok (.newarray .int, 2) := dk_188_10 (dk_at dksX1_init_5 17 rfl rfl)
theorem dX1_init_138 : decode cX1_init 138 = .ok (.putfield 60, 3) := dk_181 0 60 (dk_at dksX1_init_5 19 rfl rfl)
theorem dX1_init_141 : decode cX1_init 141 = .ok (.return_, 1) := dk_177 (dk_at dksX1_init_5 22 rfl rfl)
abbrev cX1_copies : ByteArray := prog_6_method_2_code
def yX1_copies : MethodName := ⟨RX1, "copies", "(LPartyRaft$Flow;)LPartyRaft$Flow;"⟩
def dkwX1_copies_7 : List UInt8 := [184, 0, 82, 42, 43, 182, 0, 88, 176]
abbrev dktX1_copies_7 : List UInt8 := dkwX1_copies_7 ++ []
def dkwX1_copies_6 : List UInt8 := [3, 42, 180, 0, 54, 3, 16, 18, 184, 0, 82, 43, 180, 0, 57, 3, 42, 180, 0, 57, 3, 17, 6, 4]
abbrev dktX1_copies_6 : List UInt8 := dkwX1_copies_6 ++ dktX1_copies_7
def dkwX1_copies_5 : List UInt8 := [16, 6, 184, 0, 82, 43, 180, 0, 51, 3, 42, 180, 0, 51, 3, 16, 6, 184, 0, 82, 43, 180, 0, 54]
abbrev dktX1_copies_5 : List UInt8 := dkwX1_copies_5 ++ dktX1_copies_6
def dkwX1_copies_4 : List UInt8 := [180, 0, 30, 3, 42, 180, 0, 30, 3, 16, 8, 184, 0, 82, 43, 180, 0, 48, 3, 42, 180, 0, 48, 3]
abbrev dktX1_copies_4 : List UInt8 := dkwX1_copies_4 ++ dktX1_copies_5
def dkwX1_copies_3 : List UInt8 := [3, 16, 6, 184, 0, 82, 43, 180, 0, 24, 3, 42, 180, 0, 24, 3, 16, 8, 184, 0, 82, 43]
abbrev dktX1_copies_3 : List UInt8 := dkwX1_copies_3 ++ dktX1_copies_4
def dkwX1_copies_2 : List UInt8 := [43, 180, 0, 9, 3, 42, 180, 0, 9, 3, 16, 6, 184, 0, 82, 43, 180, 0, 15, 3, 42, 180, 0, 15]
abbrev dktX1_copies_2 : List UInt8 := dkwX1_copies_2 ++ dktX1_copies_3
def dkwX1_copies_1 : List UInt8 := [42, 43, 180, 0, 73, 181, 0, 73, 42, 43, 180, 0, 76, 181, 0, 76, 42, 43, 180, 0, 79, 181, 0, 79]
abbrev dktX1_copies_1 : List UInt8 := dkwX1_copies_1 ++ dktX1_copies_2
def dkwX1_copies_0 : List UInt8 := [42, 43, 180, 0, 63, 181, 0, 63, 42, 43, 180, 0, 67, 181, 0, 67, 42, 43, 180, 0, 70, 181, 0, 70]
abbrev dktX1_copies_0 : List UInt8 := dkwX1_copies_0 ++ dktX1_copies_1
theorem dksX1_copies_0 : cX1_copies.data.toList.drop 0 = dktX1_copies_0 := by decide +kernel
theorem dksX1_copies_1 : cX1_copies.data.toList.drop 24 = dktX1_copies_1 := dk_seg dksX1_copies_0 24 rfl rfl
theorem dksX1_copies_2 : cX1_copies.data.toList.drop 48 = dktX1_copies_2 := dk_seg dksX1_copies_1 24 rfl rfl
theorem dksX1_copies_3 : cX1_copies.data.toList.drop 72 = dktX1_copies_3 := dk_seg dksX1_copies_2 24 rfl rfl
theorem dksX1_copies_4 : cX1_copies.data.toList.drop 94 = dktX1_copies_4 := dk_seg dksX1_copies_3 22 rfl rfl
theorem dksX1_copies_5 : cX1_copies.data.toList.drop 118 = dktX1_copies_5 := dk_seg dksX1_copies_4 24 rfl rfl
theorem dksX1_copies_6 : cX1_copies.data.toList.drop 142 = dktX1_copies_6 := dk_seg dksX1_copies_5 24 rfl rfl
theorem dksX1_copies_7 : cX1_copies.data.toList.drop 166 = dktX1_copies_7 := dk_seg dksX1_copies_6 24 rfl rfl
theorem dX1_copies_0 : decode cX1_copies 0 = .ok (.aload_n 0, 1) := dk_42 (dk_at dksX1_copies_0 0 rfl rfl)
theorem dX1_copies_1 : decode cX1_copies 1 = .ok (.aload_n 1, 1) := dk_43 (dk_at dksX1_copies_0 1 rfl rfl)
theorem dX1_copies_2 : decode cX1_copies 2 = .ok (.getfield 63, 3) := dk_180 0 63 (dk_at dksX1_copies_0 2 rfl rfl)
theorem dX1_copies_5 : decode cX1_copies 5 = .ok (.putfield 63, 3) := dk_181 0 63 (dk_at dksX1_copies_0 5 rfl rfl)
theorem dX1_copies_8 : decode cX1_copies 8 = .ok (.aload_n 0, 1) := dk_42 (dk_at dksX1_copies_0 8 rfl rfl)
theorem dX1_copies_9 : decode cX1_copies 9 = .ok (.aload_n 1, 1) := dk_43 (dk_at dksX1_copies_0 9 rfl rfl)
theorem dX1_copies_10 : decode cX1_copies 10 = .ok (.getfield 67, 3) := dk_180 0 67 (dk_at dksX1_copies_0 10 rfl rfl)
theorem dX1_copies_13 : decode cX1_copies 13 = .ok (.putfield 67, 3) := dk_181 0 67 (dk_at dksX1_copies_0 13 rfl rfl)
theorem dX1_copies_16 : decode cX1_copies 16 = .ok (.aload_n 0, 1) := dk_42 (dk_at dksX1_copies_0 16 rfl rfl)
theorem dX1_copies_17 : decode cX1_copies 17 = .ok (.aload_n 1, 1) := dk_43 (dk_at dksX1_copies_0 17 rfl rfl)
theorem dX1_copies_18 : decode cX1_copies 18 = .ok (.getfield 70, 3) := dk_180 0 70 (dk_at dksX1_copies_0 18 rfl rfl)
theorem dX1_copies_21 : decode cX1_copies 21 = .ok (.putfield 70, 3) := dk_181 0 70 (dk_at dksX1_copies_0 21 rfl rfl)
theorem dX1_copies_24 : decode cX1_copies 24 = .ok (.aload_n 0, 1) := dk_42 (dk_at dksX1_copies_1 0 rfl rfl)
theorem dX1_copies_25 : decode cX1_copies 25 = .ok (.aload_n 1, 1) := dk_43 (dk_at dksX1_copies_1 1 rfl rfl)
theorem dX1_copies_26 : decode cX1_copies 26 = .ok (.getfield 73, 3) := dk_180 0 73 (dk_at dksX1_copies_1 2 rfl rfl)
theorem dX1_copies_29 : decode cX1_copies 29 = .ok (.putfield 73, 3) := dk_181 0 73 (dk_at dksX1_copies_1 5 rfl rfl)
theorem dX1_copies_32 : decode cX1_copies 32 = .ok (.aload_n 0, 1) := dk_42 (dk_at dksX1_copies_1 8 rfl rfl)
theorem dX1_copies_33 : decode cX1_copies 33 = .ok (.aload_n 1, 1) := dk_43 (dk_at dksX1_copies_1 9 rfl rfl)
theorem dX1_copies_34 : decode cX1_copies 34 = .ok (.getfield 76, 3) := dk_180 0 76 (dk_at dksX1_copies_1 10 rfl rfl)
theorem dX1_copies_37 : decode cX1_copies 37 = .ok (.putfield 76, 3) := dk_181 0 76 (dk_at dksX1_copies_1 13 rfl rfl)
theorem dX1_copies_40 : decode cX1_copies 40 = .ok (.aload_n 0, 1) := dk_42 (dk_at dksX1_copies_1 16 rfl rfl)
theorem dX1_copies_41 : decode cX1_copies 41 = .ok (.aload_n 1, 1) := dk_43 (dk_at dksX1_copies_1 17 rfl rfl)
theorem dX1_copies_42 : decode cX1_copies 42 = .ok (.getfield 79, 3) := dk_180 0 79 (dk_at dksX1_copies_1 18 rfl rfl)
theorem dX1_copies_45 : decode cX1_copies 45 = .ok (.putfield 79, 3) := dk_181 0 79 (dk_at dksX1_copies_1 21 rfl rfl)
theorem dX1_copies_48 : decode cX1_copies 48 = .ok (.aload_n 1, 1) := dk_43 (dk_at dksX1_copies_2 0 rfl rfl)
theorem dX1_copies_49 : decode cX1_copies 49 = .ok (.getfield 9, 3) := dk_180 0 9 (dk_at dksX1_copies_2 1 rfl rfl)
theorem dX1_copies_52 : decode cX1_copies 52 = .ok (.iconst 0, 1) := dk_3 (dk_at dksX1_copies_2 4 rfl rfl)
theorem dX1_copies_53 : decode cX1_copies 53 = .ok (.aload_n 0, 1) := dk_42 (dk_at dksX1_copies_2 5 rfl rfl)
theorem dX1_copies_54 : decode cX1_copies 54 = .ok (.getfield 9, 3) := dk_180 0 9 (dk_at dksX1_copies_2 6 rfl rfl)
theorem dX1_copies_57 : decode cX1_copies 57 = .ok (.iconst 0, 1) := dk_3 (dk_at dksX1_copies_2 9 rfl rfl)
theorem dX1_copies_58 : decode cX1_copies 58 = .ok (.bipush 6, 2) := dk_16 6 (dk_at dksX1_copies_2 10 rfl rfl)
theorem dX1_copies_60 : decode cX1_copies 60 = .ok (.invokestatic 82, 3) := dk_184 0 82 (dk_at dksX1_copies_2 12 rfl rfl)
theorem dX1_copies_63 : decode cX1_copies 63 = .ok (.aload_n 1, 1) := dk_43 (dk_at dksX1_copies_2 15 rfl rfl)
theorem dX1_copies_64 : decode cX1_copies 64 = .ok (.getfield 15, 3) := dk_180 0 15 (dk_at dksX1_copies_2 16 rfl rfl)
theorem dX1_copies_67 : decode cX1_copies 67 = .ok (.iconst 0, 1) := dk_3 (dk_at dksX1_copies_2 19 rfl rfl)
theorem dX1_copies_68 : decode cX1_copies 68 = .ok (.aload_n 0, 1) := dk_42 (dk_at dksX1_copies_2 20 rfl rfl)
theorem dX1_copies_69 : decode cX1_copies 69 = .ok (.getfield 15, 3) := dk_180 0 15 (dk_at dksX1_copies_2 21 rfl rfl)
theorem dX1_copies_72 : decode cX1_copies 72 = .ok (.iconst 0, 1) := dk_3 (dk_at dksX1_copies_3 0 rfl rfl)
theorem dX1_copies_73 : decode cX1_copies 73 = .ok (.bipush 6, 2) := dk_16 6 (dk_at dksX1_copies_3 1 rfl rfl)
theorem dX1_copies_75 : decode cX1_copies 75 = .ok (.invokestatic 82, 3) := dk_184 0 82 (dk_at dksX1_copies_3 3 rfl rfl)
theorem dX1_copies_78 : decode cX1_copies 78 = .ok (.aload_n 1, 1) := dk_43 (dk_at dksX1_copies_3 6 rfl rfl)
theorem dX1_copies_79 : decode cX1_copies 79 = .ok (.getfield 24, 3) := dk_180 0 24 (dk_at dksX1_copies_3 7 rfl rfl)
theorem dX1_copies_82 : decode cX1_copies 82 = .ok (.iconst 0, 1) := dk_3 (dk_at dksX1_copies_3 10 rfl rfl)
theorem dX1_copies_83 : decode cX1_copies 83 = .ok (.aload_n 0, 1) := dk_42 (dk_at dksX1_copies_3 11 rfl rfl)
theorem dX1_copies_84 : decode cX1_copies 84 = .ok (.getfield 24, 3) := dk_180 0 24 (dk_at dksX1_copies_3 12 rfl rfl)
theorem dX1_copies_87 : decode cX1_copies 87 = .ok (.iconst 0, 1) := dk_3 (dk_at dksX1_copies_3 15 rfl rfl)
theorem dX1_copies_88 : decode cX1_copies 88 = .ok (.bipush 8, 2) := dk_16 8 (dk_at dksX1_copies_3 16 rfl rfl)
theorem dX1_copies_90 : decode cX1_copies 90 = .ok (.invokestatic 82, 3) := dk_184 0 82 (dk_at dksX1_copies_3 18 rfl rfl)
theorem dX1_copies_93 : decode cX1_copies 93 = .ok (.aload_n 1, 1) := dk_43 (dk_at dksX1_copies_3 21 rfl rfl)
theorem dX1_copies_94 : decode cX1_copies 94 = .ok (.getfield 30, 3) := dk_180 0 30 (dk_at dksX1_copies_4 0 rfl rfl)
theorem dX1_copies_97 : decode cX1_copies 97 = .ok (.iconst 0, 1) := dk_3 (dk_at dksX1_copies_4 3 rfl rfl)
theorem dX1_copies_98 : decode cX1_copies 98 = .ok (.aload_n 0, 1) := dk_42 (dk_at dksX1_copies_4 4 rfl rfl)
theorem dX1_copies_99 : decode cX1_copies 99 = .ok (.getfield 30, 3) := dk_180 0 30 (dk_at dksX1_copies_4 5 rfl rfl)
theorem dX1_copies_102 : decode cX1_copies 102 = .ok (.iconst 0, 1) := dk_3 (dk_at dksX1_copies_4 8 rfl rfl)
theorem dX1_copies_103 : decode cX1_copies 103 = .ok (.bipush 8, 2) := dk_16 8 (dk_at dksX1_copies_4 9 rfl rfl)
theorem dX1_copies_105 : decode cX1_copies 105 = .ok (.invokestatic 82, 3) := dk_184 0 82 (dk_at dksX1_copies_4 11 rfl rfl)
theorem dX1_copies_108 : decode cX1_copies 108 = .ok (.aload_n 1, 1) := dk_43 (dk_at dksX1_copies_4 14 rfl rfl)
theorem dX1_copies_109 : decode cX1_copies 109 = .ok (.getfield 48, 3) := dk_180 0 48 (dk_at dksX1_copies_4 15 rfl rfl)
theorem dX1_copies_112 : decode cX1_copies 112 = .ok (.iconst 0, 1) := dk_3 (dk_at dksX1_copies_4 18 rfl rfl)
theorem dX1_copies_113 : decode cX1_copies 113 = .ok (.aload_n 0, 1) := dk_42 (dk_at dksX1_copies_4 19 rfl rfl)
theorem dX1_copies_114 : decode cX1_copies 114 = .ok (.getfield 48, 3) := dk_180 0 48 (dk_at dksX1_copies_4 20 rfl rfl)
theorem dX1_copies_117 : decode cX1_copies 117 = .ok (.iconst 0, 1) := dk_3 (dk_at dksX1_copies_4 23 rfl rfl)
theorem dX1_copies_118 : decode cX1_copies 118 = .ok (.bipush 6, 2) := dk_16 6 (dk_at dksX1_copies_5 0 rfl rfl)
theorem dX1_copies_120 : decode cX1_copies 120 = .ok (.invokestatic 82, 3) := dk_184 0 82 (dk_at dksX1_copies_5 2 rfl rfl)
theorem dX1_copies_123 : decode cX1_copies 123 = .ok (.aload_n 1, 1) := dk_43 (dk_at dksX1_copies_5 5 rfl rfl)
theorem dX1_copies_124 : decode cX1_copies 124 = .ok (.getfield 51, 3) := dk_180 0 51 (dk_at dksX1_copies_5 6 rfl rfl)
theorem dX1_copies_127 : decode cX1_copies 127 = .ok (.iconst 0, 1) := dk_3 (dk_at dksX1_copies_5 9 rfl rfl)
theorem dX1_copies_128 : decode cX1_copies 128 = .ok (.aload_n 0, 1) := dk_42 (dk_at dksX1_copies_5 10 rfl rfl)
theorem dX1_copies_129 : decode cX1_copies 129 = .ok (.getfield 51, 3) := dk_180 0 51 (dk_at dksX1_copies_5 11 rfl rfl)
theorem dX1_copies_132 : decode cX1_copies 132 = .ok (.iconst 0, 1) := dk_3 (dk_at dksX1_copies_5 14 rfl rfl)
theorem dX1_copies_133 : decode cX1_copies 133 = .ok (.bipush 6, 2) := dk_16 6 (dk_at dksX1_copies_5 15 rfl rfl)
theorem dX1_copies_135 : decode cX1_copies 135 = .ok (.invokestatic 82, 3) := dk_184 0 82 (dk_at dksX1_copies_5 17 rfl rfl)
theorem dX1_copies_138 : decode cX1_copies 138 = .ok (.aload_n 1, 1) := dk_43 (dk_at dksX1_copies_5 20 rfl rfl)
theorem dX1_copies_139 : decode cX1_copies 139 = .ok (.getfield 54, 3) := dk_180 0 54 (dk_at dksX1_copies_5 21 rfl rfl)
theorem dX1_copies_142 : decode cX1_copies 142 = .ok (.iconst 0, 1) := dk_3 (dk_at dksX1_copies_6 0 rfl rfl)
theorem dX1_copies_143 : decode cX1_copies 143 = .ok (.aload_n 0, 1) := dk_42 (dk_at dksX1_copies_6 1 rfl rfl)
theorem dX1_copies_144 : decode cX1_copies 144 = .ok (.getfield 54, 3) := dk_180 0 54 (dk_at dksX1_copies_6 2 rfl rfl)
theorem dX1_copies_147 : decode cX1_copies 147 = .ok (.iconst 0, 1) := dk_3 (dk_at dksX1_copies_6 5 rfl rfl)
theorem dX1_copies_148 : decode cX1_copies 148 = .ok (.bipush 18, 2) := dk_16 18 (dk_at dksX1_copies_6 6 rfl rfl)
theorem dX1_copies_150 : decode cX1_copies 150 = .ok (.invokestatic 82, 3) := dk_184 0 82 (dk_at dksX1_copies_6 8 rfl rfl)
theorem dX1_copies_153 : decode cX1_copies 153 = .ok (.aload_n 1, 1) := dk_43 (dk_at dksX1_copies_6 11 rfl rfl)
theorem dX1_copies_154 : decode cX1_copies 154 = .ok (.getfield 57, 3) := dk_180 0 57 (dk_at dksX1_copies_6 12 rfl rfl)
theorem dX1_copies_157 : decode cX1_copies 157 = .ok (.iconst 0, 1) := dk_3 (dk_at dksX1_copies_6 15 rfl rfl)
theorem dX1_copies_158 : decode cX1_copies 158 = .ok (.aload_n 0, 1) := dk_42 (dk_at dksX1_copies_6 16 rfl rfl)
theorem dX1_copies_159 : decode cX1_copies 159 = .ok (.getfield 57, 3) := dk_180 0 57 (dk_at dksX1_copies_6 17 rfl rfl)
theorem dX1_copies_162 : decode cX1_copies 162 = .ok (.iconst 0, 1) := dk_3 (dk_at dksX1_copies_6 20 rfl rfl)
theorem dX1_copies_163 : decode cX1_copies 163 = .ok (.sipush 1540, 3) := dk_17 6 4 (dk_at dksX1_copies_6 21 rfl rfl)
theorem dX1_copies_166 : decode cX1_copies 166 = .ok (.invokestatic 82, 3) := dk_184 0 82 (dk_at dksX1_copies_7 0 rfl rfl)
theorem dX1_copies_169 : decode cX1_copies 169 = .ok (.aload_n 0, 1) := dk_42 (dk_at dksX1_copies_7 3 rfl rfl)
theorem dX1_copies_170 : decode cX1_copies 170 = .ok (.aload_n 1, 1) := dk_43 (dk_at dksX1_copies_7 4 rfl rfl)
theorem dX1_copies_171 : decode cX1_copies 171 = .ok (.invokevirtual 88, 3) := dk_182 0 88 (dk_at dksX1_copies_7 5 rfl rfl)
theorem dX1_copies_174 : decode cX1_copies 174 = .ok (.areturn, 1) := dk_176 (dk_at dksX1_copies_7 8 rfl rfl)
abbrev cX1_standsAs : ByteArray := prog_6_method_3_code
def yX1_standsAs : MethodName := ⟨RX1, "standsAs", "(LPartyRaft$Flow;)LPartyRaft$Flow;"⟩
def dkwX1_standsAs_6 : List UInt8 := [184, 0, 82, 42, 176]
abbrev dktX1_standsAs_6 : List UInt8 := dkwX1_standsAs_6 ++ []
def dkwX1_standsAs_5 : List UInt8 := [3, 42, 180, 0, 42, 3, 16, 12, 184, 0, 82, 43, 180, 0, 45, 3, 42, 180, 0, 45, 3, 16, 12]
abbrev dktX1_standsAs_5 : List UInt8 := dkwX1_standsAs_5 ++ dktX1_standsAs_6
def dkwX1_standsAs_4 : List UInt8 := [16, 8, 184, 0, 82, 43, 180, 0, 39, 3, 42, 180, 0, 39, 3, 16, 12, 184, 0, 82, 43, 180, 0, 42]
abbrev dktX1_standsAs_4 : List UInt8 := dkwX1_standsAs_4 ++ dktX1_standsAs_5
def dkwX1_standsAs_3 : List UInt8 := [180, 0, 33, 3, 42, 180, 0, 33, 3, 16, 8, 184, 0, 82, 43, 180, 0, 36, 3, 42, 180, 0, 36, 3]
abbrev dktX1_standsAs_3 : List UInt8 := dkwX1_standsAs_3 ++ dktX1_standsAs_4
def dkwX1_standsAs_2 : List UInt8 := [3, 16, 8, 184, 0, 82, 43, 180, 0, 27, 3, 42, 180, 0, 27, 3, 16, 8, 184, 0, 82, 43]
abbrev dktX1_standsAs_2 : List UInt8 := dkwX1_standsAs_2 ++ dktX1_standsAs_3
def dkwX1_standsAs_1 : List UInt8 := [43, 180, 0, 18, 3, 42, 180, 0, 18, 3, 16, 6, 184, 0, 82, 43, 180, 0, 21, 3, 42, 180, 0, 21]
abbrev dktX1_standsAs_1 : List UInt8 := dkwX1_standsAs_1 ++ dktX1_standsAs_2
def dkwX1_standsAs_0 : List UInt8 := [42, 43, 180, 0, 92, 181, 0, 92, 42, 43, 180, 0, 95, 181, 0, 95, 42, 43, 180, 0, 98, 181, 0, 98]
abbrev dktX1_standsAs_0 : List UInt8 := dkwX1_standsAs_0 ++ dktX1_standsAs_1
theorem dksX1_standsAs_0 : cX1_standsAs.data.toList.drop 0 = dktX1_standsAs_0 := by decide +kernel
theorem dksX1_standsAs_1 : cX1_standsAs.data.toList.drop 24 = dktX1_standsAs_1 := dk_seg dksX1_standsAs_0 24 rfl rfl
theorem dksX1_standsAs_2 : cX1_standsAs.data.toList.drop 48 = dktX1_standsAs_2 := dk_seg dksX1_standsAs_1 24 rfl rfl
theorem dksX1_standsAs_3 : cX1_standsAs.data.toList.drop 70 = dktX1_standsAs_3 := dk_seg dksX1_standsAs_2 22 rfl rfl
theorem dksX1_standsAs_4 : cX1_standsAs.data.toList.drop 94 = dktX1_standsAs_4 := dk_seg dksX1_standsAs_3 24 rfl rfl
theorem dksX1_standsAs_5 : cX1_standsAs.data.toList.drop 118 = dktX1_standsAs_5 := dk_seg dksX1_standsAs_4 24 rfl rfl
theorem dksX1_standsAs_6 : cX1_standsAs.data.toList.drop 141 = dktX1_standsAs_6 := dk_seg dksX1_standsAs_5 23 rfl rfl
theorem dX1_standsAs_0 : decode cX1_standsAs 0 = .ok (.aload_n 0, 1) := dk_42 (dk_at dksX1_standsAs_0 0 rfl rfl)
theorem dX1_standsAs_1 : decode cX1_standsAs 1 = .ok (.aload_n 1, 1) := dk_43 (dk_at dksX1_standsAs_0 1 rfl rfl)
theorem dX1_standsAs_2 : decode cX1_standsAs 2 = .ok (.getfield 92, 3) := dk_180 0 92 (dk_at dksX1_standsAs_0 2 rfl rfl)
theorem dX1_standsAs_5 : decode cX1_standsAs 5 = .ok (.putfield 92, 3) := dk_181 0 92 (dk_at dksX1_standsAs_0 5 rfl rfl)
theorem dX1_standsAs_8 : decode cX1_standsAs 8 = .ok (.aload_n 0, 1) := dk_42 (dk_at dksX1_standsAs_0 8 rfl rfl)
theorem dX1_standsAs_9 : decode cX1_standsAs 9 = .ok (.aload_n 1, 1) := dk_43 (dk_at dksX1_standsAs_0 9 rfl rfl)
theorem dX1_standsAs_10 : decode cX1_standsAs 10 = .ok (.getfield 95, 3) := dk_180 0 95 (dk_at dksX1_standsAs_0 10 rfl rfl)
theorem dX1_standsAs_13 : decode cX1_standsAs 13 = .ok (.putfield 95, 3) := dk_181 0 95 (dk_at dksX1_standsAs_0 13 rfl rfl)
theorem dX1_standsAs_16 : decode cX1_standsAs 16 = .ok (.aload_n 0, 1) := dk_42 (dk_at dksX1_standsAs_0 16 rfl rfl)
theorem dX1_standsAs_17 : decode cX1_standsAs 17 = .ok (.aload_n 1, 1) := dk_43 (dk_at dksX1_standsAs_0 17 rfl rfl)
theorem dX1_standsAs_18 : decode cX1_standsAs 18 = .ok (.getfield 98, 3) := dk_180 0 98 (dk_at dksX1_standsAs_0 18 rfl rfl)
theorem dX1_standsAs_21 : decode cX1_standsAs 21 = .ok (.putfield 98, 3) := dk_181 0 98 (dk_at dksX1_standsAs_0 21 rfl rfl)
theorem dX1_standsAs_24 : decode cX1_standsAs 24 = .ok (.aload_n 1, 1) := dk_43 (dk_at dksX1_standsAs_1 0 rfl rfl)
theorem dX1_standsAs_25 : decode cX1_standsAs 25 = .ok (.getfield 18, 3) := dk_180 0 18 (dk_at dksX1_standsAs_1 1 rfl rfl)
theorem dX1_standsAs_28 : decode cX1_standsAs 28 = .ok (.iconst 0, 1) := dk_3 (dk_at dksX1_standsAs_1 4 rfl rfl)
theorem dX1_standsAs_29 : decode cX1_standsAs 29 = .ok (.aload_n 0, 1) := dk_42 (dk_at dksX1_standsAs_1 5 rfl rfl)
theorem dX1_standsAs_30 : decode cX1_standsAs 30 = .ok (.getfield 18, 3) := dk_180 0 18 (dk_at dksX1_standsAs_1 6 rfl rfl)
theorem dX1_standsAs_33 : decode cX1_standsAs 33 = .ok (.iconst 0, 1) := dk_3 (dk_at dksX1_standsAs_1 9 rfl rfl)
theorem dX1_standsAs_34 : decode cX1_standsAs 34 = .ok (.bipush 6, 2) := dk_16 6 (dk_at dksX1_standsAs_1 10 rfl rfl)
theorem dX1_standsAs_36 : decode cX1_standsAs 36 = .ok (.invokestatic 82, 3) := dk_184 0 82 (dk_at dksX1_standsAs_1 12 rfl rfl)
theorem dX1_standsAs_39 : decode cX1_standsAs 39 = .ok (.aload_n 1, 1) := dk_43 (dk_at dksX1_standsAs_1 15 rfl rfl)
theorem dX1_standsAs_40 : decode cX1_standsAs 40 = .ok (.getfield 21, 3) := dk_180 0 21 (dk_at dksX1_standsAs_1 16 rfl rfl)
theorem dX1_standsAs_43 : decode cX1_standsAs 43 = .ok (.iconst 0, 1) := dk_3 (dk_at dksX1_standsAs_1 19 rfl rfl)
theorem dX1_standsAs_44 : decode cX1_standsAs 44 = .ok (.aload_n 0, 1) := dk_42 (dk_at dksX1_standsAs_1 20 rfl rfl)
theorem dX1_standsAs_45 : decode cX1_standsAs 45 = .ok (.getfield 21, 3) := dk_180 0 21 (dk_at dksX1_standsAs_1 21 rfl rfl)
theorem dX1_standsAs_48 : decode cX1_standsAs 48 = .ok (.iconst 0, 1) := dk_3 (dk_at dksX1_standsAs_2 0 rfl rfl)
theorem dX1_standsAs_49 : decode cX1_standsAs 49 = .ok (.bipush 8, 2) := dk_16 8 (dk_at dksX1_standsAs_2 1 rfl rfl)
theorem dX1_standsAs_51 : decode cX1_standsAs 51 = .ok (.invokestatic 82, 3) := dk_184 0 82 (dk_at dksX1_standsAs_2 3 rfl rfl)
theorem dX1_standsAs_54 : decode cX1_standsAs 54 = .ok (.aload_n 1, 1) := dk_43 (dk_at dksX1_standsAs_2 6 rfl rfl)
theorem dX1_standsAs_55 : decode cX1_standsAs 55 = .ok (.getfield 27, 3) := dk_180 0 27 (dk_at dksX1_standsAs_2 7 rfl rfl)
theorem dX1_standsAs_58 : decode cX1_standsAs 58 = .ok (.iconst 0, 1) := dk_3 (dk_at dksX1_standsAs_2 10 rfl rfl)
theorem dX1_standsAs_59 : decode cX1_standsAs 59 = .ok (.aload_n 0, 1) := dk_42 (dk_at dksX1_standsAs_2 11 rfl rfl)
theorem dX1_standsAs_60 : decode cX1_standsAs 60 = .ok (.getfield 27, 3) := dk_180 0 27 (dk_at dksX1_standsAs_2 12 rfl rfl)
theorem dX1_standsAs_63 : decode cX1_standsAs 63 = .ok (.iconst 0, 1) := dk_3 (dk_at dksX1_standsAs_2 15 rfl rfl)
theorem dX1_standsAs_64 : decode cX1_standsAs 64 = .ok (.bipush 8, 2) := dk_16 8 (dk_at dksX1_standsAs_2 16 rfl rfl)
theorem dX1_standsAs_66 : decode cX1_standsAs 66 = .ok (.invokestatic 82, 3) := dk_184 0 82 (dk_at dksX1_standsAs_2 18 rfl rfl)
theorem dX1_standsAs_69 : decode cX1_standsAs 69 = .ok (.aload_n 1, 1) := dk_43 (dk_at dksX1_standsAs_2 21 rfl rfl)
theorem dX1_standsAs_70 : decode cX1_standsAs 70 = .ok (.getfield 33, 3) := dk_180 0 33 (dk_at dksX1_standsAs_3 0 rfl rfl)
theorem dX1_standsAs_73 : decode cX1_standsAs 73 = .ok (.iconst 0, 1) := dk_3 (dk_at dksX1_standsAs_3 3 rfl rfl)
theorem dX1_standsAs_74 : decode cX1_standsAs 74 = .ok (.aload_n 0, 1) := dk_42 (dk_at dksX1_standsAs_3 4 rfl rfl)
theorem dX1_standsAs_75 : decode cX1_standsAs 75 = .ok (.getfield 33, 3) := dk_180 0 33 (dk_at dksX1_standsAs_3 5 rfl rfl)
theorem dX1_standsAs_78 : decode cX1_standsAs 78 = .ok (.iconst 0, 1) := dk_3 (dk_at dksX1_standsAs_3 8 rfl rfl)
theorem dX1_standsAs_79 : decode cX1_standsAs 79 = .ok (.bipush 8, 2) := dk_16 8 (dk_at dksX1_standsAs_3 9 rfl rfl)
theorem dX1_standsAs_81 : decode cX1_standsAs 81 = .ok (.invokestatic 82, 3) := dk_184 0 82 (dk_at dksX1_standsAs_3 11 rfl rfl)
theorem dX1_standsAs_84 : decode cX1_standsAs 84 = .ok (.aload_n 1, 1) := dk_43 (dk_at dksX1_standsAs_3 14 rfl rfl)
theorem dX1_standsAs_85 : decode cX1_standsAs 85 = .ok (.getfield 36, 3) := dk_180 0 36 (dk_at dksX1_standsAs_3 15 rfl rfl)
theorem dX1_standsAs_88 : decode cX1_standsAs 88 = .ok (.iconst 0, 1) := dk_3 (dk_at dksX1_standsAs_3 18 rfl rfl)
theorem dX1_standsAs_89 : decode cX1_standsAs 89 = .ok (.aload_n 0, 1) := dk_42 (dk_at dksX1_standsAs_3 19 rfl rfl)
theorem dX1_standsAs_90 : decode cX1_standsAs 90 = .ok (.getfield 36, 3) := dk_180 0 36 (dk_at dksX1_standsAs_3 20 rfl rfl)
theorem dX1_standsAs_93 : decode cX1_standsAs 93 = .ok (.iconst 0, 1) := dk_3 (dk_at dksX1_standsAs_3 23 rfl rfl)
theorem dX1_standsAs_94 : decode cX1_standsAs 94 = .ok (.bipush 8, 2) := dk_16 8 (dk_at dksX1_standsAs_4 0 rfl rfl)
theorem dX1_standsAs_96 : decode cX1_standsAs 96 = .ok (.invokestatic 82, 3) := dk_184 0 82 (dk_at dksX1_standsAs_4 2 rfl rfl)
theorem dX1_standsAs_99 : decode cX1_standsAs 99 = .ok (.aload_n 1, 1) := dk_43 (dk_at dksX1_standsAs_4 5 rfl rfl)
theorem dX1_standsAs_100 : decode cX1_standsAs 100 = .ok (.getfield 39, 3) := dk_180 0 39 (dk_at dksX1_standsAs_4 6 rfl rfl)
theorem dX1_standsAs_103 : decode cX1_standsAs 103 = .ok (.iconst 0, 1) := dk_3 (dk_at dksX1_standsAs_4 9 rfl rfl)
theorem dX1_standsAs_104 : decode cX1_standsAs 104 = .ok (.aload_n 0, 1) := dk_42 (dk_at dksX1_standsAs_4 10 rfl rfl)
theorem dX1_standsAs_105 : decode cX1_standsAs 105 = .ok (.getfield 39, 3) := dk_180 0 39 (dk_at dksX1_standsAs_4 11 rfl rfl)
theorem dX1_standsAs_108 : decode cX1_standsAs 108 = .ok (.iconst 0, 1) := dk_3 (dk_at dksX1_standsAs_4 14 rfl rfl)
theorem dX1_standsAs_109 : decode cX1_standsAs 109 = .ok (.bipush 12, 2) := dk_16 12 (dk_at dksX1_standsAs_4 15 rfl rfl)
theorem dX1_standsAs_111 : decode cX1_standsAs 111 = .ok (.invokestatic 82, 3) := dk_184 0 82 (dk_at dksX1_standsAs_4 17 rfl rfl)
theorem dX1_standsAs_114 : decode cX1_standsAs 114 = .ok (.aload_n 1, 1) := dk_43 (dk_at dksX1_standsAs_4 20 rfl rfl)
theorem dX1_standsAs_115 : decode cX1_standsAs 115 = .ok (.getfield 42, 3) := dk_180 0 42 (dk_at dksX1_standsAs_4 21 rfl rfl)
theorem dX1_standsAs_118 : decode cX1_standsAs 118 = .ok (.iconst 0, 1) := dk_3 (dk_at dksX1_standsAs_5 0 rfl rfl)
theorem dX1_standsAs_119 : decode cX1_standsAs 119 = .ok (.aload_n 0, 1) := dk_42 (dk_at dksX1_standsAs_5 1 rfl rfl)
theorem dX1_standsAs_120 : decode cX1_standsAs 120 = .ok (.getfield 42, 3) := dk_180 0 42 (dk_at dksX1_standsAs_5 2 rfl rfl)
theorem dX1_standsAs_123 : decode cX1_standsAs 123 = .ok (.iconst 0, 1) := dk_3 (dk_at dksX1_standsAs_5 5 rfl rfl)
theorem dX1_standsAs_124 : decode cX1_standsAs 124 = .ok (.bipush 12, 2) := dk_16 12 (dk_at dksX1_standsAs_5 6 rfl rfl)
theorem dX1_standsAs_126 : decode cX1_standsAs 126 = .ok (.invokestatic 82, 3) := dk_184 0 82 (dk_at dksX1_standsAs_5 8 rfl rfl)
theorem dX1_standsAs_129 : decode cX1_standsAs 129 = .ok (.aload_n 1, 1) := dk_43 (dk_at dksX1_standsAs_5 11 rfl rfl)
theorem dX1_standsAs_130 : decode cX1_standsAs 130 = .ok (.getfield 45, 3) := dk_180 0 45 (dk_at dksX1_standsAs_5 12 rfl rfl)
theorem dX1_standsAs_133 : decode cX1_standsAs 133 = .ok (.iconst 0, 1) := dk_3 (dk_at dksX1_standsAs_5 15 rfl rfl)
theorem dX1_standsAs_134 : decode cX1_standsAs 134 = .ok (.aload_n 0, 1) := dk_42 (dk_at dksX1_standsAs_5 16 rfl rfl)
theorem dX1_standsAs_135 : decode cX1_standsAs 135 = .ok (.getfield 45, 3) := dk_180 0 45 (dk_at dksX1_standsAs_5 17 rfl rfl)
theorem dX1_standsAs_138 : decode cX1_standsAs 138 = .ok (.iconst 0, 1) := dk_3 (dk_at dksX1_standsAs_5 20 rfl rfl)
theorem dX1_standsAs_139 : decode cX1_standsAs 139 = .ok (.bipush 12, 2) := dk_16 12 (dk_at dksX1_standsAs_5 21 rfl rfl)
theorem dX1_standsAs_141 : decode cX1_standsAs 141 = .ok (.invokestatic 82, 3) := dk_184 0 82 (dk_at dksX1_standsAs_6 0 rfl rfl)
theorem dX1_standsAs_144 : decode cX1_standsAs 144 = .ok (.aload_n 0, 1) := dk_42 (dk_at dksX1_standsAs_6 3 rfl rfl)
theorem dX1_standsAs_145 : decode cX1_standsAs 145 = .ok (.areturn, 1) := dk_176 (dk_at dksX1_standsAs_6 4 rfl rfl)
abbrev cX1_ropeOf : ByteArray := prog_6_method_18_code
def yX1_ropeOf : MethodName := ⟨RX1, "ropeOf", "(II)I"⟩
def dkwX1_ropeOf_1 : List UInt8 := [42, 180, 0, 42, 29, 46, 27, 28, 184, 0, 140, 160, 0, 5, 29, 172, 132, 3, 1, 167, 255, 215, 2, 172]
abbrev dktX1_ropeOf_1 : List UInt8 := dkwX1_ropeOf_1 ++ []
def dkwX1_ropeOf_0 : List UInt8 := [3, 62, 29, 42, 180, 0, 98, 162, 0, 39, 42, 180, 0, 39, 29, 46, 27, 28, 184, 0, 135, 160, 0, 19]
abbrev dktX1_ropeOf_0 : List UInt8 := dkwX1_ropeOf_0 ++ dktX1_ropeOf_1
theorem dksX1_ropeOf_0 : cX1_ropeOf.data.toList.drop 0 = dktX1_ropeOf_0 := by decide +kernel
theorem dksX1_ropeOf_1 : cX1_ropeOf.data.toList.drop 24 = dktX1_ropeOf_1 := dk_seg dksX1_ropeOf_0 24 rfl rfl
theorem dX1_ropeOf_0 : decode cX1_ropeOf 0 = .ok (.iconst 0, 1) := dk_3 (dk_at dksX1_ropeOf_0 0 rfl rfl)
theorem dX1_ropeOf_1 : decode cX1_ropeOf 1 = .ok (.istore_n 3, 1) := dk_62 (dk_at dksX1_ropeOf_0 1 rfl rfl)
theorem dX1_ropeOf_2 : decode cX1_ropeOf 2 = .ok (.iload_n 3, 1) := dk_29 (dk_at dksX1_ropeOf_0 2 rfl rfl)
theorem dX1_ropeOf_3 : decode cX1_ropeOf 3 = .ok (.aload_n 0, 1) := dk_42 (dk_at dksX1_ropeOf_0 3 rfl rfl)
theorem dX1_ropeOf_4 : decode cX1_ropeOf 4 = .ok (.getfield 98, 3) := dk_180 0 98 (dk_at dksX1_ropeOf_0 4 rfl rfl)
theorem dX1_ropeOf_7 : decode cX1_ropeOf 7 = .ok (.if_icmp .ge 39, 3) := dk_162 0 39 (dk_at dksX1_ropeOf_0 7 rfl rfl)
theorem dX1_ropeOf_10 : decode cX1_ropeOf 10 = .ok (.aload_n 0, 1) := dk_42 (dk_at dksX1_ropeOf_0 10 rfl rfl)
theorem dX1_ropeOf_11 : decode cX1_ropeOf 11 = .ok (.getfield 39, 3) := dk_180 0 39 (dk_at dksX1_ropeOf_0 11 rfl rfl)
theorem dX1_ropeOf_14 : decode cX1_ropeOf 14 = .ok (.iload_n 3, 1) := dk_29 (dk_at dksX1_ropeOf_0 14 rfl rfl)
theorem dX1_ropeOf_15 : decode cX1_ropeOf 15 = .ok (.iaload, 1) := dk_46 (dk_at dksX1_ropeOf_0 15 rfl rfl)
theorem dX1_ropeOf_16 : decode cX1_ropeOf 16 = .ok (.iload_n 1, 1) := dk_27 (dk_at dksX1_ropeOf_0 16 rfl rfl)
theorem dX1_ropeOf_17 : decode cX1_ropeOf 17 = .ok (.iload_n 2, 1) := dk_28 (dk_at dksX1_ropeOf_0 17 rfl rfl)
theorem dX1_ropeOf_18 : decode cX1_ropeOf 18 = .ok (.invokestatic 135, 3) := dk_184 0 135 (dk_at dksX1_ropeOf_0 18 rfl rfl)
theorem dX1_ropeOf_21 : decode cX1_ropeOf 21 = .ok (.if_icmp .ne 19, 3) := dk_160 0 19 (dk_at dksX1_ropeOf_0 21 rfl rfl)
theorem dX1_ropeOf_24 : decode cX1_ropeOf 24 = .ok (.aload_n 0, 1) := dk_42 (dk_at dksX1_ropeOf_1 0 rfl rfl)
theorem dX1_ropeOf_25 : decode cX1_ropeOf 25 = .ok (.getfield 42, 3) := dk_180 0 42 (dk_at dksX1_ropeOf_1 1 rfl rfl)
theorem dX1_ropeOf_28 : decode cX1_ropeOf 28 = .ok (.iload_n 3, 1) := dk_29 (dk_at dksX1_ropeOf_1 4 rfl rfl)
theorem dX1_ropeOf_29 : decode cX1_ropeOf 29 = .ok (.iaload, 1) := dk_46 (dk_at dksX1_ropeOf_1 5 rfl rfl)
theorem dX1_ropeOf_30 : decode cX1_ropeOf 30 = .ok (.iload_n 1, 1) := dk_27 (dk_at dksX1_ropeOf_1 6 rfl rfl)
theorem dX1_ropeOf_31 : decode cX1_ropeOf 31 = .ok (.iload_n 2, 1) := dk_28 (dk_at dksX1_ropeOf_1 7 rfl rfl)
theorem dX1_ropeOf_32 : decode cX1_ropeOf 32 = .ok (.invokestatic 140, 3) := dk_184 0 140 (dk_at dksX1_ropeOf_1 8 rfl rfl)
theorem dX1_ropeOf_35 : decode cX1_ropeOf 35 = .ok (.if_icmp .ne 5, 3) := dk_160 0 5 (dk_at dksX1_ropeOf_1 11 rfl rfl)
theorem dX1_ropeOf_38 : decode cX1_ropeOf 38 = .ok (.iload_n 3, 1) := dk_29 (dk_at dksX1_ropeOf_1 14 rfl rfl)
theorem dX1_ropeOf_39 : decode cX1_ropeOf 39 = .ok (.ireturn, 1) := dk_172 (dk_at dksX1_ropeOf_1 15 rfl rfl)
theorem dX1_ropeOf_40 : decode cX1_ropeOf 40 = .ok (.iinc 3 1, 3) := dk_132 3 1 (dk_at dksX1_ropeOf_1 16 rfl rfl)
theorem dX1_ropeOf_43 : decode cX1_ropeOf 43 = .ok (.goto (-41), 3) := dk_167 255 215 (dk_at dksX1_ropeOf_1 19 rfl rfl)
theorem dX1_ropeOf_46 : decode cX1_ropeOf 46 = .ok (.iconst (-1), 1) := dk_2 (dk_at dksX1_ropeOf_1 22 rfl rfl)
theorem dX1_ropeOf_47 : decode cX1_ropeOf 47 = .ok (.ireturn, 1) := dk_172 (dk_at dksX1_ropeOf_1 23 rfl rfl)
abbrev cX1_binds : ByteArray := prog_6_method_19_code
def yX1_binds : MethodName := ⟨RX1, "binds", "(III)V"⟩
def dkwX1_binds_2 : List UInt8 := [177]
abbrev dktX1_binds_2 : List UInt8 := dkwX1_binds_2 ++ []
def dkwX1_binds_1 : List UInt8 := [184, 0, 140, 79, 42, 180, 0, 45, 42, 180, 0, 98, 29, 79, 42, 89, 180, 0, 98, 4, 96, 181, 0, 98]
abbrev dktX1_binds_1 : List UInt8 := dkwX1_binds_1 ++ dktX1_binds_2
def dkwX1_binds_0 : List UInt8 := [42, 180, 0, 39, 42, 180, 0, 98, 27, 28, 184, 0, 135, 79, 42, 180, 0, 42, 42, 180, 0, 98, 27, 28]
abbrev dktX1_binds_0 : List UInt8 := dkwX1_binds_0 ++ dktX1_binds_1
theorem dksX1_binds_0 : cX1_binds.data.toList.drop 0 = dktX1_binds_0 := by decide +kernel
theorem dksX1_binds_1 : cX1_binds.data.toList.drop 24 = dktX1_binds_1 := dk_seg dksX1_binds_0 24 rfl rfl
theorem dksX1_binds_2 : cX1_binds.data.toList.drop 48 = dktX1_binds_2 := dk_seg dksX1_binds_1 24 rfl rfl
theorem dX1_binds_0 : decode cX1_binds 0 = .ok (.aload_n 0, 1) := dk_42 (dk_at dksX1_binds_0 0 rfl rfl)
theorem dX1_binds_1 : decode cX1_binds 1 = .ok (.getfield 39, 3) := dk_180 0 39 (dk_at dksX1_binds_0 1 rfl rfl)
theorem dX1_binds_4 : decode cX1_binds 4 = .ok (.aload_n 0, 1) := dk_42 (dk_at dksX1_binds_0 4 rfl rfl)
theorem dX1_binds_5 : decode cX1_binds 5 = .ok (.getfield 98, 3) := dk_180 0 98 (dk_at dksX1_binds_0 5 rfl rfl)
theorem dX1_binds_8 : decode cX1_binds 8 = .ok (.iload_n 1, 1) := dk_27 (dk_at dksX1_binds_0 8 rfl rfl)
theorem dX1_binds_9 : decode cX1_binds 9 = .ok (.iload_n 2, 1) := dk_28 (dk_at dksX1_binds_0 9 rfl rfl)
theorem dX1_binds_10 : decode cX1_binds 10 = .ok (.invokestatic 135, 3) := dk_184 0 135 (dk_at dksX1_binds_0 10 rfl rfl)
theorem dX1_binds_13 : decode cX1_binds 13 = .ok (.iastore, 1) := dk_79 (dk_at dksX1_binds_0 13 rfl rfl)
theorem dX1_binds_14 : decode cX1_binds 14 = .ok (.aload_n 0, 1) := dk_42 (dk_at dksX1_binds_0 14 rfl rfl)
theorem dX1_binds_15 : decode cX1_binds 15 = .ok (.getfield 42, 3) := dk_180 0 42 (dk_at dksX1_binds_0 15 rfl rfl)
theorem dX1_binds_18 : decode cX1_binds 18 = .ok (.aload_n 0, 1) := dk_42 (dk_at dksX1_binds_0 18 rfl rfl)
theorem dX1_binds_19 : decode cX1_binds 19 = .ok (.getfield 98, 3) := dk_180 0 98 (dk_at dksX1_binds_0 19 rfl rfl)
theorem dX1_binds_22 : decode cX1_binds 22 = .ok (.iload_n 1, 1) := dk_27 (dk_at dksX1_binds_0 22 rfl rfl)
theorem dX1_binds_23 : decode cX1_binds 23 = .ok (.iload_n 2, 1) := dk_28 (dk_at dksX1_binds_0 23 rfl rfl)
theorem dX1_binds_24 : decode cX1_binds 24 = .ok (.invokestatic 140, 3) := dk_184 0 140 (dk_at dksX1_binds_1 0 rfl rfl)
theorem dX1_binds_27 : decode cX1_binds 27 = .ok (.iastore, 1) := dk_79 (dk_at dksX1_binds_1 3 rfl rfl)
theorem dX1_binds_28 : decode cX1_binds 28 = .ok (.aload_n 0, 1) := dk_42 (dk_at dksX1_binds_1 4 rfl rfl)
theorem dX1_binds_29 : decode cX1_binds 29 = .ok (.getfield 45, 3) := dk_180 0 45 (dk_at dksX1_binds_1 5 rfl rfl)
theorem dX1_binds_32 : decode cX1_binds 32 = .ok (.aload_n 0, 1) := dk_42 (dk_at dksX1_binds_1 8 rfl rfl)
theorem dX1_binds_33 : decode cX1_binds 33 = .ok (.getfield 98, 3) := dk_180 0 98 (dk_at dksX1_binds_1 9 rfl rfl)
theorem dX1_binds_36 : decode cX1_binds 36 = .ok (.iload_n 3, 1) := dk_29 (dk_at dksX1_binds_1 12 rfl rfl)
theorem dX1_binds_37 : decode cX1_binds 37 = .ok (.iastore, 1) := dk_79 (dk_at dksX1_binds_1 13 rfl rfl)
theorem dX1_binds_38 : decode cX1_binds 38 = .ok (.aload_n 0, 1) := dk_42 (dk_at dksX1_binds_1 14 rfl rfl)
theorem dX1_binds_39 : decode cX1_binds 39 = .ok (.dup, 1) := dk_89 (dk_at dksX1_binds_1 15 rfl rfl)
theorem dX1_binds_40 : decode cX1_binds 40 = .ok (.getfield 98, 3) := dk_180 0 98 (dk_at dksX1_binds_1 16 rfl rfl)
theorem dX1_binds_43 : decode cX1_binds 43 = .ok (.iconst 1, 1) := dk_4 (dk_at dksX1_binds_1 19 rfl rfl)
theorem dX1_binds_44 : decode cX1_binds 44 = .ok (.iadd, 1) := dk_96 (dk_at dksX1_binds_1 20 rfl rfl)
theorem dX1_binds_45 : decode cX1_binds 45 = .ok (.putfield 98, 3) := dk_181 0 98 (dk_at dksX1_binds_1 21 rfl rfl)
theorem dX1_binds_48 : decode cX1_binds 48 = .ok (.return_, 1) := dk_177 (dk_at dksX1_binds_2 0 rfl rfl)
abbrev cX1_forceAt : ByteArray := prog_6_method_22_code
def yX1_forceAt : MethodName := ⟨RX1, "forceAt", "(I)I"⟩
def dkwX1_forceAt_1 : List UInt8 := [28, 46, 172, 132, 2, 1, 167, 255, 228, 3, 172]
abbrev dktX1_forceAt_1 : List UInt8 := dkwX1_forceAt_1 ++ []
def dkwX1_forceAt_0 : List UInt8 := [3, 61, 28, 42, 180, 0, 73, 162, 0, 26, 42, 180, 0, 48, 28, 46, 27, 160, 0, 10, 42, 180, 0, 51]
abbrev dktX1_forceAt_0 : List UInt8 := dkwX1_forceAt_0 ++ dktX1_forceAt_1
theorem dksX1_forceAt_0 : cX1_forceAt.data.toList.drop 0 = dktX1_forceAt_0 := by decide +kernel
theorem dksX1_forceAt_1 : cX1_forceAt.data.toList.drop 24 = dktX1_forceAt_1 := dk_seg dksX1_forceAt_0 24 rfl rfl
theorem dX1_forceAt_0 : decode cX1_forceAt 0 = .ok (.iconst 0, 1) := dk_3 (dk_at dksX1_forceAt_0 0 rfl rfl)
theorem dX1_forceAt_1 : decode cX1_forceAt 1 = .ok (.istore_n 2, 1) := dk_61 (dk_at dksX1_forceAt_0 1 rfl rfl)
theorem dX1_forceAt_2 : decode cX1_forceAt 2 = .ok (.iload_n 2, 1) := dk_28 (dk_at dksX1_forceAt_0 2 rfl rfl)
theorem dX1_forceAt_3 : decode cX1_forceAt 3 = .ok (.aload_n 0, 1) := dk_42 (dk_at dksX1_forceAt_0 3 rfl rfl)
theorem dX1_forceAt_4 : decode cX1_forceAt 4 = .ok (.getfield 73, 3) := dk_180 0 73 (dk_at dksX1_forceAt_0 4 rfl rfl)
theorem dX1_forceAt_7 : decode cX1_forceAt 7 = .ok (.if_icmp .ge 26, 3) := dk_162 0 26 (dk_at dksX1_forceAt_0 7 rfl rfl)
theorem dX1_forceAt_10 : decode cX1_forceAt 10 = .ok (.aload_n 0, 1) := dk_42 (dk_at dksX1_forceAt_0 10 rfl rfl)
theorem dX1_forceAt_11 : decode cX1_forceAt 11 = .ok (.getfield 48, 3) := dk_180 0 48 (dk_at dksX1_forceAt_0 11 rfl rfl)
theorem dX1_forceAt_14 : decode cX1_forceAt 14 = .ok (.iload_n 2, 1) := dk_28 (dk_at dksX1_forceAt_0 14 rfl rfl)
theorem dX1_forceAt_15 : decode cX1_forceAt 15 = .ok (.iaload, 1) := dk_46 (dk_at dksX1_forceAt_0 15 rfl rfl)
theorem dX1_forceAt_16 : decode cX1_forceAt 16 = .ok (.iload_n 1, 1) := dk_27 (dk_at dksX1_forceAt_0 16 rfl rfl)
theorem dX1_forceAt_17 : decode cX1_forceAt 17 = .ok (.if_icmp .ne 10, 3) := dk_160 0 10 (dk_at dksX1_forceAt_0 17 rfl rfl)
theorem dX1_forceAt_20 : decode cX1_forceAt 20 = .ok (.aload_n 0, 1) := dk_42 (dk_at dksX1_forceAt_0 20 rfl rfl)
theorem dX1_forceAt_21 : decode cX1_forceAt 21 = .ok (.getfield 51, 3) := dk_180 0 51 (dk_at dksX1_forceAt_0 21 rfl rfl)
theorem dX1_forceAt_24 : decode cX1_forceAt 24 = .ok (.iload_n 2, 1) := dk_28 (dk_at dksX1_forceAt_1 0 rfl rfl)
theorem dX1_forceAt_25 : decode cX1_forceAt 25 = .ok (.iaload, 1) := dk_46 (dk_at dksX1_forceAt_1 1 rfl rfl)
theorem dX1_forceAt_26 : decode cX1_forceAt 26 = .ok (.ireturn, 1) := dk_172 (dk_at dksX1_forceAt_1 2 rfl rfl)
theorem dX1_forceAt_27 : decode cX1_forceAt 27 = .ok (.iinc 2 1, 3) := dk_132 2 1 (dk_at dksX1_forceAt_1 3 rfl rfl)
theorem dX1_forceAt_30 : decode cX1_forceAt 30 = .ok (.goto (-28), 3) := dk_167 255 228 (dk_at dksX1_forceAt_1 6 rfl rfl)
theorem dX1_forceAt_33 : decode cX1_forceAt 33 = .ok (.iconst 0, 1) := dk_3 (dk_at dksX1_forceAt_1 9 rfl rfl)
theorem dX1_forceAt_34 : decode cX1_forceAt 34 = .ok (.ireturn, 1) := dk_172 (dk_at dksX1_forceAt_1 10 rfl rfl)
abbrev cX1_allRopes : ByteArray := prog_6_method_9_code
def yX1_allRopes : MethodName := ⟨RX1, "allRopes", "()I"⟩
def dkwX1_allRopes_0 : List UInt8 := [4, 42, 180, 0, 98, 120, 4, 100, 172]
abbrev dktX1_allRopes_0 : List UInt8 := dkwX1_allRopes_0 ++ []
theorem dksX1_allRopes_0 : cX1_allRopes.data.toList.drop 0 = dktX1_allRopes_0 := by decide +kernel
theorem dX1_allRopes_0 : decode cX1_allRopes 0 = .ok (.iconst 1, 1) := dk_4 (dk_at dksX1_allRopes_0 0 rfl rfl)
theorem dX1_allRopes_1 : decode cX1_allRopes 1 = .ok (.aload_n 0, 1) := dk_42 (dk_at dksX1_allRopes_0 1 rfl rfl)
theorem dX1_allRopes_2 : decode cX1_allRopes 2 = .ok (.getfield 98, 3) := dk_180 0 98 (dk_at dksX1_allRopes_0 2 rfl rfl)
theorem dX1_allRopes_5 : decode cX1_allRopes 5 = .ok (.ishl, 1) := dk_120 (dk_at dksX1_allRopes_0 5 rfl rfl)
theorem dX1_allRopes_6 : decode cX1_allRopes 6 = .ok (.iconst 1, 1) := dk_4 (dk_at dksX1_allRopes_0 6 rfl rfl)
theorem dX1_allRopes_7 : decode cX1_allRopes 7 = .ok (.isub, 1) := dk_100 (dk_at dksX1_allRopes_0 7 rfl rfl)
theorem dX1_allRopes_8 : decode cX1_allRopes 8 = .ok (.ireturn, 1) := dk_172 (dk_at dksX1_allRopes_0 8 rfl rfl)
abbrev cX1_parts : ByteArray := prog_6_method_12_code
def yX1_parts : MethodName := ⟨RX1, "parts", "(I)V"⟩
def dkwX1_parts_1 : List UInt8 := [42, 28, 27, 182, 0, 109, 167, 0, 4, 3, 79, 132, 2, 1, 167, 255, 220, 177]
abbrev dktX1_parts_1 : List UInt8 := dkwX1_parts_1 ++ []
def dkwX1_parts_0 : List UInt8 := [3, 61, 28, 42, 180, 0, 70, 162, 0, 34, 42, 180, 0, 60, 28, 42, 180, 0, 33, 28, 46, 154, 0, 12]
abbrev dktX1_parts_0 : List UInt8 := dkwX1_parts_0 ++ dktX1_parts_1
theorem dksX1_parts_0 : cX1_parts.data.toList.drop 0 = dktX1_parts_0 := by decide +kernel
theorem dksX1_parts_1 : cX1_parts.data.toList.drop 24 = dktX1_parts_1 := dk_seg dksX1_parts_0 24 rfl rfl
theorem dX1_parts_0 : decode cX1_parts 0 = .ok (.iconst 0, 1) := dk_3 (dk_at dksX1_parts_0 0 rfl rfl)
theorem dX1_parts_1 : decode cX1_parts 1 = .ok (.istore_n 2, 1) := dk_61 (dk_at dksX1_parts_0 1 rfl rfl)
theorem dX1_parts_2 : decode cX1_parts 2 = .ok (.iload_n 2, 1) := dk_28 (dk_at dksX1_parts_0 2 rfl rfl)
theorem dX1_parts_3 : decode cX1_parts 3 = .ok (.aload_n 0, 1) := dk_42 (dk_at dksX1_parts_0 3 rfl rfl)
theorem dX1_parts_4 : decode cX1_parts 4 = .ok (.getfield 70, 3) := dk_180 0 70 (dk_at dksX1_parts_0 4 rfl rfl)
theorem dX1_parts_7 : decode cX1_parts 7 = .ok (.if_icmp .ge 34, 3) := dk_162 0 34 (dk_at dksX1_parts_0 7 rfl rfl)
theorem dX1_parts_10 : decode cX1_parts 10 = .ok (.aload_n 0, 1) := dk_42 (dk_at dksX1_parts_0 10 rfl rfl)
theorem dX1_parts_11 : decode cX1_parts 11 = .ok (.getfield 60, 3) := dk_180 0 60 (dk_at dksX1_parts_0 11 rfl rfl)
theorem dX1_parts_14 : decode cX1_parts 14 = .ok (.iload_n 2, 1) := dk_28 (dk_at dksX1_parts_0 14 rfl rfl)
theorem dX1_parts_15 : decode cX1_parts 15 = .ok (.aload_n 0, 1) := dk_42 (dk_at dksX1_parts_0 15 rfl rfl)
theorem dX1_parts_16 : decode cX1_parts 16 = .ok (.getfield 33, 3) := dk_180 0 33 (dk_at dksX1_parts_0 16 rfl rfl)
theorem dX1_parts_19 : decode cX1_parts 19 = .ok (.iload_n 2, 1) := dk_28 (dk_at dksX1_parts_0 19 rfl rfl)
theorem dX1_parts_20 : decode cX1_parts 20 = .ok (.iaload, 1) := dk_46 (dk_at dksX1_parts_0 20 rfl rfl)
theorem dX1_parts_21 : decode cX1_parts 21 = .ok (.ifCond .ne 12, 3) := dk_154 0 12 (dk_at dksX1_parts_0 21 rfl rfl)
theorem dX1_parts_24 : decode cX1_parts 24 = .ok (.aload_n 0, 1) := dk_42 (dk_at dksX1_parts_1 0 rfl rfl)
theorem dX1_parts_25 : decode cX1_parts 25 = .ok (.iload_n 2, 1) := dk_28 (dk_at dksX1_parts_1 1 rfl rfl)
theorem dX1_parts_26 : decode cX1_parts 26 = .ok (.iload_n 1, 1) := dk_27 (dk_at dksX1_parts_1 2 rfl rfl)
theorem dX1_parts_27 : decode cX1_parts 27 = .ok (.invokevirtual 109, 3) := dk_182 0 109 (dk_at dksX1_parts_1 3 rfl rfl)
theorem dX1_parts_30 : decode cX1_parts 30 = .ok (.goto 4, 3) := dk_167 0 4 (dk_at dksX1_parts_1 6 rfl rfl)
theorem dX1_parts_33 : decode cX1_parts 33 = .ok (.iconst 0, 1) := dk_3 (dk_at dksX1_parts_1 9 rfl rfl)
theorem dX1_parts_34 : decode cX1_parts 34 = .ok (.iastore, 1) := dk_79 (dk_at dksX1_parts_1 10 rfl rfl)
theorem dX1_parts_35 : decode cX1_parts 35 = .ok (.iinc 2 1, 3) := dk_132 2 1 (dk_at dksX1_parts_1 11 rfl rfl)
theorem dX1_parts_38 : decode cX1_parts 38 = .ok (.goto (-36), 3) := dk_167 255 220 (dk_at dksX1_parts_1 14 rfl rfl)
theorem dX1_parts_41 : decode cX1_parts 41 = .ok (.return_, 1) := dk_177 (dk_at dksX1_parts_1 17 rfl rfl)
abbrev cX1_pieceBy : ByteArray := prog_6_method_8_code
def yX1_pieceBy : MethodName := ⟨RX1, "pieceBy", "(II)I"⟩
def dkwX1_pieceBy_4 : List UInt8 := [167, 255, 168, 29, 172]
abbrev dktX1_pieceBy_4 : List UInt8 := dkwX1_pieceBy_4 ++ []
def dkwX1_pieceBy_3 : List UInt8 := [46, 120, 4, 42, 180, 0, 42, 21, 5, 46, 120, 128, 128, 62, 4, 54, 4, 132, 5, 1, 167, 255, 182]
abbrev dktX1_pieceBy_3 : List UInt8 := dkwX1_pieceBy_3 ++ dktX1_pieceBy_4
def dkwX1_pieceBy_2 : List UInt8 := [42, 180, 0, 42, 21, 5, 46, 184, 0, 101, 160, 0, 6, 167, 0, 28, 29, 4, 42, 180, 0, 39, 21, 5]
abbrev dktX1_pieceBy_2 : List UInt8 := dkwX1_pieceBy_2 ++ dktX1_pieceBy_3
def dkwX1_pieceBy_1 : List UInt8 := [162, 0, 71, 28, 21, 5, 184, 0, 101, 153, 0, 56, 29, 42, 180, 0, 39, 21, 5, 46, 184, 0, 101, 29]
abbrev dktX1_pieceBy_1 : List UInt8 := dkwX1_pieceBy_1 ++ dktX1_pieceBy_2
def dkwX1_pieceBy_0 : List UInt8 := [4, 27, 120, 62, 4, 54, 4, 21, 4, 153, 0, 89, 3, 54, 4, 3, 54, 5, 21, 5, 42, 180, 0, 98]
abbrev dktX1_pieceBy_0 : List UInt8 := dkwX1_pieceBy_0 ++ dktX1_pieceBy_1
theorem dksX1_pieceBy_0 : cX1_pieceBy.data.toList.drop 0 = dktX1_pieceBy_0 := by decide +kernel
theorem dksX1_pieceBy_1 : cX1_pieceBy.data.toList.drop 24 = dktX1_pieceBy_1 := dk_seg dksX1_pieceBy_0 24 rfl rfl
theorem dksX1_pieceBy_2 : cX1_pieceBy.data.toList.drop 48 = dktX1_pieceBy_2 := dk_seg dksX1_pieceBy_1 24 rfl rfl
theorem dksX1_pieceBy_3 : cX1_pieceBy.data.toList.drop 72 = dktX1_pieceBy_3 := dk_seg dksX1_pieceBy_2 24 rfl rfl
theorem dksX1_pieceBy_4 : cX1_pieceBy.data.toList.drop 95 = dktX1_pieceBy_4 := dk_seg dksX1_pieceBy_3 23 rfl rfl
theorem dX1_pieceBy_0 : decode cX1_pieceBy 0 = .ok (.iconst 1, 1) := dk_4 (dk_at dksX1_pieceBy_0 0 rfl rfl)
theorem dX1_pieceBy_1 : decode cX1_pieceBy 1 = .ok (.iload_n 1, 1) := dk_27 (dk_at dksX1_pieceBy_0 1 rfl rfl)
theorem dX1_pieceBy_2 : decode cX1_pieceBy 2 = .ok (.ishl, 1) := dk_120 (dk_at dksX1_pieceBy_0 2 rfl rfl)
theorem dX1_pieceBy_3 : decode cX1_pieceBy 3 = .ok (.istore_n 3, 1) := dk_62 (dk_at dksX1_pieceBy_0 3 rfl rfl)
theorem dX1_pieceBy_4 : decode cX1_pieceBy 4 = .ok (.iconst 1, 1) := dk_4 (dk_at dksX1_pieceBy_0 4 rfl rfl)
theorem dX1_pieceBy_5 : decode cX1_pieceBy 5 = .ok (.istore 4, 2) := dk_54 4 (dk_at dksX1_pieceBy_0 5 rfl rfl)
theorem dX1_pieceBy_7 : decode cX1_pieceBy 7 = .ok (.iload 4, 2) := dk_21 4 (dk_at dksX1_pieceBy_0 7 rfl rfl)
theorem dX1_pieceBy_9 : decode cX1_pieceBy 9 = .ok (.ifCond .eq 89, 3) := dk_153 0 89 (dk_at dksX1_pieceBy_0 9 rfl rfl)
theorem dX1_pieceBy_12 : decode cX1_pieceBy 12 = .ok (.iconst 0, 1) := dk_3 (dk_at dksX1_pieceBy_0 12 rfl rfl)
theorem dX1_pieceBy_13 : decode cX1_pieceBy 13 = .ok (.istore 4, 2) := dk_54 4 (dk_at dksX1_pieceBy_0 13 rfl rfl)
theorem dX1_pieceBy_15 : decode cX1_pieceBy 15 = .ok (.iconst 0, 1) := dk_3 (dk_at dksX1_pieceBy_0 15 rfl rfl)
theorem dX1_pieceBy_16 : decode cX1_pieceBy 16 = .ok (.istore 5, 2) := dk_54 5 (dk_at dksX1_pieceBy_0 16 rfl rfl)
theorem dX1_pieceBy_18 : decode cX1_pieceBy 18 = .ok (.iload 5, 2) := dk_21 5 (dk_at dksX1_pieceBy_0 18 rfl rfl)
theorem dX1_pieceBy_20 : decode cX1_pieceBy 20 = .ok (.aload_n 0, 1) := dk_42 (dk_at dksX1_pieceBy_0 20 rfl rfl)
theorem dX1_pieceBy_21 : decode cX1_pieceBy 21 = .ok (.getfield 98, 3) := dk_180 0 98 (dk_at dksX1_pieceBy_0 21 rfl rfl)
theorem dX1_pieceBy_24 : decode cX1_pieceBy 24 = .ok (.if_icmp .ge 71, 3) := dk_162 0 71 (dk_at dksX1_pieceBy_1 0 rfl rfl)
theorem dX1_pieceBy_27 : decode cX1_pieceBy 27 = .ok (.iload_n 2, 1) := dk_28 (dk_at dksX1_pieceBy_1 3 rfl rfl)
theorem dX1_pieceBy_28 : decode cX1_pieceBy 28 = .ok (.iload 5, 2) := dk_21 5 (dk_at dksX1_pieceBy_1 4 rfl rfl)
theorem dX1_pieceBy_30 : decode cX1_pieceBy 30 = .ok (.invokestatic 101, 3) := dk_184 0 101 (dk_at dksX1_pieceBy_1 6 rfl rfl)
theorem dX1_pieceBy_33 : decode cX1_pieceBy 33 = .ok (.ifCond .eq 56, 3) := dk_153 0 56 (dk_at dksX1_pieceBy_1 9 rfl rfl)
theorem dX1_pieceBy_36 : decode cX1_pieceBy 36 = .ok (.iload_n 3, 1) := dk_29 (dk_at dksX1_pieceBy_1 12 rfl rfl)
theorem dX1_pieceBy_37 : decode cX1_pieceBy 37 = .ok (.aload_n 0, 1) := dk_42 (dk_at dksX1_pieceBy_1 13 rfl rfl)
theorem dX1_pieceBy_38 : decode cX1_pieceBy 38 = .ok (.getfield 39, 3) := dk_180 0 39 (dk_at dksX1_pieceBy_1 14 rfl rfl)
theorem dX1_pieceBy_41 : decode cX1_pieceBy 41 = .ok (.iload 5, 2) := dk_21 5 (dk_at dksX1_pieceBy_1 17 rfl rfl)
theorem dX1_pieceBy_43 : decode cX1_pieceBy 43 = .ok (.iaload, 1) := dk_46 (dk_at dksX1_pieceBy_1 19 rfl rfl)
theorem dX1_pieceBy_44 : decode cX1_pieceBy 44 = .ok (.invokestatic 101, 3) := dk_184 0 101 (dk_at dksX1_pieceBy_1 20 rfl rfl)
theorem dX1_pieceBy_47 : decode cX1_pieceBy 47 = .ok (.iload_n 3, 1) := dk_29 (dk_at dksX1_pieceBy_1 23 rfl rfl)
theorem dX1_pieceBy_48 : decode cX1_pieceBy 48 = .ok (.aload_n 0, 1) := dk_42 (dk_at dksX1_pieceBy_2 0 rfl rfl)
theorem dX1_pieceBy_49 : decode cX1_pieceBy 49 = .ok (.getfield 42, 3) := dk_180 0 42 (dk_at dksX1_pieceBy_2 1 rfl rfl)
theorem dX1_pieceBy_52 : decode cX1_pieceBy 52 = .ok (.iload 5, 2) := dk_21 5 (dk_at dksX1_pieceBy_2 4 rfl rfl)
theorem dX1_pieceBy_54 : decode cX1_pieceBy 54 = .ok (.iaload, 1) := dk_46 (dk_at dksX1_pieceBy_2 6 rfl rfl)
theorem dX1_pieceBy_55 : decode cX1_pieceBy 55 = .ok (.invokestatic 101, 3) := dk_184 0 101 (dk_at dksX1_pieceBy_2 7 rfl rfl)
theorem dX1_pieceBy_58 : decode cX1_pieceBy 58 = .ok (.if_icmp .ne 6, 3) := dk_160 0 6 (dk_at dksX1_pieceBy_2 10 rfl rfl)
theorem dX1_pieceBy_61 : decode cX1_pieceBy 61 = .ok (.goto 28, 3) := dk_167 0 28 (dk_at dksX1_pieceBy_2 13 rfl rfl)
theorem dX1_pieceBy_64 : decode cX1_pieceBy 64 = .ok (.iload_n 3, 1) := dk_29 (dk_at dksX1_pieceBy_2 16 rfl rfl)
theorem dX1_pieceBy_65 : decode cX1_pieceBy 65 = .ok (.iconst 1, 1) := dk_4 (dk_at dksX1_pieceBy_2 17 rfl rfl)
theorem dX1_pieceBy_66 : decode cX1_pieceBy 66 = .ok (.aload_n 0, 1) := dk_42 (dk_at dksX1_pieceBy_2 18 rfl rfl)
theorem dX1_pieceBy_67 : decode cX1_pieceBy 67 = .ok (.getfield 39, 3) := dk_180 0 39 (dk_at dksX1_pieceBy_2 19 rfl rfl)
theorem dX1_pieceBy_70 : decode cX1_pieceBy 70 = .ok (.iload 5, 2) := dk_21 5 (dk_at dksX1_pieceBy_2 22 rfl rfl)
theorem dX1_pieceBy_72 : decode cX1_pieceBy 72 = .ok (.iaload, 1) := dk_46 (dk_at dksX1_pieceBy_3 0 rfl rfl)
theorem dX1_pieceBy_73 : decode cX1_pieceBy 73 = .ok (.ishl, 1) := dk_120 (dk_at dksX1_pieceBy_3 1 rfl rfl)
theorem dX1_pieceBy_74 : decode cX1_pieceBy 74 = .ok (.iconst 1, 1) := dk_4 (dk_at dksX1_pieceBy_3 2 rfl rfl)
theorem dX1_pieceBy_75 : decode cX1_pieceBy 75 = .ok (.aload_n 0, 1) := dk_42 (dk_at dksX1_pieceBy_3 3 rfl rfl)
theorem dX1_pieceBy_76 : decode cX1_pieceBy 76 = .ok (.getfield 42, 3) := dk_180 0 42 (dk_at dksX1_pieceBy_3 4 rfl rfl)
theorem dX1_pieceBy_79 : decode cX1_pieceBy 79 = .ok (.iload 5, 2) := dk_21 5 (dk_at dksX1_pieceBy_3 7 rfl rfl)
theorem dX1_pieceBy_81 : decode cX1_pieceBy 81 = .ok (.iaload, 1) := dk_46 (dk_at dksX1_pieceBy_3 9 rfl rfl)
theorem dX1_pieceBy_82 : decode cX1_pieceBy 82 = .ok (.ishl, 1) := dk_120 (dk_at dksX1_pieceBy_3 10 rfl rfl)
theorem dX1_pieceBy_83 : decode cX1_pieceBy 83 = .ok (.ior, 1) := dk_128 (dk_at dksX1_pieceBy_3 11 rfl rfl)
theorem dX1_pieceBy_84 : decode cX1_pieceBy 84 = .ok (.ior, 1) := dk_128 (dk_at dksX1_pieceBy_3 12 rfl rfl)
theorem dX1_pieceBy_85 : decode cX1_pieceBy 85 = .ok (.istore_n 3, 1) := dk_62 (dk_at dksX1_pieceBy_3 13 rfl rfl)
theorem dX1_pieceBy_86 : decode cX1_pieceBy 86 = .ok (.iconst 1, 1) := dk_4 (dk_at dksX1_pieceBy_3 14 rfl rfl)
theorem dX1_pieceBy_87 : decode cX1_pieceBy 87 = .ok (.istore 4, 2) := dk_54 4 (dk_at dksX1_pieceBy_3 15 rfl rfl)
theorem dX1_pieceBy_89 : decode cX1_pieceBy 89 = .ok (.iinc 5 1, 3) := dk_132 5 1 (dk_at dksX1_pieceBy_3 17 rfl rfl)
theorem dX1_pieceBy_92 : decode cX1_pieceBy 92 = .ok (.goto (-74), 3) := dk_167 255 182 (dk_at dksX1_pieceBy_3 20 rfl rfl)
theorem dX1_pieceBy_95 : decode cX1_pieceBy 95 = .ok (.goto (-88), 3) := dk_167 255 168 (dk_at dksX1_pieceBy_4 0 rfl rfl)
theorem dX1_pieceBy_98 : decode cX1_pieceBy 98 = .ok (.iload_n 3, 1) := dk_29 (dk_at dksX1_pieceBy_4 3 rfl rfl)
theorem dX1_pieceBy_99 : decode cX1_pieceBy 99 = .ok (.ireturn, 1) := dk_172 (dk_at dksX1_pieceBy_4 4 rfl rfl)
abbrev cX1_rides : ByteArray := prog_6_method_13_code
def yX1_rides : MethodName := ⟨RX1, "rides", "(I)I"⟩
def dkwX1_rides_3 : List UInt8 := [167, 255, 214, 28, 172]
abbrev dktX1_rides_3 : List UInt8 := dkwX1_rides_3 ++ []
def dkwX1_rides_2 : List UInt8 := [184, 0, 117, 54, 6, 21, 6, 29, 163, 0, 6, 167, 0, 9, 21, 5, 61, 21, 6, 62, 132, 5, 1]
abbrev dktX1_rides_2 : List UInt8 := dkwX1_rides_2 ++ dktX1_rides_3
def dkwX1_rides_1 : List UInt8 := [3, 54, 5, 21, 5, 42, 180, 0, 70, 162, 0, 39, 42, 180, 0, 60, 21, 5, 46, 21, 4, 126]
abbrev dktX1_rides_1 : List UInt8 := dkwX1_rides_1 ++ dktX1_rides_2
def dkwX1_rides_0 : List UInt8 := [2, 61, 3, 62, 42, 180, 0, 18, 27, 46, 154, 0, 11, 42, 27, 182, 0, 113, 167, 0, 4, 3, 54, 4]
abbrev dktX1_rides_0 : List UInt8 := dkwX1_rides_0 ++ dktX1_rides_1
theorem dksX1_rides_0 : cX1_rides.data.toList.drop 0 = dktX1_rides_0 := by decide +kernel
theorem dksX1_rides_1 : cX1_rides.data.toList.drop 24 = dktX1_rides_1 := dk_seg dksX1_rides_0 24 rfl rfl
theorem dksX1_rides_2 : cX1_rides.data.toList.drop 46 = dktX1_rides_2 := dk_seg dksX1_rides_1 22 rfl rfl
theorem dksX1_rides_3 : cX1_rides.data.toList.drop 69 = dktX1_rides_3 := dk_seg dksX1_rides_2 23 rfl rfl
theorem dX1_rides_0 : decode cX1_rides 0 = .ok (.iconst (-1), 1) := dk_2 (dk_at dksX1_rides_0 0 rfl rfl)
theorem dX1_rides_1 : decode cX1_rides 1 = .ok (.istore_n 2, 1) := dk_61 (dk_at dksX1_rides_0 1 rfl rfl)
theorem dX1_rides_2 : decode cX1_rides 2 = .ok (.iconst 0, 1) := dk_3 (dk_at dksX1_rides_0 2 rfl rfl)
theorem dX1_rides_3 : decode cX1_rides 3 = .ok (.istore_n 3, 1) := dk_62 (dk_at dksX1_rides_0 3 rfl rfl)
theorem dX1_rides_4 : decode cX1_rides 4 = .ok (.aload_n 0, 1) := dk_42 (dk_at dksX1_rides_0 4 rfl rfl)
theorem dX1_rides_5 : decode cX1_rides 5 = .ok (.getfield 18, 3) := dk_180 0 18 (dk_at dksX1_rides_0 5 rfl rfl)
theorem dX1_rides_8 : decode cX1_rides 8 = .ok (.iload_n 1, 1) := dk_27 (dk_at dksX1_rides_0 8 rfl rfl)
theorem dX1_rides_9 : decode cX1_rides 9 = .ok (.iaload, 1) := dk_46 (dk_at dksX1_rides_0 9 rfl rfl)
theorem dX1_rides_10 : decode cX1_rides 10 = .ok (.ifCond .ne 11, 3) := dk_154 0 11 (dk_at dksX1_rides_0 10 rfl rfl)
theorem dX1_rides_13 : decode cX1_rides 13 = .ok (.aload_n 0, 1) := dk_42 (dk_at dksX1_rides_0 13 rfl rfl)
theorem dX1_rides_14 : decode cX1_rides 14 = .ok (.iload_n 1, 1) := dk_27 (dk_at dksX1_rides_0 14 rfl rfl)
theorem dX1_rides_15 : decode cX1_rides 15 = .ok (.invokevirtual 113, 3) := dk_182 0 113 (dk_at dksX1_rides_0 15 rfl rfl)
theorem dX1_rides_18 : decode cX1_rides 18 = .ok (.goto 4, 3) := dk_167 0 4 (dk_at dksX1_rides_0 18 rfl rfl)
theorem dX1_rides_21 : decode cX1_rides 21 = .ok (.iconst 0, 1) := dk_3 (dk_at dksX1_rides_0 21 rfl rfl)
theorem dX1_rides_22 : decode cX1_rides 22 = .ok (.istore 4, 2) := dk_54 4 (dk_at dksX1_rides_0 22 rfl rfl)
theorem dX1_rides_24 : decode cX1_rides 24 = .ok (.iconst 0, 1) := dk_3 (dk_at dksX1_rides_1 0 rfl rfl)
theorem dX1_rides_25 : decode cX1_rides 25 = .ok (.istore 5, 2) := dk_54 5 (dk_at dksX1_rides_1 1 rfl rfl)
theorem dX1_rides_27 : decode cX1_rides 27 = .ok (.iload 5, 2) := dk_21 5 (dk_at dksX1_rides_1 3 rfl rfl)
theorem dX1_rides_29 : decode cX1_rides 29 = .ok (.aload_n 0, 1) := dk_42 (dk_at dksX1_rides_1 5 rfl rfl)
theorem dX1_rides_30 : decode cX1_rides 30 = .ok (.getfield 70, 3) := dk_180 0 70 (dk_at dksX1_rides_1 6 rfl rfl)
theorem dX1_rides_33 : decode cX1_rides 33 = .ok (.if_icmp .ge 39, 3) := dk_162 0 39 (dk_at dksX1_rides_1 9 rfl rfl)
theorem dX1_rides_36 : decode cX1_rides 36 = .ok (.aload_n 0, 1) := dk_42 (dk_at dksX1_rides_1 12 rfl rfl)
theorem dX1_rides_37 : decode cX1_rides 37 = .ok (.getfield 60, 3) := dk_180 0 60 (dk_at dksX1_rides_1 13 rfl rfl)
theorem dX1_rides_40 : decode cX1_rides 40 = .ok (.iload 5, 2) := dk_21 5 (dk_at dksX1_rides_1 16 rfl rfl)
theorem dX1_rides_42 : decode cX1_rides 42 = .ok (.iaload, 1) := dk_46 (dk_at dksX1_rides_1 18 rfl rfl)
theorem dX1_rides_43 : decode cX1_rides 43 = .ok (.iload 4, 2) := dk_21 4 (dk_at dksX1_rides_1 19 rfl rfl)
theorem dX1_rides_45 : decode cX1_rides 45 = .ok (.iand, 1) := dk_126 (dk_at dksX1_rides_1 21 rfl rfl)
theorem dX1_rides_46 : decode cX1_rides 46 = .ok (.invokestatic 117, 3) := dk_184 0 117 (dk_at dksX1_rides_2 0 rfl rfl)
theorem dX1_rides_49 : decode cX1_rides 49 = .ok (.istore 6, 2) := dk_54 6 (dk_at dksX1_rides_2 3 rfl rfl)
theorem dX1_rides_51 : decode cX1_rides 51 = .ok (.iload 6, 2) := dk_21 6 (dk_at dksX1_rides_2 5 rfl rfl)
theorem dX1_rides_53 : decode cX1_rides 53 = .ok (.iload_n 3, 1) := dk_29 (dk_at dksX1_rides_2 7 rfl rfl)
theorem dX1_rides_54 : decode cX1_rides 54 = .ok (.if_icmp .gt 6, 3) := dk_163 0 6 (dk_at dksX1_rides_2 8 rfl rfl)
theorem dX1_rides_57 : decode cX1_rides 57 = .ok (.goto 9, 3) := dk_167 0 9 (dk_at dksX1_rides_2 11 rfl rfl)
theorem dX1_rides_60 : decode cX1_rides 60 = .ok (.iload 5, 2) := dk_21 5 (dk_at dksX1_rides_2 14 rfl rfl)
theorem dX1_rides_62 : decode cX1_rides 62 = .ok (.istore_n 2, 1) := dk_61 (dk_at dksX1_rides_2 16 rfl rfl)
theorem dX1_rides_63 : decode cX1_rides 63 = .ok (.iload 6, 2) := dk_21 6 (dk_at dksX1_rides_2 17 rfl rfl)
theorem dX1_rides_65 : decode cX1_rides 65 = .ok (.istore_n 3, 1) := dk_62 (dk_at dksX1_rides_2 19 rfl rfl)
theorem dX1_rides_66 : decode cX1_rides 66 = .ok (.iinc 5 1, 3) := dk_132 5 1 (dk_at dksX1_rides_2 20 rfl rfl)
theorem dX1_rides_69 : decode cX1_rides 69 = .ok (.goto (-42), 3) := dk_167 255 214 (dk_at dksX1_rides_3 0 rfl rfl)
theorem dX1_rides_72 : decode cX1_rides 72 = .ok (.iload_n 2, 1) := dk_28 (dk_at dksX1_rides_3 3 rfl rfl)
theorem dX1_rides_73 : decode cX1_rides 73 = .ok (.ireturn, 1) := dk_172 (dk_at dksX1_rides_3 4 rfl rfl)
abbrev cX1_ownOf : ByteArray := prog_6_method_11_code
def yX1_ownOf : MethodName := ⟨RX1, "ownOf", "(I)I"⟩
def dkwX1_ownOf_2 : List UInt8 := [172]
abbrev dktX1_ownOf_2 : List UInt8 := dkwX1_ownOf_2 ++ []
def dkwX1_ownOf_1 : List UInt8 := [180, 0, 33, 29, 46, 154, 0, 9, 4, 29, 120, 167, 0, 4, 3, 128, 61, 132, 3, 1, 167, 255, 216, 28]
abbrev dktX1_ownOf_1 : List UInt8 := dkwX1_ownOf_1 ++ dktX1_ownOf_2
def dkwX1_ownOf_0 : List UInt8 := [3, 61, 3, 62, 29, 42, 180, 0, 70, 162, 0, 38, 28, 42, 180, 0, 21, 29, 46, 27, 160, 0, 18, 42]
abbrev dktX1_ownOf_0 : List UInt8 := dkwX1_ownOf_0 ++ dktX1_ownOf_1
theorem dksX1_ownOf_0 : cX1_ownOf.data.toList.drop 0 = dktX1_ownOf_0 := by decide +kernel
theorem dksX1_ownOf_1 : cX1_ownOf.data.toList.drop 24 = dktX1_ownOf_1 := dk_seg dksX1_ownOf_0 24 rfl rfl
theorem dksX1_ownOf_2 : cX1_ownOf.data.toList.drop 48 = dktX1_ownOf_2 := dk_seg dksX1_ownOf_1 24 rfl rfl
theorem dX1_ownOf_0 : decode cX1_ownOf 0 = .ok (.iconst 0, 1) := dk_3 (dk_at dksX1_ownOf_0 0 rfl rfl)
theorem dX1_ownOf_1 : decode cX1_ownOf 1 = .ok (.istore_n 2, 1) := dk_61 (dk_at dksX1_ownOf_0 1 rfl rfl)
theorem dX1_ownOf_2 : decode cX1_ownOf 2 = .ok (.iconst 0, 1) := dk_3 (dk_at dksX1_ownOf_0 2 rfl rfl)
theorem dX1_ownOf_3 : decode cX1_ownOf 3 = .ok (.istore_n 3, 1) := dk_62 (dk_at dksX1_ownOf_0 3 rfl rfl)
theorem dX1_ownOf_4 : decode cX1_ownOf 4 = .ok (.iload_n 3, 1) := dk_29 (dk_at dksX1_ownOf_0 4 rfl rfl)
theorem dX1_ownOf_5 : decode cX1_ownOf 5 = .ok (.aload_n 0, 1) := dk_42 (dk_at dksX1_ownOf_0 5 rfl rfl)
theorem dX1_ownOf_6 : decode cX1_ownOf 6 = .ok (.getfield 70, 3) := dk_180 0 70 (dk_at dksX1_ownOf_0 6 rfl rfl)
theorem dX1_ownOf_9 : decode cX1_ownOf 9 = .ok (.if_icmp .ge 38, 3) := dk_162 0 38 (dk_at dksX1_ownOf_0 9 rfl rfl)
theorem dX1_ownOf_12 : decode cX1_ownOf 12 = .ok (.iload_n 2, 1) := dk_28 (dk_at dksX1_ownOf_0 12 rfl rfl)
theorem dX1_ownOf_13 : decode cX1_ownOf 13 = .ok (.aload_n 0, 1) := dk_42 (dk_at dksX1_ownOf_0 13 rfl rfl)
theorem dX1_ownOf_14 : decode cX1_ownOf 14 = .ok (.getfield 21, 3) := dk_180 0 21 (dk_at dksX1_ownOf_0 14 rfl rfl)
theorem dX1_ownOf_17 : decode cX1_ownOf 17 = .ok (.iload_n 3, 1) := dk_29 (dk_at dksX1_ownOf_0 17 rfl rfl)
theorem dX1_ownOf_18 : decode cX1_ownOf 18 = .ok (.iaload, 1) := dk_46 (dk_at dksX1_ownOf_0 18 rfl rfl)
theorem dX1_ownOf_19 : decode cX1_ownOf 19 = .ok (.iload_n 1, 1) := dk_27 (dk_at dksX1_ownOf_0 19 rfl rfl)
theorem dX1_ownOf_20 : decode cX1_ownOf 20 = .ok (.if_icmp .ne 18, 3) := dk_160 0 18 (dk_at dksX1_ownOf_0 20 rfl rfl)
theorem dX1_ownOf_23 : decode cX1_ownOf 23 = .ok (.aload_n 0, 1) := dk_42 (dk_at dksX1_ownOf_0 23 rfl rfl)
theorem dX1_ownOf_24 : decode cX1_ownOf 24 = .ok (.getfield 33, 3) := dk_180 0 33 (dk_at dksX1_ownOf_1 0 rfl rfl)
theorem dX1_ownOf_27 : decode cX1_ownOf 27 = .ok (.iload_n 3, 1) := dk_29 (dk_at dksX1_ownOf_1 3 rfl rfl)
theorem dX1_ownOf_28 : decode cX1_ownOf 28 = .ok (.iaload, 1) := dk_46 (dk_at dksX1_ownOf_1 4 rfl rfl)
theorem dX1_ownOf_29 : decode cX1_ownOf 29 = .ok (.ifCond .ne 9, 3) := dk_154 0 9 (dk_at dksX1_ownOf_1 5 rfl rfl)
theorem dX1_ownOf_32 : decode cX1_ownOf 32 = .ok (.iconst 1, 1) := dk_4 (dk_at dksX1_ownOf_1 8 rfl rfl)
theorem dX1_ownOf_33 : decode cX1_ownOf 33 = .ok (.iload_n 3, 1) := dk_29 (dk_at dksX1_ownOf_1 9 rfl rfl)
theorem dX1_ownOf_34 : decode cX1_ownOf 34 = .ok (.ishl, 1) := dk_120 (dk_at dksX1_ownOf_1 10 rfl rfl)
theorem dX1_ownOf_35 : decode cX1_ownOf 35 = .ok (.goto 4, 3) := dk_167 0 4 (dk_at dksX1_ownOf_1 11 rfl rfl)
theorem dX1_ownOf_38 : decode cX1_ownOf 38 = .ok (.iconst 0, 1) := dk_3 (dk_at dksX1_ownOf_1 14 rfl rfl)
theorem dX1_ownOf_39 : decode cX1_ownOf 39 = .ok (.ior, 1) := dk_128 (dk_at dksX1_ownOf_1 15 rfl rfl)
theorem dX1_ownOf_40 : decode cX1_ownOf 40 = .ok (.istore_n 2, 1) := dk_61 (dk_at dksX1_ownOf_1 16 rfl rfl)
theorem dX1_ownOf_41 : decode cX1_ownOf 41 = .ok (.iinc 3 1, 3) := dk_132 3 1 (dk_at dksX1_ownOf_1 17 rfl rfl)
theorem dX1_ownOf_44 : decode cX1_ownOf 44 = .ok (.goto (-40), 3) := dk_167 255 216 (dk_at dksX1_ownOf_1 20 rfl rfl)
theorem dX1_ownOf_47 : decode cX1_ownOf 47 = .ok (.iload_n 2, 1) := dk_28 (dk_at dksX1_ownOf_1 23 rfl rfl)
theorem dX1_ownOf_48 : decode cX1_ownOf 48 = .ok (.ireturn, 1) := dk_172 (dk_at dksX1_ownOf_2 0 rfl rfl)
abbrev cX1_isAfloat : ByteArray := prog_6_method_6_code
def yX1_isAfloat : MethodName := ⟨RX1, "isAfloat", "(I)Z"⟩
def dkwX1_isAfloat_1 : List UInt8 := [167, 0, 4, 3, 172]
abbrev dktX1_isAfloat_1 : List UInt8 := dkwX1_isAfloat_1 ++ []
def dkwX1_isAfloat_0 : List UInt8 := [27, 155, 0, 24, 27, 42, 180, 0, 70, 162, 0, 16, 42, 180, 0, 33, 27, 46, 154, 0, 7, 4]
abbrev dktX1_isAfloat_0 : List UInt8 := dkwX1_isAfloat_0 ++ dktX1_isAfloat_1
theorem dksX1_isAfloat_0 : cX1_isAfloat.data.toList.drop 0 = dktX1_isAfloat_0 := by decide +kernel
theorem dksX1_isAfloat_1 : cX1_isAfloat.data.toList.drop 22 = dktX1_isAfloat_1 := dk_seg dksX1_isAfloat_0 22 rfl rfl
theorem dX1_isAfloat_0 : decode cX1_isAfloat 0 = .ok (.iload_n 1, 1) := dk_27 (dk_at dksX1_isAfloat_0 0 rfl rfl)
theorem dX1_isAfloat_1 : decode cX1_isAfloat 1 = .ok (.ifCond .lt 24, 3) := dk_155 0 24 (dk_at dksX1_isAfloat_0 1 rfl rfl)
theorem dX1_isAfloat_4 : decode cX1_isAfloat 4 = .ok (.iload_n 1, 1) := dk_27 (dk_at dksX1_isAfloat_0 4 rfl rfl)
theorem dX1_isAfloat_5 : decode cX1_isAfloat 5 = .ok (.aload_n 0, 1) := dk_42 (dk_at dksX1_isAfloat_0 5 rfl rfl)
theorem dX1_isAfloat_6 : decode cX1_isAfloat 6 = .ok (.getfield 70, 3) := dk_180 0 70 (dk_at dksX1_isAfloat_0 6 rfl rfl)
theorem dX1_isAfloat_9 : decode cX1_isAfloat 9 = .ok (.if_icmp .ge 16, 3) := dk_162 0 16 (dk_at dksX1_isAfloat_0 9 rfl rfl)
theorem dX1_isAfloat_12 : decode cX1_isAfloat 12 = .ok (.aload_n 0, 1) := dk_42 (dk_at dksX1_isAfloat_0 12 rfl rfl)
theorem dX1_isAfloat_13 : decode cX1_isAfloat 13 = .ok (.getfield 33, 3) := dk_180 0 33 (dk_at dksX1_isAfloat_0 13 rfl rfl)
theorem dX1_isAfloat_16 : decode cX1_isAfloat 16 = .ok (.iload_n 1, 1) := dk_27 (dk_at dksX1_isAfloat_0 16 rfl rfl)
theorem dX1_isAfloat_17 : decode cX1_isAfloat 17 = .ok (.iaload, 1) := dk_46 (dk_at dksX1_isAfloat_0 17 rfl rfl)
theorem dX1_isAfloat_18 : decode cX1_isAfloat 18 = .ok (.ifCond .ne 7, 3) := dk_154 0 7 (dk_at dksX1_isAfloat_0 18 rfl rfl)
theorem dX1_isAfloat_21 : decode cX1_isAfloat 21 = .ok (.iconst 1, 1) := dk_4 (dk_at dksX1_isAfloat_0 21 rfl rfl)
theorem dX1_isAfloat_22 : decode cX1_isAfloat 22 = .ok (.goto 4, 3) := dk_167 0 4 (dk_at dksX1_isAfloat_1 0 rfl rfl)
theorem dX1_isAfloat_25 : decode cX1_isAfloat 25 = .ok (.iconst 0, 1) := dk_3 (dk_at dksX1_isAfloat_1 3 rfl rfl)
theorem dX1_isAfloat_26 : decode cX1_isAfloat 26 = .ok (.ireturn, 1) := dk_172 (dk_at dksX1_isAfloat_1 4 rfl rfl)
abbrev cX1_pieceOf : ByteArray := prog_6_method_10_code
def yX1_pieceOf : MethodName := ⟨RX1, "pieceOf", "(I)I"⟩
def dkwX1_pieceOf_0 : List UInt8 := [42, 27, 42, 182, 0, 105, 182, 0, 109, 172]
abbrev dktX1_pieceOf_0 : List UInt8 := dkwX1_pieceOf_0 ++ []
theorem dksX1_pieceOf_0 : cX1_pieceOf.data.toList.drop 0 = dktX1_pieceOf_0 := by decide +kernel
theorem dX1_pieceOf_0 : decode cX1_pieceOf 0 = .ok (.aload_n 0, 1) := dk_42 (dk_at dksX1_pieceOf_0 0 rfl rfl)
theorem dX1_pieceOf_1 : decode cX1_pieceOf 1 = .ok (.iload_n 1, 1) := dk_27 (dk_at dksX1_pieceOf_0 1 rfl rfl)
theorem dX1_pieceOf_2 : decode cX1_pieceOf 2 = .ok (.aload_n 0, 1) := dk_42 (dk_at dksX1_pieceOf_0 2 rfl rfl)
theorem dX1_pieceOf_3 : decode cX1_pieceOf 3 = .ok (.invokevirtual 105, 3) := dk_182 0 105 (dk_at dksX1_pieceOf_0 3 rfl rfl)
theorem dX1_pieceOf_6 : decode cX1_pieceOf 6 = .ok (.invokevirtual 109, 3) := dk_182 0 109 (dk_at dksX1_pieceOf_0 6 rfl rfl)
theorem dX1_pieceOf_9 : decode cX1_pieceOf 9 = .ok (.ireturn, 1) := dk_172 (dk_at dksX1_pieceOf_0 9 rfl rfl)
abbrev cX1_marginOf : ByteArray := prog_6_method_16_code
def yX1_marginOf : MethodName := ⟨RX1, "marginOf", "(I)I"⟩
def dkwX1_marginOf_1 : List UInt8 := [46, 182, 0, 132, 100, 172]
abbrev dktX1_marginOf_1 : List UInt8 := dkwX1_marginOf_1 ++ []
def dkwX1_marginOf_0 : List UInt8 := [42, 42, 182, 0, 105, 182, 0, 125, 42, 42, 180, 0, 60, 27, 46, 182, 0, 129, 42, 42, 180, 0, 60, 27]
abbrev dktX1_marginOf_0 : List UInt8 := dkwX1_marginOf_0 ++ dktX1_marginOf_1
theorem dksX1_marginOf_0 : cX1_marginOf.data.toList.drop 0 = dktX1_marginOf_0 := by decide +kernel
theorem dksX1_marginOf_1 : cX1_marginOf.data.toList.drop 24 = dktX1_marginOf_1 := dk_seg dksX1_marginOf_0 24 rfl rfl
theorem dX1_marginOf_0 : decode cX1_marginOf 0 = .ok (.aload_n 0, 1) := dk_42 (dk_at dksX1_marginOf_0 0 rfl rfl)
theorem dX1_marginOf_1 : decode cX1_marginOf 1 = .ok (.aload_n 0, 1) := dk_42 (dk_at dksX1_marginOf_0 1 rfl rfl)
theorem dX1_marginOf_2 : decode cX1_marginOf 2 = .ok (.invokevirtual 105, 3) := dk_182 0 105 (dk_at dksX1_marginOf_0 2 rfl rfl)
theorem dX1_marginOf_5 : decode cX1_marginOf 5 = .ok (.invokevirtual 125, 3) := dk_182 0 125 (dk_at dksX1_marginOf_0 5 rfl rfl)
theorem dX1_marginOf_8 : decode cX1_marginOf 8 = .ok (.aload_n 0, 1) := dk_42 (dk_at dksX1_marginOf_0 8 rfl rfl)
theorem dX1_marginOf_9 : decode cX1_marginOf 9 = .ok (.aload_n 0, 1) := dk_42 (dk_at dksX1_marginOf_0 9 rfl rfl)
theorem dX1_marginOf_10 : decode cX1_marginOf 10 = .ok (.getfield 60, 3) := dk_180 0 60 (dk_at dksX1_marginOf_0 10 rfl rfl)
theorem dX1_marginOf_13 : decode cX1_marginOf 13 = .ok (.iload_n 1, 1) := dk_27 (dk_at dksX1_marginOf_0 13 rfl rfl)
theorem dX1_marginOf_14 : decode cX1_marginOf 14 = .ok (.iaload, 1) := dk_46 (dk_at dksX1_marginOf_0 14 rfl rfl)
theorem dX1_marginOf_15 : decode cX1_marginOf 15 = .ok (.invokevirtual 129, 3) := dk_182 0 129 (dk_at dksX1_marginOf_0 15 rfl rfl)
theorem dX1_marginOf_18 : decode cX1_marginOf 18 = .ok (.aload_n 0, 1) := dk_42 (dk_at dksX1_marginOf_0 18 rfl rfl)
theorem dX1_marginOf_19 : decode cX1_marginOf 19 = .ok (.aload_n 0, 1) := dk_42 (dk_at dksX1_marginOf_0 19 rfl rfl)
theorem dX1_marginOf_20 : decode cX1_marginOf 20 = .ok (.getfield 60, 3) := dk_180 0 60 (dk_at dksX1_marginOf_0 20 rfl rfl)
theorem dX1_marginOf_23 : decode cX1_marginOf 23 = .ok (.iload_n 1, 1) := dk_27 (dk_at dksX1_marginOf_0 23 rfl rfl)
theorem dX1_marginOf_24 : decode cX1_marginOf 24 = .ok (.iaload, 1) := dk_46 (dk_at dksX1_marginOf_1 0 rfl rfl)
theorem dX1_marginOf_25 : decode cX1_marginOf 25 = .ok (.invokevirtual 132, 3) := dk_182 0 132 (dk_at dksX1_marginOf_1 1 rfl rfl)
theorem dX1_marginOf_28 : decode cX1_marginOf 28 = .ok (.isub, 1) := dk_100 (dk_at dksX1_marginOf_1 4 rfl rfl)
theorem dX1_marginOf_29 : decode cX1_marginOf 29 = .ok (.ireturn, 1) := dk_172 (dk_at dksX1_marginOf_1 5 rfl rfl)
abbrev cX1_bearsOf : ByteArray := prog_6_method_14_code
def yX1_bearsOf : MethodName := ⟨RX1, "bearsOf", "(I)I"⟩
def dkwX1_bearsOf_2 : List UInt8 := [28, 172]
abbrev dktX1_bearsOf_2 : List UInt8 := dkwX1_bearsOf_2 ++ []
def dkwX1_bearsOf_1 : List UInt8 := [180, 0, 27, 29, 46, 42, 180, 0, 24, 29, 46, 100, 167, 0, 4, 3, 96, 61, 132, 3, 1, 167, 255, 217]
abbrev dktX1_bearsOf_1 : List UInt8 := dkwX1_bearsOf_1 ++ dktX1_bearsOf_2
def dkwX1_bearsOf_0 : List UInt8 := [3, 61, 3, 62, 29, 42, 180, 0, 70, 162, 0, 37, 28, 27, 29, 184, 0, 101, 153, 0, 19, 42]
abbrev dktX1_bearsOf_0 : List UInt8 := dkwX1_bearsOf_0 ++ dktX1_bearsOf_1
theorem dksX1_bearsOf_0 : cX1_bearsOf.data.toList.drop 0 = dktX1_bearsOf_0 := by decide +kernel
theorem dksX1_bearsOf_1 : cX1_bearsOf.data.toList.drop 22 = dktX1_bearsOf_1 := dk_seg dksX1_bearsOf_0 22 rfl rfl
theorem dksX1_bearsOf_2 : cX1_bearsOf.data.toList.drop 46 = dktX1_bearsOf_2 := dk_seg dksX1_bearsOf_1 24 rfl rfl
theorem dX1_bearsOf_0 : decode cX1_bearsOf 0 = .ok (.iconst 0, 1) := dk_3 (dk_at dksX1_bearsOf_0 0 rfl rfl)
theorem dX1_bearsOf_1 : decode cX1_bearsOf 1 = .ok (.istore_n 2, 1) := dk_61 (dk_at dksX1_bearsOf_0 1 rfl rfl)
theorem dX1_bearsOf_2 : decode cX1_bearsOf 2 = .ok (.iconst 0, 1) := dk_3 (dk_at dksX1_bearsOf_0 2 rfl rfl)
theorem dX1_bearsOf_3 : decode cX1_bearsOf 3 = .ok (.istore_n 3, 1) := dk_62 (dk_at dksX1_bearsOf_0 3 rfl rfl)
theorem dX1_bearsOf_4 : decode cX1_bearsOf 4 = .ok (.iload_n 3, 1) := dk_29 (dk_at dksX1_bearsOf_0 4 rfl rfl)
theorem dX1_bearsOf_5 : decode cX1_bearsOf 5 = .ok (.aload_n 0, 1) := dk_42 (dk_at dksX1_bearsOf_0 5 rfl rfl)
theorem dX1_bearsOf_6 : decode cX1_bearsOf 6 = .ok (.getfield 70, 3) := dk_180 0 70 (dk_at dksX1_bearsOf_0 6 rfl rfl)
theorem dX1_bearsOf_9 : decode cX1_bearsOf 9 = .ok (.if_icmp .ge 37, 3) := dk_162 0 37 (dk_at dksX1_bearsOf_0 9 rfl rfl)
theorem dX1_bearsOf_12 : decode cX1_bearsOf 12 = .ok (.iload_n 2, 1) := dk_28 (dk_at dksX1_bearsOf_0 12 rfl rfl)
theorem dX1_bearsOf_13 : decode cX1_bearsOf 13 = .ok (.iload_n 1, 1) := dk_27 (dk_at dksX1_bearsOf_0 13 rfl rfl)
theorem dX1_bearsOf_14 : decode cX1_bearsOf 14 = .ok (.iload_n 3, 1) := dk_29 (dk_at dksX1_bearsOf_0 14 rfl rfl)
theorem dX1_bearsOf_15 : decode cX1_bearsOf 15 = .ok (.invokestatic 101, 3) := dk_184 0 101 (dk_at dksX1_bearsOf_0 15 rfl rfl)
theorem dX1_bearsOf_18 : decode cX1_bearsOf 18 = .ok (.ifCond .eq 19, 3) := dk_153 0 19 (dk_at dksX1_bearsOf_0 18 rfl rfl)
theorem dX1_bearsOf_21 : decode cX1_bearsOf 21 = .ok (.aload_n 0, 1) := dk_42 (dk_at dksX1_bearsOf_0 21 rfl rfl)
theorem dX1_bearsOf_22 : decode cX1_bearsOf 22 = .ok (.getfield 27, 3) := dk_180 0 27 (dk_at dksX1_bearsOf_1 0 rfl rfl)
theorem dX1_bearsOf_25 : decode cX1_bearsOf 25 = .ok (.iload_n 3, 1) := dk_29 (dk_at dksX1_bearsOf_1 3 rfl rfl)
theorem dX1_bearsOf_26 : decode cX1_bearsOf 26 = .ok (.iaload, 1) := dk_46 (dk_at dksX1_bearsOf_1 4 rfl rfl)
theorem dX1_bearsOf_27 : decode cX1_bearsOf 27 = .ok (.aload_n 0, 1) := dk_42 (dk_at dksX1_bearsOf_1 5 rfl rfl)
theorem dX1_bearsOf_28 : decode cX1_bearsOf 28 = .ok (.getfield 24, 3) := dk_180 0 24 (dk_at dksX1_bearsOf_1 6 rfl rfl)
theorem dX1_bearsOf_31 : decode cX1_bearsOf 31 = .ok (.iload_n 3, 1) := dk_29 (dk_at dksX1_bearsOf_1 9 rfl rfl)
theorem dX1_bearsOf_32 : decode cX1_bearsOf 32 = .ok (.iaload, 1) := dk_46 (dk_at dksX1_bearsOf_1 10 rfl rfl)
theorem dX1_bearsOf_33 : decode cX1_bearsOf 33 = .ok (.isub, 1) := dk_100 (dk_at dksX1_bearsOf_1 11 rfl rfl)
theorem dX1_bearsOf_34 : decode cX1_bearsOf 34 = .ok (.goto 4, 3) := dk_167 0 4 (dk_at dksX1_bearsOf_1 12 rfl rfl)
theorem dX1_bearsOf_37 : decode cX1_bearsOf 37 = .ok (.iconst 0, 1) := dk_3 (dk_at dksX1_bearsOf_1 15 rfl rfl)
theorem dX1_bearsOf_38 : decode cX1_bearsOf 38 = .ok (.iadd, 1) := dk_96 (dk_at dksX1_bearsOf_1 16 rfl rfl)
theorem dX1_bearsOf_39 : decode cX1_bearsOf 39 = .ok (.istore_n 2, 1) := dk_61 (dk_at dksX1_bearsOf_1 17 rfl rfl)
theorem dX1_bearsOf_40 : decode cX1_bearsOf 40 = .ok (.iinc 3 1, 3) := dk_132 3 1 (dk_at dksX1_bearsOf_1 18 rfl rfl)
theorem dX1_bearsOf_43 : decode cX1_bearsOf 43 = .ok (.goto (-39), 3) := dk_167 255 217 (dk_at dksX1_bearsOf_1 21 rfl rfl)
theorem dX1_bearsOf_46 : decode cX1_bearsOf 46 = .ok (.iload_n 2, 1) := dk_28 (dk_at dksX1_bearsOf_2 0 rfl rfl)
theorem dX1_bearsOf_47 : decode cX1_bearsOf 47 = .ok (.ireturn, 1) := dk_172 (dk_at dksX1_bearsOf_2 1 rfl rfl)
abbrev cX1_ridersOf : ByteArray := prog_6_method_15_code
def yX1_ridersOf : MethodName := ⟨RX1, "ridersOf", "(I)I"⟩
def dkwX1_ridersOf_2 : List UInt8 := [132, 3, 1, 167, 255, 210, 28, 172]
abbrev dktX1_ridersOf_2 : List UInt8 := dkwX1_ridersOf_2 ++ []
def dkwX1_ridersOf_1 : List UInt8 := [159, 0, 21, 27, 21, 4, 184, 0, 101, 153, 0, 12, 42, 180, 0, 15, 29, 46, 167, 0, 4, 3, 96, 61]
abbrev dktX1_ridersOf_1 : List UInt8 := dkwX1_ridersOf_1 ++ dktX1_ridersOf_2
def dkwX1_ridersOf_0 : List UInt8 := [3, 61, 3, 62, 29, 42, 180, 0, 67, 162, 0, 44, 42, 29, 182, 0, 122, 54, 4, 28, 21, 4, 2]
abbrev dktX1_ridersOf_0 : List UInt8 := dkwX1_ridersOf_0 ++ dktX1_ridersOf_1
theorem dksX1_ridersOf_0 : cX1_ridersOf.data.toList.drop 0 = dktX1_ridersOf_0 := by decide +kernel
theorem dksX1_ridersOf_1 : cX1_ridersOf.data.toList.drop 23 = dktX1_ridersOf_1 := dk_seg dksX1_ridersOf_0 23 rfl rfl
theorem dksX1_ridersOf_2 : cX1_ridersOf.data.toList.drop 47 = dktX1_ridersOf_2 := dk_seg dksX1_ridersOf_1 24 rfl rfl
theorem dX1_ridersOf_0 : decode cX1_ridersOf 0 = .ok (.iconst 0, 1) := dk_3 (dk_at dksX1_ridersOf_0 0 rfl rfl)
theorem dX1_ridersOf_1 : decode cX1_ridersOf 1 = .ok (.istore_n 2, 1) := dk_61 (dk_at dksX1_ridersOf_0 1 rfl rfl)
theorem dX1_ridersOf_2 : decode cX1_ridersOf 2 = .ok (.iconst 0, 1) := dk_3 (dk_at dksX1_ridersOf_0 2 rfl rfl)
theorem dX1_ridersOf_3 : decode cX1_ridersOf 3 = .ok (.istore_n 3, 1) := dk_62 (dk_at dksX1_ridersOf_0 3 rfl rfl)
theorem dX1_ridersOf_4 : decode cX1_ridersOf 4 = .ok (.iload_n 3, 1) := dk_29 (dk_at dksX1_ridersOf_0 4 rfl rfl)
theorem dX1_ridersOf_5 : decode cX1_ridersOf 5 = .ok (.aload_n 0, 1) := dk_42 (dk_at dksX1_ridersOf_0 5 rfl rfl)
theorem dX1_ridersOf_6 : decode cX1_ridersOf 6 = .ok (.getfield 67, 3) := dk_180 0 67 (dk_at dksX1_ridersOf_0 6 rfl rfl)
theorem dX1_ridersOf_9 : decode cX1_ridersOf 9 = .ok (.if_icmp .ge 44, 3) := dk_162 0 44 (dk_at dksX1_ridersOf_0 9 rfl rfl)
theorem dX1_ridersOf_12 : decode cX1_ridersOf 12 = .ok (.aload_n 0, 1) := dk_42 (dk_at dksX1_ridersOf_0 12 rfl rfl)
theorem dX1_ridersOf_13 : decode cX1_ridersOf 13 = .ok (.iload_n 3, 1) := dk_29 (dk_at dksX1_ridersOf_0 13 rfl rfl)
theorem dX1_ridersOf_14 : decode cX1_ridersOf 14 = .ok (.invokevirtual 122, 3) := dk_182 0 122 (dk_at dksX1_ridersOf_0 14 rfl rfl)
theorem dX1_ridersOf_17 : decode cX1_ridersOf 17 = .ok (.istore 4, 2) := dk_54 4 (dk_at dksX1_ridersOf_0 17 rfl rfl)
theorem dX1_ridersOf_19 : decode cX1_ridersOf 19 = .ok (.iload_n 2, 1) := dk_28 (dk_at dksX1_ridersOf_0 19 rfl rfl)
theorem dX1_ridersOf_20 : decode cX1_ridersOf 20 = .ok (.iload 4, 2) := dk_21 4 (dk_at dksX1_ridersOf_0 20 rfl rfl)
theorem dX1_ridersOf_22 : decode cX1_ridersOf 22 = .ok (.iconst (-1), 1) := dk_2 (dk_at dksX1_ridersOf_0 22 rfl rfl)
theorem dX1_ridersOf_23 : decode cX1_ridersOf 23 = .ok (.if_icmp .eq 21, 3) := dk_159 0 21 (dk_at dksX1_ridersOf_1 0 rfl rfl)
theorem dX1_ridersOf_26 : decode cX1_ridersOf 26 = .ok (.iload_n 1, 1) := dk_27 (dk_at dksX1_ridersOf_1 3 rfl rfl)
theorem dX1_ridersOf_27 : decode cX1_ridersOf 27 = .ok (.iload 4, 2) := dk_21 4 (dk_at dksX1_ridersOf_1 4 rfl rfl)
theorem dX1_ridersOf_29 : decode cX1_ridersOf 29 = .ok (.invokestatic 101, 3) := dk_184 0 101 (dk_at dksX1_ridersOf_1 6 rfl rfl)
theorem dX1_ridersOf_32 : decode cX1_ridersOf 32 = .ok (.ifCond .eq 12, 3) := dk_153 0 12 (dk_at dksX1_ridersOf_1 9 rfl rfl)
theorem dX1_ridersOf_35 : decode cX1_ridersOf 35 = .ok (.aload_n 0, 1) := dk_42 (dk_at dksX1_ridersOf_1 12 rfl rfl)
theorem dX1_ridersOf_36 : decode cX1_ridersOf 36 = .ok (.getfield 15, 3) := dk_180 0 15 (dk_at dksX1_ridersOf_1 13 rfl rfl)
theorem dX1_ridersOf_39 : decode cX1_ridersOf 39 = .ok (.iload_n 3, 1) := dk_29 (dk_at dksX1_ridersOf_1 16 rfl rfl)
theorem dX1_ridersOf_40 : decode cX1_ridersOf 40 = .ok (.iaload, 1) := dk_46 (dk_at dksX1_ridersOf_1 17 rfl rfl)
theorem dX1_ridersOf_41 : decode cX1_ridersOf 41 = .ok (.goto 4, 3) := dk_167 0 4 (dk_at dksX1_ridersOf_1 18 rfl rfl)
theorem dX1_ridersOf_44 : decode cX1_ridersOf 44 = .ok (.iconst 0, 1) := dk_3 (dk_at dksX1_ridersOf_1 21 rfl rfl)
theorem dX1_ridersOf_45 : decode cX1_ridersOf 45 = .ok (.iadd, 1) := dk_96 (dk_at dksX1_ridersOf_1 22 rfl rfl)
theorem dX1_ridersOf_46 : decode cX1_ridersOf 46 = .ok (.istore_n 2, 1) := dk_61 (dk_at dksX1_ridersOf_1 23 rfl rfl)
theorem dX1_ridersOf_47 : decode cX1_ridersOf 47 = .ok (.iinc 3 1, 3) := dk_132 3 1 (dk_at dksX1_ridersOf_2 0 rfl rfl)
theorem dX1_ridersOf_50 : decode cX1_ridersOf 50 = .ok (.goto (-46), 3) := dk_167 255 210 (dk_at dksX1_ridersOf_2 3 rfl rfl)
theorem dX1_ridersOf_53 : decode cX1_ridersOf 53 = .ok (.iload_n 2, 1) := dk_28 (dk_at dksX1_ridersOf_2 6 rfl rfl)
theorem dX1_ridersOf_54 : decode cX1_ridersOf 54 = .ok (.ireturn, 1) := dk_172 (dk_at dksX1_ridersOf_2 7 rfl rfl)
abbrev cX1_takes : ByteArray := prog_6_method_5_code
def yX1_takes : MethodName := ⟨RX1, "takes", "(I)V"⟩
def dkwX1_takes_7 : List UInt8 := [180, 0, 57, 28, 16, 65, 96, 42, 180, 0, 45, 3, 16, 12, 184, 0, 82, 177]
abbrev dktX1_takes_7 : List UInt8 := dkwX1_takes_7 ++ []
def dkwX1_takes_6 : List UInt8 := [16, 12, 184, 0, 82, 42, 180, 0, 57, 28, 16, 53, 96, 42, 180, 0, 42, 3, 16, 12, 184, 0, 82, 42]
abbrev dktX1_takes_6 : List UInt8 := dkwX1_takes_6 ++ dktX1_takes_7
def dkwX1_takes_5 : List UInt8 := [96, 42, 180, 0, 36, 3, 16, 8, 184, 0, 82, 42, 180, 0, 57, 28, 16, 41, 96, 42, 180, 0, 39, 3]
abbrev dktX1_takes_5 : List UInt8 := dkwX1_takes_5 ++ dktX1_takes_6
def dkwX1_takes_4 : List UInt8 := [180, 0, 57, 28, 16, 25, 96, 42, 180, 0, 33, 3, 16, 8, 184, 0, 82, 42, 180, 0, 57, 28, 16, 33]
abbrev dktX1_takes_4 : List UInt8 := dkwX1_takes_4 ++ dktX1_takes_5
def dkwX1_takes_3 : List UInt8 := [184, 0, 82, 42, 180, 0, 57, 28, 16, 17, 96, 42, 180, 0, 27, 3, 16, 8, 184, 0, 82, 42]
abbrev dktX1_takes_3 : List UInt8 := dkwX1_takes_3 ++ dktX1_takes_4
def dkwX1_takes_2 : List UInt8 := [180, 0, 18, 3, 16, 6, 184, 0, 82, 42, 180, 0, 57, 28, 16, 9, 96, 42, 180, 0, 21, 3, 16, 8]
abbrev dktX1_takes_2 : List UInt8 := dkwX1_takes_2 ++ dktX1_takes_3
def dkwX1_takes_1 : List UInt8 := [181, 0, 95, 42, 42, 180, 0, 57, 28, 5, 96, 46, 181, 0, 98, 42, 180, 0, 57, 28, 6, 96, 42]
abbrev dktX1_takes_1 : List UInt8 := dkwX1_takes_1 ++ dktX1_takes_2
def dkwX1_takes_0 : List UInt8 := [16, 77, 27, 104, 61, 42, 42, 180, 0, 57, 28, 46, 181, 0, 92, 42, 42, 180, 0, 57, 28, 4, 96, 46]
abbrev dktX1_takes_0 : List UInt8 := dkwX1_takes_0 ++ dktX1_takes_1
theorem dksX1_takes_0 : cX1_takes.data.toList.drop 0 = dktX1_takes_0 := by decide +kernel
theorem dksX1_takes_1 : cX1_takes.data.toList.drop 24 = dktX1_takes_1 := dk_seg dksX1_takes_0 24 rfl rfl
theorem dksX1_takes_2 : cX1_takes.data.toList.drop 47 = dktX1_takes_2 := dk_seg dksX1_takes_1 23 rfl rfl
theorem dksX1_takes_3 : cX1_takes.data.toList.drop 71 = dktX1_takes_3 := dk_seg dksX1_takes_2 24 rfl rfl
theorem dksX1_takes_4 : cX1_takes.data.toList.drop 93 = dktX1_takes_4 := dk_seg dksX1_takes_3 22 rfl rfl
theorem dksX1_takes_5 : cX1_takes.data.toList.drop 117 = dktX1_takes_5 := dk_seg dksX1_takes_4 24 rfl rfl
theorem dksX1_takes_6 : cX1_takes.data.toList.drop 141 = dktX1_takes_6 := dk_seg dksX1_takes_5 24 rfl rfl
theorem dksX1_takes_7 : cX1_takes.data.toList.drop 165 = dktX1_takes_7 := dk_seg dksX1_takes_6 24 rfl rfl
theorem dX1_takes_0 : decode cX1_takes 0 = .ok (.bipush 77, 2) := dk_16 77 (dk_at dksX1_takes_0 0 rfl rfl)
theorem dX1_takes_2 : decode cX1_takes 2 = .ok (.iload_n 1, 1) := dk_27 (dk_at dksX1_takes_0 2 rfl rfl)
theorem dX1_takes_3 : decode cX1_takes 3 = .ok (.imul, 1) := dk_104 (dk_at dksX1_takes_0 3 rfl rfl)
theorem dX1_takes_4 : decode cX1_takes 4 = .ok (.istore_n 2, 1) := dk_61 (dk_at dksX1_takes_0 4 rfl rfl)
theorem dX1_takes_5 : decode cX1_takes 5 = .ok (.aload_n 0, 1) := dk_42 (dk_at dksX1_takes_0 5 rfl rfl)
theorem dX1_takes_6 : decode cX1_takes 6 = .ok (.aload_n 0, 1) := dk_42 (dk_at dksX1_takes_0 6 rfl rfl)
theorem dX1_takes_7 : decode cX1_takes 7 = .ok (.getfield 57, 3) := dk_180 0 57 (dk_at dksX1_takes_0 7 rfl rfl)
theorem dX1_takes_10 : decode cX1_takes 10 = .ok (.iload_n 2, 1) := dk_28 (dk_at dksX1_takes_0 10 rfl rfl)
theorem dX1_takes_11 : decode cX1_takes 11 = .ok (.iaload, 1) := dk_46 (dk_at dksX1_takes_0 11 rfl rfl)
theorem dX1_takes_12 : decode cX1_takes 12 = .ok (.putfield 92, 3) := dk_181 0 92 (dk_at dksX1_takes_0 12 rfl rfl)
theorem dX1_takes_15 : decode cX1_takes 15 = .ok (.aload_n 0, 1) := dk_42 (dk_at dksX1_takes_0 15 rfl rfl)
theorem dX1_takes_16 : decode cX1_takes 16 = .ok (.aload_n 0, 1) := dk_42 (dk_at dksX1_takes_0 16 rfl rfl)
theorem dX1_takes_17 : decode cX1_takes 17 = .ok (.getfield 57, 3) := dk_180 0 57 (dk_at dksX1_takes_0 17 rfl rfl)
theorem dX1_takes_20 : decode cX1_takes 20 = .ok (.iload_n 2, 1) := dk_28 (dk_at dksX1_takes_0 20 rfl rfl)
theorem dX1_takes_21 : decode cX1_takes 21 = .ok (.iconst 1, 1) := dk_4 (dk_at dksX1_takes_0 21 rfl rfl)
theorem dX1_takes_22 : decode cX1_takes 22 = .ok (.iadd, 1) := dk_96 (dk_at dksX1_takes_0 22 rfl rfl)
theorem dX1_takes_23 : decode cX1_takes 23 = .ok (.iaload, 1) := dk_46 (dk_at dksX1_takes_0 23 rfl rfl)
theorem dX1_takes_24 : decode cX1_takes 24 = .ok (.putfield 95, 3) := dk_181 0 95 (dk_at dksX1_takes_1 0 rfl rfl)
theorem dX1_takes_27 : decode cX1_takes 27 = .ok (.aload_n 0, 1) := dk_42 (dk_at dksX1_takes_1 3 rfl rfl)
theorem dX1_takes_28 : decode cX1_takes 28 = .ok (.aload_n 0, 1) := dk_42 (dk_at dksX1_takes_1 4 rfl rfl)
theorem dX1_takes_29 : decode cX1_takes 29 = .ok (.getfield 57, 3) := dk_180 0 57 (dk_at dksX1_takes_1 5 rfl rfl)
theorem dX1_takes_32 : decode cX1_takes 32 = .ok (.iload_n 2, 1) := dk_28 (dk_at dksX1_takes_1 8 rfl rfl)
theorem dX1_takes_33 : decode cX1_takes 33 = .ok (.iconst 2, 1) := dk_5 (dk_at dksX1_takes_1 9 rfl rfl)
theorem dX1_takes_34 : decode cX1_takes 34 = .ok (.iadd, 1) := dk_96 (dk_at dksX1_takes_1 10 rfl rfl)
theorem dX1_takes_35 : decode cX1_takes 35 = .ok (.iaload, 1) := dk_46 (dk_at dksX1_takes_1 11 rfl rfl)
theorem dX1_takes_36 : decode cX1_takes 36 = .ok (.putfield 98, 3) := dk_181 0 98 (dk_at dksX1_takes_1 12 rfl rfl)
theorem dX1_takes_39 : decode cX1_takes 39 = .ok (.aload_n 0, 1) := dk_42 (dk_at dksX1_takes_1 15 rfl rfl)
theorem dX1_takes_40 : decode cX1_takes 40 = .ok (.getfield 57, 3) := dk_180 0 57 (dk_at dksX1_takes_1 16 rfl rfl)
theorem dX1_takes_43 : decode cX1_takes 43 = .ok (.iload_n 2, 1) := dk_28 (dk_at dksX1_takes_1 19 rfl rfl)
theorem dX1_takes_44 : decode cX1_takes 44 = .ok (.iconst 3, 1) := dk_6 (dk_at dksX1_takes_1 20 rfl rfl)
theorem dX1_takes_45 : decode cX1_takes 45 = .ok (.iadd, 1) := dk_96 (dk_at dksX1_takes_1 21 rfl rfl)
theorem dX1_takes_46 : decode cX1_takes 46 = .ok (.aload_n 0, 1) := dk_42 (dk_at dksX1_takes_1 22 rfl rfl)
theorem dX1_takes_47 : decode cX1_takes 47 = .ok (.getfield 18, 3) := dk_180 0 18 (dk_at dksX1_takes_2 0 rfl rfl)
theorem dX1_takes_50 : decode cX1_takes 50 = .ok (.iconst 0, 1) := dk_3 (dk_at dksX1_takes_2 3 rfl rfl)
theorem dX1_takes_51 : decode cX1_takes 51 = .ok (.bipush 6, 2) := dk_16 6 (dk_at dksX1_takes_2 4 rfl rfl)
theorem dX1_takes_53 : decode cX1_takes 53 = .ok (.invokestatic 82, 3) := dk_184 0 82 (dk_at dksX1_takes_2 6 rfl rfl)
theorem dX1_takes_56 : decode cX1_takes 56 = .ok (.aload_n 0, 1) := dk_42 (dk_at dksX1_takes_2 9 rfl rfl)
theorem dX1_takes_57 : decode cX1_takes 57 = .ok (.getfield 57, 3) := dk_180 0 57 (dk_at dksX1_takes_2 10 rfl rfl)
theorem dX1_takes_60 : decode cX1_takes 60 = .ok (.iload_n 2, 1) := dk_28 (dk_at dksX1_takes_2 13 rfl rfl)
theorem dX1_takes_61 : decode cX1_takes 61 = .ok (.bipush 9, 2) := dk_16 9 (dk_at dksX1_takes_2 14 rfl rfl)
theorem dX1_takes_63 : decode cX1_takes 63 = .ok (.iadd, 1) := dk_96 (dk_at dksX1_takes_2 16 rfl rfl)
theorem dX1_takes_64 : decode cX1_takes 64 = .ok (.aload_n 0, 1) := dk_42 (dk_at dksX1_takes_2 17 rfl rfl)
theorem dX1_takes_65 : decode cX1_takes 65 = .ok (.getfield 21, 3) := dk_180 0 21 (dk_at dksX1_takes_2 18 rfl rfl)
theorem dX1_takes_68 : decode cX1_takes 68 = .ok (.iconst 0, 1) := dk_3 (dk_at dksX1_takes_2 21 rfl rfl)
theorem dX1_takes_69 : decode cX1_takes 69 = .ok (.bipush 8, 2) := dk_16 8 (dk_at dksX1_takes_2 22 rfl rfl)
theorem dX1_takes_71 : decode cX1_takes 71 = .ok (.invokestatic 82, 3) := dk_184 0 82 (dk_at dksX1_takes_3 0 rfl rfl)
theorem dX1_takes_74 : decode cX1_takes 74 = .ok (.aload_n 0, 1) := dk_42 (dk_at dksX1_takes_3 3 rfl rfl)
theorem dX1_takes_75 : decode cX1_takes 75 = .ok (.getfield 57, 3) := dk_180 0 57 (dk_at dksX1_takes_3 4 rfl rfl)
theorem dX1_takes_78 : decode cX1_takes 78 = .ok (.iload_n 2, 1) := dk_28 (dk_at dksX1_takes_3 7 rfl rfl)
theorem dX1_takes_79 : decode cX1_takes 79 = .ok (.bipush 17, 2) := dk_16 17 (dk_at dksX1_takes_3 8 rfl rfl)
theorem dX1_takes_81 : decode cX1_takes 81 = .ok (.iadd, 1) := dk_96 (dk_at dksX1_takes_3 10 rfl rfl)
theorem dX1_takes_82 : decode cX1_takes 82 = .ok (.aload_n 0, 1) := dk_42 (dk_at dksX1_takes_3 11 rfl rfl)
theorem dX1_takes_83 : decode cX1_takes 83 = .ok (.getfield 27, 3) := dk_180 0 27 (dk_at dksX1_takes_3 12 rfl rfl)
theorem dX1_takes_86 : decode cX1_takes 86 = .ok (.iconst 0, 1) := dk_3 (dk_at dksX1_takes_3 15 rfl rfl)
theorem dX1_takes_87 : decode cX1_takes 87 = .ok (.bipush 8, 2) := dk_16 8 (dk_at dksX1_takes_3 16 rfl rfl)
theorem dX1_takes_89 : decode cX1_takes 89 = .ok (.invokestatic 82, 3) := dk_184 0 82 (dk_at dksX1_takes_3 18 rfl rfl)
theorem dX1_takes_92 : decode cX1_takes 92 = .ok (.aload_n 0, 1) := dk_42 (dk_at dksX1_takes_3 21 rfl rfl)
theorem dX1_takes_93 : decode cX1_takes 93 = .ok (.getfield 57, 3) := dk_180 0 57 (dk_at dksX1_takes_4 0 rfl rfl)
theorem dX1_takes_96 : decode cX1_takes 96 = .ok (.iload_n 2, 1) := dk_28 (dk_at dksX1_takes_4 3 rfl rfl)
theorem dX1_takes_97 : decode cX1_takes 97 = .ok (.bipush 25, 2) := dk_16 25 (dk_at dksX1_takes_4 4 rfl rfl)
theorem dX1_takes_99 : decode cX1_takes 99 = .ok (.iadd, 1) := dk_96 (dk_at dksX1_takes_4 6 rfl rfl)
theorem dX1_takes_100 : decode cX1_takes 100 = .ok (.aload_n 0, 1) := dk_42 (dk_at dksX1_takes_4 7 rfl rfl)
theorem dX1_takes_101 : decode cX1_takes 101 = .ok (.getfield 33, 3) := dk_180 0 33 (dk_at dksX1_takes_4 8 rfl rfl)
theorem dX1_takes_104 : decode cX1_takes 104 = .ok (.iconst 0, 1) := dk_3 (dk_at dksX1_takes_4 11 rfl rfl)
theorem dX1_takes_105 : decode cX1_takes 105 = .ok (.bipush 8, 2) := dk_16 8 (dk_at dksX1_takes_4 12 rfl rfl)
theorem dX1_takes_107 : decode cX1_takes 107 = .ok (.invokestatic 82, 3) := dk_184 0 82 (dk_at dksX1_takes_4 14 rfl rfl)
theorem dX1_takes_110 : decode cX1_takes 110 = .ok (.aload_n 0, 1) := dk_42 (dk_at dksX1_takes_4 17 rfl rfl)
theorem dX1_takes_111 : decode cX1_takes 111 = .ok (.getfield 57, 3) := dk_180 0 57 (dk_at dksX1_takes_4 18 rfl rfl)
theorem dX1_takes_114 : decode cX1_takes 114 = .ok (.iload_n 2, 1) := dk_28 (dk_at dksX1_takes_4 21 rfl rfl)
theorem dX1_takes_115 : decode cX1_takes 115 = .ok (.bipush 33, 2) := dk_16 33 (dk_at dksX1_takes_4 22 rfl rfl)
theorem dX1_takes_117 : decode cX1_takes 117 = .ok (.iadd, 1) := dk_96 (dk_at dksX1_takes_5 0 rfl rfl)
theorem dX1_takes_118 : decode cX1_takes 118 = .ok (.aload_n 0, 1) := dk_42 (dk_at dksX1_takes_5 1 rfl rfl)
theorem dX1_takes_119 : decode cX1_takes 119 = .ok (.getfield 36, 3) := dk_180 0 36 (dk_at dksX1_takes_5 2 rfl rfl)
theorem dX1_takes_122 : decode cX1_takes 122 = .ok (.iconst 0, 1) := dk_3 (dk_at dksX1_takes_5 5 rfl rfl)
theorem dX1_takes_123 : decode cX1_takes 123 = .ok (.bipush 8, 2) := dk_16 8 (dk_at dksX1_takes_5 6 rfl rfl)
theorem dX1_takes_125 : decode cX1_takes 125 = .ok (.invokestatic 82, 3) := dk_184 0 82 (dk_at dksX1_takes_5 8 rfl rfl)
theorem dX1_takes_128 : decode cX1_takes 128 = .ok (.aload_n 0, 1) := dk_42 (dk_at dksX1_takes_5 11 rfl rfl)
theorem dX1_takes_129 : decode cX1_takes 129 = .ok (.getfield 57, 3) := dk_180 0 57 (dk_at dksX1_takes_5 12 rfl rfl)
theorem dX1_takes_132 : decode cX1_takes 132 = .ok (.iload_n 2, 1) := dk_28 (dk_at dksX1_takes_5 15 rfl rfl)
theorem dX1_takes_133 : decode cX1_takes 133 = .ok (.bipush 41, 2) := dk_16 41 (dk_at dksX1_takes_5 16 rfl rfl)
theorem dX1_takes_135 : decode cX1_takes 135 = .ok (.iadd, 1) := dk_96 (dk_at dksX1_takes_5 18 rfl rfl)
theorem dX1_takes_136 : decode cX1_takes 136 = .ok (.aload_n 0, 1) := dk_42 (dk_at dksX1_takes_5 19 rfl rfl)
theorem dX1_takes_137 : decode cX1_takes 137 = .ok (.getfield 39, 3) := dk_180 0 39 (dk_at dksX1_takes_5 20 rfl rfl)
theorem dX1_takes_140 : decode cX1_takes 140 = .ok (.iconst 0, 1) := dk_3 (dk_at dksX1_takes_5 23 rfl rfl)
theorem dX1_takes_141 : decode cX1_takes 141 = .ok (.bipush 12, 2) := dk_16 12 (dk_at dksX1_takes_6 0 rfl rfl)
theorem dX1_takes_143 : decode cX1_takes 143 = .ok (.invokestatic 82, 3) := dk_184 0 82 (dk_at dksX1_takes_6 2 rfl rfl)
theorem dX1_takes_146 : decode cX1_takes 146 = .ok (.aload_n 0, 1) := dk_42 (dk_at dksX1_takes_6 5 rfl rfl)
theorem dX1_takes_147 : decode cX1_takes 147 = .ok (.getfield 57, 3) := dk_180 0 57 (dk_at dksX1_takes_6 6 rfl rfl)
theorem dX1_takes_150 : decode cX1_takes 150 = .ok (.iload_n 2, 1) := dk_28 (dk_at dksX1_takes_6 9 rfl rfl)
theorem dX1_takes_151 : decode cX1_takes 151 = .ok (.bipush 53, 2) := dk_16 53 (dk_at dksX1_takes_6 10 rfl rfl)
theorem dX1_takes_153 : decode cX1_takes 153 = .ok (.iadd, 1) := dk_96 (dk_at dksX1_takes_6 12 rfl rfl)
theorem dX1_takes_154 : decode cX1_takes 154 = .ok (.aload_n 0, 1) := dk_42 (dk_at dksX1_takes_6 13 rfl rfl)
theorem dX1_takes_155 : decode cX1_takes 155 = .ok (.getfield 42, 3) := dk_180 0 42 (dk_at dksX1_takes_6 14 rfl rfl)
theorem dX1_takes_158 : decode cX1_takes 158 = .ok (.iconst 0, 1) := dk_3 (dk_at dksX1_takes_6 17 rfl rfl)
theorem dX1_takes_159 : decode cX1_takes 159 = .ok (.bipush 12, 2) := dk_16 12 (dk_at dksX1_takes_6 18 rfl rfl)
theorem dX1_takes_161 : decode cX1_takes 161 = .ok (.invokestatic 82, 3) := dk_184 0 82 (dk_at dksX1_takes_6 20 rfl rfl)
theorem dX1_takes_164 : decode cX1_takes 164 = .ok (.aload_n 0, 1) := dk_42 (dk_at dksX1_takes_6 23 rfl rfl)
theorem dX1_takes_165 : decode cX1_takes 165 = .ok (.getfield 57, 3) := dk_180 0 57 (dk_at dksX1_takes_7 0 rfl rfl)
theorem dX1_takes_168 : decode cX1_takes 168 = .ok (.iload_n 2, 1) := dk_28 (dk_at dksX1_takes_7 3 rfl rfl)
theorem dX1_takes_169 : decode cX1_takes 169 = .ok (.bipush 65, 2) := dk_16 65 (dk_at dksX1_takes_7 4 rfl rfl)
theorem dX1_takes_171 : decode cX1_takes 171 = .ok (.iadd, 1) := dk_96 (dk_at dksX1_takes_7 6 rfl rfl)
theorem dX1_takes_172 : decode cX1_takes 172 = .ok (.aload_n 0, 1) := dk_42 (dk_at dksX1_takes_7 7 rfl rfl)
theorem dX1_takes_173 : decode cX1_takes 173 = .ok (.getfield 45, 3) := dk_180 0 45 (dk_at dksX1_takes_7 8 rfl rfl)
theorem dX1_takes_176 : decode cX1_takes 176 = .ok (.iconst 0, 1) := dk_3 (dk_at dksX1_takes_7 11 rfl rfl)
theorem dX1_takes_177 : decode cX1_takes 177 = .ok (.bipush 12, 2) := dk_16 12 (dk_at dksX1_takes_7 12 rfl rfl)
theorem dX1_takes_179 : decode cX1_takes 179 = .ok (.invokestatic 82, 3) := dk_184 0 82 (dk_at dksX1_takes_7 14 rfl rfl)
theorem dX1_takes_182 : decode cX1_takes 182 = .ok (.return_, 1) := dk_177 (dk_at dksX1_takes_7 17 rfl rfl)
abbrev cX1_lays : ByteArray := prog_6_method_4_code
def yX1_lays : MethodName := ⟨RX1, "lays", "(I)V"⟩
def dkwX1_lays_7 : List UInt8 := [42, 180, 0, 45, 3, 42, 180, 0, 57, 28, 16, 65, 96, 16, 12, 184, 0, 82, 177]
abbrev dktX1_lays_7 : List UInt8 := dkwX1_lays_7 ++ []
def dkwX1_lays_6 : List UInt8 := [96, 16, 12, 184, 0, 82, 42, 180, 0, 42, 3, 42, 180, 0, 57, 28, 16, 53, 96, 16, 12, 184, 0, 82]
abbrev dktX1_lays_6 : List UInt8 := dkwX1_lays_6 ++ dktX1_lays_7
def dkwX1_lays_5 : List UInt8 := [180, 0, 57, 28, 16, 33, 96, 16, 8, 184, 0, 82, 42, 180, 0, 39, 3, 42, 180, 0, 57, 28, 16, 41]
abbrev dktX1_lays_5 : List UInt8 := dkwX1_lays_5 ++ dktX1_lays_6
def dkwX1_lays_4 : List UInt8 := [180, 0, 33, 3, 42, 180, 0, 57, 28, 16, 25, 96, 16, 8, 184, 0, 82, 42, 180, 0, 36, 3, 42]
abbrev dktX1_lays_4 : List UInt8 := dkwX1_lays_4 ++ dktX1_lays_5
def dkwX1_lays_3 : List UInt8 := [16, 8, 184, 0, 82, 42, 180, 0, 27, 3, 42, 180, 0, 57, 28, 16, 17, 96, 16, 8, 184, 0, 82, 42]
abbrev dktX1_lays_3 : List UInt8 := dkwX1_lays_3 ++ dktX1_lays_4
def dkwX1_lays_2 : List UInt8 := [180, 0, 57, 28, 6, 96, 16, 6, 184, 0, 82, 42, 180, 0, 21, 3, 42, 180, 0, 57, 28, 16, 9, 96]
abbrev dktX1_lays_2 : List UInt8 := dkwX1_lays_2 ++ dktX1_lays_3
def dkwX1_lays_1 : List UInt8 := [180, 0, 95, 79, 42, 180, 0, 57, 28, 5, 96, 42, 180, 0, 98, 79, 42, 180, 0, 18, 3, 42]
abbrev dktX1_lays_1 : List UInt8 := dkwX1_lays_1 ++ dktX1_lays_2
def dkwX1_lays_0 : List UInt8 := [16, 77, 27, 104, 61, 42, 180, 0, 57, 28, 42, 180, 0, 92, 79, 42, 180, 0, 57, 28, 4, 96, 42]
abbrev dktX1_lays_0 : List UInt8 := dkwX1_lays_0 ++ dktX1_lays_1
theorem dksX1_lays_0 : cX1_lays.data.toList.drop 0 = dktX1_lays_0 := by decide +kernel
theorem dksX1_lays_1 : cX1_lays.data.toList.drop 23 = dktX1_lays_1 := dk_seg dksX1_lays_0 23 rfl rfl
theorem dksX1_lays_2 : cX1_lays.data.toList.drop 45 = dktX1_lays_2 := dk_seg dksX1_lays_1 22 rfl rfl
theorem dksX1_lays_3 : cX1_lays.data.toList.drop 69 = dktX1_lays_3 := dk_seg dksX1_lays_2 24 rfl rfl
theorem dksX1_lays_4 : cX1_lays.data.toList.drop 93 = dktX1_lays_4 := dk_seg dksX1_lays_3 24 rfl rfl
theorem dksX1_lays_5 : cX1_lays.data.toList.drop 116 = dktX1_lays_5 := dk_seg dksX1_lays_4 23 rfl rfl
theorem dksX1_lays_6 : cX1_lays.data.toList.drop 140 = dktX1_lays_6 := dk_seg dksX1_lays_5 24 rfl rfl
theorem dksX1_lays_7 : cX1_lays.data.toList.drop 164 = dktX1_lays_7 := dk_seg dksX1_lays_6 24 rfl rfl
theorem dX1_lays_0 : decode cX1_lays 0 = .ok (.bipush 77, 2) := dk_16 77 (dk_at dksX1_lays_0 0 rfl rfl)
theorem dX1_lays_2 : decode cX1_lays 2 = .ok (.iload_n 1, 1) := dk_27 (dk_at dksX1_lays_0 2 rfl rfl)
theorem dX1_lays_3 : decode cX1_lays 3 = .ok (.imul, 1) := dk_104 (dk_at dksX1_lays_0 3 rfl rfl)
theorem dX1_lays_4 : decode cX1_lays 4 = .ok (.istore_n 2, 1) := dk_61 (dk_at dksX1_lays_0 4 rfl rfl)
theorem dX1_lays_5 : decode cX1_lays 5 = .ok (.aload_n 0, 1) := dk_42 (dk_at dksX1_lays_0 5 rfl rfl)
theorem dX1_lays_6 : decode cX1_lays 6 = .ok (.getfield 57, 3) := dk_180 0 57 (dk_at dksX1_lays_0 6 rfl rfl)
theorem dX1_lays_9 : decode cX1_lays 9 = .ok (.iload_n 2, 1) := dk_28 (dk_at dksX1_lays_0 9 rfl rfl)
theorem dX1_lays_10 : decode cX1_lays 10 = .ok (.aload_n 0, 1) := dk_42 (dk_at dksX1_lays_0 10 rfl rfl)
theorem dX1_lays_11 : decode cX1_lays 11 = .ok (.getfield 92, 3) := dk_180 0 92 (dk_at dksX1_lays_0 11 rfl rfl)
theorem dX1_lays_14 : decode cX1_lays 14 = .ok (.iastore, 1) := dk_79 (dk_at dksX1_lays_0 14 rfl rfl)
theorem dX1_lays_15 : decode cX1_lays 15 = .ok (.aload_n 0, 1) := dk_42 (dk_at dksX1_lays_0 15 rfl rfl)
theorem dX1_lays_16 : decode cX1_lays 16 = .ok (.getfield 57, 3) := dk_180 0 57 (dk_at dksX1_lays_0 16 rfl rfl)
theorem dX1_lays_19 : decode cX1_lays 19 = .ok (.iload_n 2, 1) := dk_28 (dk_at dksX1_lays_0 19 rfl rfl)
theorem dX1_lays_20 : decode cX1_lays 20 = .ok (.iconst 1, 1) := dk_4 (dk_at dksX1_lays_0 20 rfl rfl)
theorem dX1_lays_21 : decode cX1_lays 21 = .ok (.iadd, 1) := dk_96 (dk_at dksX1_lays_0 21 rfl rfl)
theorem dX1_lays_22 : decode cX1_lays 22 = .ok (.aload_n 0, 1) := dk_42 (dk_at dksX1_lays_0 22 rfl rfl)
theorem dX1_lays_23 : decode cX1_lays 23 = .ok (.getfield 95, 3) := dk_180 0 95 (dk_at dksX1_lays_1 0 rfl rfl)
theorem dX1_lays_26 : decode cX1_lays 26 = .ok (.iastore, 1) := dk_79 (dk_at dksX1_lays_1 3 rfl rfl)
theorem dX1_lays_27 : decode cX1_lays 27 = .ok (.aload_n 0, 1) := dk_42 (dk_at dksX1_lays_1 4 rfl rfl)
theorem dX1_lays_28 : decode cX1_lays 28 = .ok (.getfield 57, 3) := dk_180 0 57 (dk_at dksX1_lays_1 5 rfl rfl)
theorem dX1_lays_31 : decode cX1_lays 31 = .ok (.iload_n 2, 1) := dk_28 (dk_at dksX1_lays_1 8 rfl rfl)
theorem dX1_lays_32 : decode cX1_lays 32 = .ok (.iconst 2, 1) := dk_5 (dk_at dksX1_lays_1 9 rfl rfl)
theorem dX1_lays_33 : decode cX1_lays 33 = .ok (.iadd, 1) := dk_96 (dk_at dksX1_lays_1 10 rfl rfl)
theorem dX1_lays_34 : decode cX1_lays 34 = .ok (.aload_n 0, 1) := dk_42 (dk_at dksX1_lays_1 11 rfl rfl)
theorem dX1_lays_35 : decode cX1_lays 35 = .ok (.getfield 98, 3) := dk_180 0 98 (dk_at dksX1_lays_1 12 rfl rfl)
theorem dX1_lays_38 : decode cX1_lays 38 = .ok (.iastore, 1) := dk_79 (dk_at dksX1_lays_1 15 rfl rfl)
theorem dX1_lays_39 : decode cX1_lays 39 = .ok (.aload_n 0, 1) := dk_42 (dk_at dksX1_lays_1 16 rfl rfl)
theorem dX1_lays_40 : decode cX1_lays 40 = .ok (.getfield 18, 3) := dk_180 0 18 (dk_at dksX1_lays_1 17 rfl rfl)
theorem dX1_lays_43 : decode cX1_lays 43 = .ok (.iconst 0, 1) := dk_3 (dk_at dksX1_lays_1 20 rfl rfl)
theorem dX1_lays_44 : decode cX1_lays 44 = .ok (.aload_n 0, 1) := dk_42 (dk_at dksX1_lays_1 21 rfl rfl)
theorem dX1_lays_45 : decode cX1_lays 45 = .ok (.getfield 57, 3) := dk_180 0 57 (dk_at dksX1_lays_2 0 rfl rfl)
theorem dX1_lays_48 : decode cX1_lays 48 = .ok (.iload_n 2, 1) := dk_28 (dk_at dksX1_lays_2 3 rfl rfl)
theorem dX1_lays_49 : decode cX1_lays 49 = .ok (.iconst 3, 1) := dk_6 (dk_at dksX1_lays_2 4 rfl rfl)
theorem dX1_lays_50 : decode cX1_lays 50 = .ok (.iadd, 1) := dk_96 (dk_at dksX1_lays_2 5 rfl rfl)
theorem dX1_lays_51 : decode cX1_lays 51 = .ok (.bipush 6, 2) := dk_16 6 (dk_at dksX1_lays_2 6 rfl rfl)
theorem dX1_lays_53 : decode cX1_lays 53 = .ok (.invokestatic 82, 3) := dk_184 0 82 (dk_at dksX1_lays_2 8 rfl rfl)
theorem dX1_lays_56 : decode cX1_lays 56 = .ok (.aload_n 0, 1) := dk_42 (dk_at dksX1_lays_2 11 rfl rfl)
theorem dX1_lays_57 : decode cX1_lays 57 = .ok (.getfield 21, 3) := dk_180 0 21 (dk_at dksX1_lays_2 12 rfl rfl)
theorem dX1_lays_60 : decode cX1_lays 60 = .ok (.iconst 0, 1) := dk_3 (dk_at dksX1_lays_2 15 rfl rfl)
theorem dX1_lays_61 : decode cX1_lays 61 = .ok (.aload_n 0, 1) := dk_42 (dk_at dksX1_lays_2 16 rfl rfl)
theorem dX1_lays_62 : decode cX1_lays 62 = .ok (.getfield 57, 3) := dk_180 0 57 (dk_at dksX1_lays_2 17 rfl rfl)
theorem dX1_lays_65 : decode cX1_lays 65 = .ok (.iload_n 2, 1) := dk_28 (dk_at dksX1_lays_2 20 rfl rfl)
theorem dX1_lays_66 : decode cX1_lays 66 = .ok (.bipush 9, 2) := dk_16 9 (dk_at dksX1_lays_2 21 rfl rfl)
theorem dX1_lays_68 : decode cX1_lays 68 = .ok (.iadd, 1) := dk_96 (dk_at dksX1_lays_2 23 rfl rfl)
theorem dX1_lays_69 : decode cX1_lays 69 = .ok (.bipush 8, 2) := dk_16 8 (dk_at dksX1_lays_3 0 rfl rfl)
theorem dX1_lays_71 : decode cX1_lays 71 = .ok (.invokestatic 82, 3) := dk_184 0 82 (dk_at dksX1_lays_3 2 rfl rfl)
theorem dX1_lays_74 : decode cX1_lays 74 = .ok (.aload_n 0, 1) := dk_42 (dk_at dksX1_lays_3 5 rfl rfl)
theorem dX1_lays_75 : decode cX1_lays 75 = .ok (.getfield 27, 3) := dk_180 0 27 (dk_at dksX1_lays_3 6 rfl rfl)
theorem dX1_lays_78 : decode cX1_lays 78 = .ok (.iconst 0, 1) := dk_3 (dk_at dksX1_lays_3 9 rfl rfl)
theorem dX1_lays_79 : decode cX1_lays 79 = .ok (.aload_n 0, 1) := dk_42 (dk_at dksX1_lays_3 10 rfl rfl)
theorem dX1_lays_80 : decode cX1_lays 80 = .ok (.getfield 57, 3) := dk_180 0 57 (dk_at dksX1_lays_3 11 rfl rfl)
theorem dX1_lays_83 : decode cX1_lays 83 = .ok (.iload_n 2, 1) := dk_28 (dk_at dksX1_lays_3 14 rfl rfl)
theorem dX1_lays_84 : decode cX1_lays 84 = .ok (.bipush 17, 2) := dk_16 17 (dk_at dksX1_lays_3 15 rfl rfl)
theorem dX1_lays_86 : decode cX1_lays 86 = .ok (.iadd, 1) := dk_96 (dk_at dksX1_lays_3 17 rfl rfl)
theorem dX1_lays_87 : decode cX1_lays 87 = .ok (.bipush 8, 2) := dk_16 8 (dk_at dksX1_lays_3 18 rfl rfl)
theorem dX1_lays_89 : decode cX1_lays 89 = .ok (.invokestatic 82, 3) := dk_184 0 82 (dk_at dksX1_lays_3 20 rfl rfl)
theorem dX1_lays_92 : decode cX1_lays 92 = .ok (.aload_n 0, 1) := dk_42 (dk_at dksX1_lays_3 23 rfl rfl)
theorem dX1_lays_93 : decode cX1_lays 93 = .ok (.getfield 33, 3) := dk_180 0 33 (dk_at dksX1_lays_4 0 rfl rfl)
theorem dX1_lays_96 : decode cX1_lays 96 = .ok (.iconst 0, 1) := dk_3 (dk_at dksX1_lays_4 3 rfl rfl)
theorem dX1_lays_97 : decode cX1_lays 97 = .ok (.aload_n 0, 1) := dk_42 (dk_at dksX1_lays_4 4 rfl rfl)
theorem dX1_lays_98 : decode cX1_lays 98 = .ok (.getfield 57, 3) := dk_180 0 57 (dk_at dksX1_lays_4 5 rfl rfl)
theorem dX1_lays_101 : decode cX1_lays 101 = .ok (.iload_n 2, 1) := dk_28 (dk_at dksX1_lays_4 8 rfl rfl)
theorem dX1_lays_102 : decode cX1_lays 102 = .ok (.bipush 25, 2) := dk_16 25 (dk_at dksX1_lays_4 9 rfl rfl)
theorem dX1_lays_104 : decode cX1_lays 104 = .ok (.iadd, 1) := dk_96 (dk_at dksX1_lays_4 11 rfl rfl)
theorem dX1_lays_105 : decode cX1_lays 105 = .ok (.bipush 8, 2) := dk_16 8 (dk_at dksX1_lays_4 12 rfl rfl)
theorem dX1_lays_107 : decode cX1_lays 107 = .ok (.invokestatic 82, 3) := dk_184 0 82 (dk_at dksX1_lays_4 14 rfl rfl)
theorem dX1_lays_110 : decode cX1_lays 110 = .ok (.aload_n 0, 1) := dk_42 (dk_at dksX1_lays_4 17 rfl rfl)
theorem dX1_lays_111 : decode cX1_lays 111 = .ok (.getfield 36, 3) := dk_180 0 36 (dk_at dksX1_lays_4 18 rfl rfl)
theorem dX1_lays_114 : decode cX1_lays 114 = .ok (.iconst 0, 1) := dk_3 (dk_at dksX1_lays_4 21 rfl rfl)
theorem dX1_lays_115 : decode cX1_lays 115 = .ok (.aload_n 0, 1) := dk_42 (dk_at dksX1_lays_4 22 rfl rfl)
theorem dX1_lays_116 : decode cX1_lays 116 = .ok (.getfield 57, 3) := dk_180 0 57 (dk_at dksX1_lays_5 0 rfl rfl)
theorem dX1_lays_119 : decode cX1_lays 119 = .ok (.iload_n 2, 1) := dk_28 (dk_at dksX1_lays_5 3 rfl rfl)
theorem dX1_lays_120 : decode cX1_lays 120 = .ok (.bipush 33, 2) := dk_16 33 (dk_at dksX1_lays_5 4 rfl rfl)
theorem dX1_lays_122 : decode cX1_lays 122 = .ok (.iadd, 1) := dk_96 (dk_at dksX1_lays_5 6 rfl rfl)
theorem dX1_lays_123 : decode cX1_lays 123 = .ok (.bipush 8, 2) := dk_16 8 (dk_at dksX1_lays_5 7 rfl rfl)
theorem dX1_lays_125 : decode cX1_lays 125 = .ok (.invokestatic 82, 3) := dk_184 0 82 (dk_at dksX1_lays_5 9 rfl rfl)
theorem dX1_lays_128 : decode cX1_lays 128 = .ok (.aload_n 0, 1) := dk_42 (dk_at dksX1_lays_5 12 rfl rfl)
theorem dX1_lays_129 : decode cX1_lays 129 = .ok (.getfield 39, 3) := dk_180 0 39 (dk_at dksX1_lays_5 13 rfl rfl)
theorem dX1_lays_132 : decode cX1_lays 132 = .ok (.iconst 0, 1) := dk_3 (dk_at dksX1_lays_5 16 rfl rfl)
theorem dX1_lays_133 : decode cX1_lays 133 = .ok (.aload_n 0, 1) := dk_42 (dk_at dksX1_lays_5 17 rfl rfl)
theorem dX1_lays_134 : decode cX1_lays 134 = .ok (.getfield 57, 3) := dk_180 0 57 (dk_at dksX1_lays_5 18 rfl rfl)
theorem dX1_lays_137 : decode cX1_lays 137 = .ok (.iload_n 2, 1) := dk_28 (dk_at dksX1_lays_5 21 rfl rfl)
theorem dX1_lays_138 : decode cX1_lays 138 = .ok (.bipush 41, 2) := dk_16 41 (dk_at dksX1_lays_5 22 rfl rfl)
theorem dX1_lays_140 : decode cX1_lays 140 = .ok (.iadd, 1) := dk_96 (dk_at dksX1_lays_6 0 rfl rfl)
theorem dX1_lays_141 : decode cX1_lays 141 = .ok (.bipush 12, 2) := dk_16 12 (dk_at dksX1_lays_6 1 rfl rfl)
theorem dX1_lays_143 : decode cX1_lays 143 = .ok (.invokestatic 82, 3) := dk_184 0 82 (dk_at dksX1_lays_6 3 rfl rfl)
theorem dX1_lays_146 : decode cX1_lays 146 = .ok (.aload_n 0, 1) := dk_42 (dk_at dksX1_lays_6 6 rfl rfl)
theorem dX1_lays_147 : decode cX1_lays 147 = .ok (.getfield 42, 3) := dk_180 0 42 (dk_at dksX1_lays_6 7 rfl rfl)
theorem dX1_lays_150 : decode cX1_lays 150 = .ok (.iconst 0, 1) := dk_3 (dk_at dksX1_lays_6 10 rfl rfl)
theorem dX1_lays_151 : decode cX1_lays 151 = .ok (.aload_n 0, 1) := dk_42 (dk_at dksX1_lays_6 11 rfl rfl)
theorem dX1_lays_152 : decode cX1_lays 152 = .ok (.getfield 57, 3) := dk_180 0 57 (dk_at dksX1_lays_6 12 rfl rfl)
theorem dX1_lays_155 : decode cX1_lays 155 = .ok (.iload_n 2, 1) := dk_28 (dk_at dksX1_lays_6 15 rfl rfl)
theorem dX1_lays_156 : decode cX1_lays 156 = .ok (.bipush 53, 2) := dk_16 53 (dk_at dksX1_lays_6 16 rfl rfl)
theorem dX1_lays_158 : decode cX1_lays 158 = .ok (.iadd, 1) := dk_96 (dk_at dksX1_lays_6 18 rfl rfl)
theorem dX1_lays_159 : decode cX1_lays 159 = .ok (.bipush 12, 2) := dk_16 12 (dk_at dksX1_lays_6 19 rfl rfl)
theorem dX1_lays_161 : decode cX1_lays 161 = .ok (.invokestatic 82, 3) := dk_184 0 82 (dk_at dksX1_lays_6 21 rfl rfl)
theorem dX1_lays_164 : decode cX1_lays 164 = .ok (.aload_n 0, 1) := dk_42 (dk_at dksX1_lays_7 0 rfl rfl)
theorem dX1_lays_165 : decode cX1_lays 165 = .ok (.getfield 45, 3) := dk_180 0 45 (dk_at dksX1_lays_7 1 rfl rfl)
theorem dX1_lays_168 : decode cX1_lays 168 = .ok (.iconst 0, 1) := dk_3 (dk_at dksX1_lays_7 4 rfl rfl)
theorem dX1_lays_169 : decode cX1_lays 169 = .ok (.aload_n 0, 1) := dk_42 (dk_at dksX1_lays_7 5 rfl rfl)
theorem dX1_lays_170 : decode cX1_lays 170 = .ok (.getfield 57, 3) := dk_180 0 57 (dk_at dksX1_lays_7 6 rfl rfl)
theorem dX1_lays_173 : decode cX1_lays 173 = .ok (.iload_n 2, 1) := dk_28 (dk_at dksX1_lays_7 9 rfl rfl)
theorem dX1_lays_174 : decode cX1_lays 174 = .ok (.bipush 65, 2) := dk_16 65 (dk_at dksX1_lays_7 10 rfl rfl)
theorem dX1_lays_176 : decode cX1_lays 176 = .ok (.iadd, 1) := dk_96 (dk_at dksX1_lays_7 12 rfl rfl)
theorem dX1_lays_177 : decode cX1_lays 177 = .ok (.bipush 12, 2) := dk_16 12 (dk_at dksX1_lays_7 13 rfl rfl)
theorem dX1_lays_179 : decode cX1_lays 179 = .ok (.invokestatic 82, 3) := dk_184 0 82 (dk_at dksX1_lays_7 15 rfl rfl)
theorem dX1_lays_182 : decode cX1_lays 182 = .ok (.return_, 1) := dk_177 (dk_at dksX1_lays_7 18 rfl rfl)
abbrev cX1_goesOn : ByteArray := prog_6_method_27_code
def yX1_goesOn : MethodName := ⟨RX1, "goesOn", "()I"⟩
def dkwX1_goesOn_0 : List UInt8 := [42, 42, 42, 180, 0, 92, 4, 96, 182, 0, 170, 182, 0, 173, 172]
abbrev dktX1_goesOn_0 : List UInt8 := dkwX1_goesOn_0 ++ []
theorem dksX1_goesOn_0 : cX1_goesOn.data.toList.drop 0 = dktX1_goesOn_0 := by decide +kernel
theorem dX1_goesOn_0 : decode cX1_goesOn 0 = .ok (.aload_n 0, 1) := dk_42 (dk_at dksX1_goesOn_0 0 rfl rfl)
theorem dX1_goesOn_1 : decode cX1_goesOn 1 = .ok (.aload_n 0, 1) := dk_42 (dk_at dksX1_goesOn_0 1 rfl rfl)
theorem dX1_goesOn_2 : decode cX1_goesOn 2 = .ok (.aload_n 0, 1) := dk_42 (dk_at dksX1_goesOn_0 2 rfl rfl)
theorem dX1_goesOn_3 : decode cX1_goesOn 3 = .ok (.getfield 92, 3) := dk_180 0 92 (dk_at dksX1_goesOn_0 3 rfl rfl)
theorem dX1_goesOn_6 : decode cX1_goesOn 6 = .ok (.iconst 1, 1) := dk_4 (dk_at dksX1_goesOn_0 6 rfl rfl)
theorem dX1_goesOn_7 : decode cX1_goesOn 7 = .ok (.iadd, 1) := dk_96 (dk_at dksX1_goesOn_0 7 rfl rfl)
theorem dX1_goesOn_8 : decode cX1_goesOn 8 = .ok (.invokevirtual 170, 3) := dk_182 0 170 (dk_at dksX1_goesOn_0 8 rfl rfl)
theorem dX1_goesOn_11 : decode cX1_goesOn 11 = .ok (.invokevirtual 173, 3) := dk_182 0 173 (dk_at dksX1_goesOn_0 11 rfl rfl)
theorem dX1_goesOn_14 : decode cX1_goesOn 14 = .ok (.ireturn, 1) := dk_172 (dk_at dksX1_goesOn_0 14 rfl rfl)
abbrev cX1_goes : ByteArray := prog_6_method_26_code
def yX1_goes : MethodName := ⟨RX1, "goes", "(I)I"⟩
def dkwX1_goes_3 : List UInt8 := [180, 0, 158, 172]
abbrev dktX1_goes_3 : List UInt8 := dkwX1_goes_3 ++ []
def dkwX1_goes_2 : List UInt8 := [184, 0, 140, 79, 132, 2, 1, 167, 255, 213, 42, 27, 182, 0, 161, 42, 182, 0, 164, 42, 182, 0, 167, 42]
abbrev dktX1_goes_2 : List UInt8 := dkwX1_goes_2 ++ dktX1_goes_3
def dkwX1_goes_1 : List UInt8 := [28, 46, 154, 0, 26, 42, 180, 0, 27, 28, 3, 42, 180, 0, 27, 28, 46, 42, 180, 0, 30, 28, 46, 100]
abbrev dktX1_goes_1 : List UInt8 := dkwX1_goes_1 ++ dktX1_goes_2
def dkwX1_goes_0 : List UInt8 := [42, 89, 180, 0, 92, 4, 96, 181, 0, 92, 3, 61, 28, 42, 180, 0, 70, 162, 0, 41, 42, 180, 0, 33]
abbrev dktX1_goes_0 : List UInt8 := dkwX1_goes_0 ++ dktX1_goes_1
theorem dksX1_goes_0 : cX1_goes.data.toList.drop 0 = dktX1_goes_0 := by decide +kernel
theorem dksX1_goes_1 : cX1_goes.data.toList.drop 24 = dktX1_goes_1 := dk_seg dksX1_goes_0 24 rfl rfl
theorem dksX1_goes_2 : cX1_goes.data.toList.drop 48 = dktX1_goes_2 := dk_seg dksX1_goes_1 24 rfl rfl
theorem dksX1_goes_3 : cX1_goes.data.toList.drop 72 = dktX1_goes_3 := dk_seg dksX1_goes_2 24 rfl rfl
theorem dX1_goes_0 : decode cX1_goes 0 = .ok (.aload_n 0, 1) := dk_42 (dk_at dksX1_goes_0 0 rfl rfl)
theorem dX1_goes_1 : decode cX1_goes 1 = .ok (.dup, 1) := dk_89 (dk_at dksX1_goes_0 1 rfl rfl)
theorem dX1_goes_2 : decode cX1_goes 2 = .ok (.getfield 92, 3) := dk_180 0 92 (dk_at dksX1_goes_0 2 rfl rfl)
theorem dX1_goes_5 : decode cX1_goes 5 = .ok (.iconst 1, 1) := dk_4 (dk_at dksX1_goes_0 5 rfl rfl)
theorem dX1_goes_6 : decode cX1_goes 6 = .ok (.iadd, 1) := dk_96 (dk_at dksX1_goes_0 6 rfl rfl)
theorem dX1_goes_7 : decode cX1_goes 7 = .ok (.putfield 92, 3) := dk_181 0 92 (dk_at dksX1_goes_0 7 rfl rfl)
theorem dX1_goes_10 : decode cX1_goes 10 = .ok (.iconst 0, 1) := dk_3 (dk_at dksX1_goes_0 10 rfl rfl)
theorem dX1_goes_11 : decode cX1_goes 11 = .ok (.istore_n 2, 1) := dk_61 (dk_at dksX1_goes_0 11 rfl rfl)
theorem dX1_goes_12 : decode cX1_goes 12 = .ok (.iload_n 2, 1) := dk_28 (dk_at dksX1_goes_0 12 rfl rfl)
theorem dX1_goes_13 : decode cX1_goes 13 = .ok (.aload_n 0, 1) := dk_42 (dk_at dksX1_goes_0 13 rfl rfl)
theorem dX1_goes_14 : decode cX1_goes 14 = .ok (.getfield 70, 3) := dk_180 0 70 (dk_at dksX1_goes_0 14 rfl rfl)
theorem dX1_goes_17 : decode cX1_goes 17 = .ok (.if_icmp .ge 41, 3) := dk_162 0 41 (dk_at dksX1_goes_0 17 rfl rfl)
theorem dX1_goes_20 : decode cX1_goes 20 = .ok (.aload_n 0, 1) := dk_42 (dk_at dksX1_goes_0 20 rfl rfl)
theorem dX1_goes_21 : decode cX1_goes 21 = .ok (.getfield 33, 3) := dk_180 0 33 (dk_at dksX1_goes_0 21 rfl rfl)
theorem dX1_goes_24 : decode cX1_goes 24 = .ok (.iload_n 2, 1) := dk_28 (dk_at dksX1_goes_1 0 rfl rfl)
theorem dX1_goes_25 : decode cX1_goes 25 = .ok (.iaload, 1) := dk_46 (dk_at dksX1_goes_1 1 rfl rfl)
theorem dX1_goes_26 : decode cX1_goes 26 = .ok (.ifCond .ne 26, 3) := dk_154 0 26 (dk_at dksX1_goes_1 2 rfl rfl)
theorem dX1_goes_29 : decode cX1_goes 29 = .ok (.aload_n 0, 1) := dk_42 (dk_at dksX1_goes_1 5 rfl rfl)
theorem dX1_goes_30 : decode cX1_goes 30 = .ok (.getfield 27, 3) := dk_180 0 27 (dk_at dksX1_goes_1 6 rfl rfl)
theorem dX1_goes_33 : decode cX1_goes 33 = .ok (.iload_n 2, 1) := dk_28 (dk_at dksX1_goes_1 9 rfl rfl)
theorem dX1_goes_34 : decode cX1_goes 34 = .ok (.iconst 0, 1) := dk_3 (dk_at dksX1_goes_1 10 rfl rfl)
theorem dX1_goes_35 : decode cX1_goes 35 = .ok (.aload_n 0, 1) := dk_42 (dk_at dksX1_goes_1 11 rfl rfl)
theorem dX1_goes_36 : decode cX1_goes 36 = .ok (.getfield 27, 3) := dk_180 0 27 (dk_at dksX1_goes_1 12 rfl rfl)
theorem dX1_goes_39 : decode cX1_goes 39 = .ok (.iload_n 2, 1) := dk_28 (dk_at dksX1_goes_1 15 rfl rfl)
theorem dX1_goes_40 : decode cX1_goes 40 = .ok (.iaload, 1) := dk_46 (dk_at dksX1_goes_1 16 rfl rfl)
theorem dX1_goes_41 : decode cX1_goes 41 = .ok (.aload_n 0, 1) := dk_42 (dk_at dksX1_goes_1 17 rfl rfl)
theorem dX1_goes_42 : decode cX1_goes 42 = .ok (.getfield 30, 3) := dk_180 0 30 (dk_at dksX1_goes_1 18 rfl rfl)
theorem dX1_goes_45 : decode cX1_goes 45 = .ok (.iload_n 2, 1) := dk_28 (dk_at dksX1_goes_1 21 rfl rfl)
theorem dX1_goes_46 : decode cX1_goes 46 = .ok (.iaload, 1) := dk_46 (dk_at dksX1_goes_1 22 rfl rfl)
theorem dX1_goes_47 : decode cX1_goes 47 = .ok (.isub, 1) := dk_100 (dk_at dksX1_goes_1 23 rfl rfl)
theorem dX1_goes_48 : decode cX1_goes 48 = .ok (.invokestatic 140, 3) := dk_184 0 140 (dk_at dksX1_goes_2 0 rfl rfl)
theorem dX1_goes_51 : decode cX1_goes 51 = .ok (.iastore, 1) := dk_79 (dk_at dksX1_goes_2 3 rfl rfl)
theorem dX1_goes_52 : decode cX1_goes 52 = .ok (.iinc 2 1, 3) := dk_132 2 1 (dk_at dksX1_goes_2 4 rfl rfl)
theorem dX1_goes_55 : decode cX1_goes 55 = .ok (.goto (-43), 3) := dk_167 255 213 (dk_at dksX1_goes_2 7 rfl rfl)
theorem dX1_goes_58 : decode cX1_goes 58 = .ok (.aload_n 0, 1) := dk_42 (dk_at dksX1_goes_2 10 rfl rfl)
theorem dX1_goes_59 : decode cX1_goes 59 = .ok (.iload_n 1, 1) := dk_27 (dk_at dksX1_goes_2 11 rfl rfl)
theorem dX1_goes_60 : decode cX1_goes 60 = .ok (.invokevirtual 161, 3) := dk_182 0 161 (dk_at dksX1_goes_2 12 rfl rfl)
theorem dX1_goes_63 : decode cX1_goes 63 = .ok (.aload_n 0, 1) := dk_42 (dk_at dksX1_goes_2 15 rfl rfl)
theorem dX1_goes_64 : decode cX1_goes 64 = .ok (.invokevirtual 164, 3) := dk_182 0 164 (dk_at dksX1_goes_2 16 rfl rfl)
theorem dX1_goes_67 : decode cX1_goes 67 = .ok (.aload_n 0, 1) := dk_42 (dk_at dksX1_goes_2 19 rfl rfl)
theorem dX1_goes_68 : decode cX1_goes 68 = .ok (.invokevirtual 167, 3) := dk_182 0 167 (dk_at dksX1_goes_2 20 rfl rfl)
theorem dX1_goes_71 : decode cX1_goes 71 = .ok (.aload_n 0, 1) := dk_42 (dk_at dksX1_goes_2 23 rfl rfl)
theorem dX1_goes_72 : decode cX1_goes 72 = .ok (.getfield 158, 3) := dk_180 0 158 (dk_at dksX1_goes_3 0 rfl rfl)
theorem dX1_goes_75 : decode cX1_goes 75 = .ok (.ireturn, 1) := dk_172 (dk_at dksX1_goes_3 3 rfl rfl)
abbrev cX1_breaks : ByteArray := prog_6_method_23_code
def yX1_breaks : MethodName := ⟨RX1, "breaks", "(I)V"⟩
def dkwX1_breaks_2 : List UInt8 := [182, 0, 146, 87, 177]
abbrev dktX1_breaks_2 : List UInt8 := dkwX1_breaks_2 ++ []
def dkwX1_breaks_1 : List UInt8 := [29, 120, 167, 0, 4, 3, 128, 61, 132, 3, 1, 167, 255, 225, 42, 28, 184, 0, 117, 181, 0, 143, 42, 28]
abbrev dktX1_breaks_1 : List UInt8 := dkwX1_breaks_1 ++ dktX1_breaks_2
def dkwX1_breaks_0 : List UInt8 := [3, 61, 3, 62, 29, 42, 180, 0, 98, 162, 0, 29, 28, 42, 180, 0, 45, 29, 46, 27, 162, 0, 9, 4]
abbrev dktX1_breaks_0 : List UInt8 := dkwX1_breaks_0 ++ dktX1_breaks_1
theorem dksX1_breaks_0 : cX1_breaks.data.toList.drop 0 = dktX1_breaks_0 := by decide +kernel
theorem dksX1_breaks_1 : cX1_breaks.data.toList.drop 24 = dktX1_breaks_1 := dk_seg dksX1_breaks_0 24 rfl rfl
theorem dksX1_breaks_2 : cX1_breaks.data.toList.drop 48 = dktX1_breaks_2 := dk_seg dksX1_breaks_1 24 rfl rfl
theorem dX1_breaks_0 : decode cX1_breaks 0 = .ok (.iconst 0, 1) := dk_3 (dk_at dksX1_breaks_0 0 rfl rfl)
theorem dX1_breaks_1 : decode cX1_breaks 1 = .ok (.istore_n 2, 1) := dk_61 (dk_at dksX1_breaks_0 1 rfl rfl)
theorem dX1_breaks_2 : decode cX1_breaks 2 = .ok (.iconst 0, 1) := dk_3 (dk_at dksX1_breaks_0 2 rfl rfl)
theorem dX1_breaks_3 : decode cX1_breaks 3 = .ok (.istore_n 3, 1) := dk_62 (dk_at dksX1_breaks_0 3 rfl rfl)
theorem dX1_breaks_4 : decode cX1_breaks 4 = .ok (.iload_n 3, 1) := dk_29 (dk_at dksX1_breaks_0 4 rfl rfl)
theorem dX1_breaks_5 : decode cX1_breaks 5 = .ok (.aload_n 0, 1) := dk_42 (dk_at dksX1_breaks_0 5 rfl rfl)
theorem dX1_breaks_6 : decode cX1_breaks 6 = .ok (.getfield 98, 3) := dk_180 0 98 (dk_at dksX1_breaks_0 6 rfl rfl)
theorem dX1_breaks_9 : decode cX1_breaks 9 = .ok (.if_icmp .ge 29, 3) := dk_162 0 29 (dk_at dksX1_breaks_0 9 rfl rfl)
theorem dX1_breaks_12 : decode cX1_breaks 12 = .ok (.iload_n 2, 1) := dk_28 (dk_at dksX1_breaks_0 12 rfl rfl)
theorem dX1_breaks_13 : decode cX1_breaks 13 = .ok (.aload_n 0, 1) := dk_42 (dk_at dksX1_breaks_0 13 rfl rfl)
theorem dX1_breaks_14 : decode cX1_breaks 14 = .ok (.getfield 45, 3) := dk_180 0 45 (dk_at dksX1_breaks_0 14 rfl rfl)
theorem dX1_breaks_17 : decode cX1_breaks 17 = .ok (.iload_n 3, 1) := dk_29 (dk_at dksX1_breaks_0 17 rfl rfl)
theorem dX1_breaks_18 : decode cX1_breaks 18 = .ok (.iaload, 1) := dk_46 (dk_at dksX1_breaks_0 18 rfl rfl)
theorem dX1_breaks_19 : decode cX1_breaks 19 = .ok (.iload_n 1, 1) := dk_27 (dk_at dksX1_breaks_0 19 rfl rfl)
theorem dX1_breaks_20 : decode cX1_breaks 20 = .ok (.if_icmp .ge 9, 3) := dk_162 0 9 (dk_at dksX1_breaks_0 20 rfl rfl)
theorem dX1_breaks_23 : decode cX1_breaks 23 = .ok (.iconst 1, 1) := dk_4 (dk_at dksX1_breaks_0 23 rfl rfl)
theorem dX1_breaks_24 : decode cX1_breaks 24 = .ok (.iload_n 3, 1) := dk_29 (dk_at dksX1_breaks_1 0 rfl rfl)
theorem dX1_breaks_25 : decode cX1_breaks 25 = .ok (.ishl, 1) := dk_120 (dk_at dksX1_breaks_1 1 rfl rfl)
theorem dX1_breaks_26 : decode cX1_breaks 26 = .ok (.goto 4, 3) := dk_167 0 4 (dk_at dksX1_breaks_1 2 rfl rfl)
theorem dX1_breaks_29 : decode cX1_breaks 29 = .ok (.iconst 0, 1) := dk_3 (dk_at dksX1_breaks_1 5 rfl rfl)
theorem dX1_breaks_30 : decode cX1_breaks 30 = .ok (.ior, 1) := dk_128 (dk_at dksX1_breaks_1 6 rfl rfl)
theorem dX1_breaks_31 : decode cX1_breaks 31 = .ok (.istore_n 2, 1) := dk_61 (dk_at dksX1_breaks_1 7 rfl rfl)
theorem dX1_breaks_32 : decode cX1_breaks 32 = .ok (.iinc 3 1, 3) := dk_132 3 1 (dk_at dksX1_breaks_1 8 rfl rfl)
theorem dX1_breaks_35 : decode cX1_breaks 35 = .ok (.goto (-31), 3) := dk_167 255 225 (dk_at dksX1_breaks_1 11 rfl rfl)
theorem dX1_breaks_38 : decode cX1_breaks 38 = .ok (.aload_n 0, 1) := dk_42 (dk_at dksX1_breaks_1 14 rfl rfl)
theorem dX1_breaks_39 : decode cX1_breaks 39 = .ok (.iload_n 2, 1) := dk_28 (dk_at dksX1_breaks_1 15 rfl rfl)
theorem dX1_breaks_40 : decode cX1_breaks 40 = .ok (.invokestatic 117, 3) := dk_184 0 117 (dk_at dksX1_breaks_1 16 rfl rfl)
theorem dX1_breaks_43 : decode cX1_breaks 43 = .ok (.putfield 143, 3) := dk_181 0 143 (dk_at dksX1_breaks_1 19 rfl rfl)
theorem dX1_breaks_46 : decode cX1_breaks 46 = .ok (.aload_n 0, 1) := dk_42 (dk_at dksX1_breaks_1 22 rfl rfl)
theorem dX1_breaks_47 : decode cX1_breaks 47 = .ok (.iload_n 2, 1) := dk_28 (dk_at dksX1_breaks_1 23 rfl rfl)
theorem dX1_breaks_48 : decode cX1_breaks 48 = .ok (.invokevirtual 146, 3) := dk_182 0 146 (dk_at dksX1_breaks_2 0 rfl rfl)
theorem dX1_breaks_51 : decode cX1_breaks 51 = .ok (.pop, 1) := dk_87 (dk_at dksX1_breaks_2 3 rfl rfl)
theorem dX1_breaks_52 : decode cX1_breaks 52 = .ok (.return_, 1) := dk_177 (dk_at dksX1_breaks_2 4 rfl rfl)
abbrev cX1_loses : ByteArray := prog_6_method_20_code
def yX1_loses : MethodName := ⟨RX1, "loses", "(I)I"⟩
def dkwX1_loses_4 : List UInt8 := [172]
abbrev dktX1_loses_4 : List UInt8 := dkwX1_loses_4 ++ []
def dkwX1_loses_3 : List UInt8 := [28, 42, 180, 0, 45, 21, 4, 46, 79, 132, 2, 1, 132, 4, 1, 167, 255, 180, 42, 28, 181, 0, 98, 29]
abbrev dktX1_loses_3 : List UInt8 := dkwX1_loses_3 ++ dktX1_loses_4
def dkwX1_loses_2 : List UInt8 := [180, 0, 39, 21, 4, 46, 79, 42, 180, 0, 42, 28, 42, 180, 0, 42, 21, 4, 46, 79, 42, 180, 0, 45]
abbrev dktX1_loses_2 : List UInt8 := dkwX1_loses_2 ++ dktX1_loses_3
def dkwX1_loses_1 : List UInt8 := [153, 0, 16, 29, 42, 180, 0, 45, 21, 4, 46, 96, 62, 167, 0, 45, 42, 180, 0, 39, 28, 42]
abbrev dktX1_loses_1 : List UInt8 := dkwX1_loses_1 ++ dktX1_loses_2
def dkwX1_loses_0 : List UInt8 := [3, 61, 3, 62, 3, 54, 4, 21, 4, 42, 180, 0, 98, 162, 0, 73, 27, 21, 4, 184, 0, 101]
abbrev dktX1_loses_0 : List UInt8 := dkwX1_loses_0 ++ dktX1_loses_1
theorem dksX1_loses_0 : cX1_loses.data.toList.drop 0 = dktX1_loses_0 := by decide +kernel
theorem dksX1_loses_1 : cX1_loses.data.toList.drop 22 = dktX1_loses_1 := dk_seg dksX1_loses_0 22 rfl rfl
theorem dksX1_loses_2 : cX1_loses.data.toList.drop 44 = dktX1_loses_2 := dk_seg dksX1_loses_1 22 rfl rfl
theorem dksX1_loses_3 : cX1_loses.data.toList.drop 68 = dktX1_loses_3 := dk_seg dksX1_loses_2 24 rfl rfl
theorem dksX1_loses_4 : cX1_loses.data.toList.drop 92 = dktX1_loses_4 := dk_seg dksX1_loses_3 24 rfl rfl
theorem dX1_loses_0 : decode cX1_loses 0 = .ok (.iconst 0, 1) := dk_3 (dk_at dksX1_loses_0 0 rfl rfl)
theorem dX1_loses_1 : decode cX1_loses 1 = .ok (.istore_n 2, 1) := dk_61 (dk_at dksX1_loses_0 1 rfl rfl)
theorem dX1_loses_2 : decode cX1_loses 2 = .ok (.iconst 0, 1) := dk_3 (dk_at dksX1_loses_0 2 rfl rfl)
theorem dX1_loses_3 : decode cX1_loses 3 = .ok (.istore_n 3, 1) := dk_62 (dk_at dksX1_loses_0 3 rfl rfl)
theorem dX1_loses_4 : decode cX1_loses 4 = .ok (.iconst 0, 1) := dk_3 (dk_at dksX1_loses_0 4 rfl rfl)
theorem dX1_loses_5 : decode cX1_loses 5 = .ok (.istore 4, 2) := dk_54 4 (dk_at dksX1_loses_0 5 rfl rfl)
theorem dX1_loses_7 : decode cX1_loses 7 = .ok (.iload 4, 2) := dk_21 4 (dk_at dksX1_loses_0 7 rfl rfl)
theorem dX1_loses_9 : decode cX1_loses 9 = .ok (.aload_n 0, 1) := dk_42 (dk_at dksX1_loses_0 9 rfl rfl)
theorem dX1_loses_10 : decode cX1_loses 10 = .ok (.getfield 98, 3) := dk_180 0 98 (dk_at dksX1_loses_0 10 rfl rfl)
theorem dX1_loses_13 : decode cX1_loses 13 = .ok (.if_icmp .ge 73, 3) := dk_162 0 73 (dk_at dksX1_loses_0 13 rfl rfl)
theorem dX1_loses_16 : decode cX1_loses 16 = .ok (.iload_n 1, 1) := dk_27 (dk_at dksX1_loses_0 16 rfl rfl)
theorem dX1_loses_17 : decode cX1_loses 17 = .ok (.iload 4, 2) := dk_21 4 (dk_at dksX1_loses_0 17 rfl rfl)
theorem dX1_loses_19 : decode cX1_loses 19 = .ok (.invokestatic 101, 3) := dk_184 0 101 (dk_at dksX1_loses_0 19 rfl rfl)
theorem dX1_loses_22 : decode cX1_loses 22 = .ok (.ifCond .eq 16, 3) := dk_153 0 16 (dk_at dksX1_loses_1 0 rfl rfl)
theorem dX1_loses_25 : decode cX1_loses 25 = .ok (.iload_n 3, 1) := dk_29 (dk_at dksX1_loses_1 3 rfl rfl)
theorem dX1_loses_26 : decode cX1_loses 26 = .ok (.aload_n 0, 1) := dk_42 (dk_at dksX1_loses_1 4 rfl rfl)
theorem dX1_loses_27 : decode cX1_loses 27 = .ok (.getfield 45, 3) := dk_180 0 45 (dk_at dksX1_loses_1 5 rfl rfl)
theorem dX1_loses_30 : decode cX1_loses 30 = .ok (.iload 4, 2) := dk_21 4 (dk_at dksX1_loses_1 8 rfl rfl)
theorem dX1_loses_32 : decode cX1_loses 32 = .ok (.iaload, 1) := dk_46 (dk_at dksX1_loses_1 10 rfl rfl)
theorem dX1_loses_33 : decode cX1_loses 33 = .ok (.iadd, 1) := dk_96 (dk_at dksX1_loses_1 11 rfl rfl)
theorem dX1_loses_34 : decode cX1_loses 34 = .ok (.istore_n 3, 1) := dk_62 (dk_at dksX1_loses_1 12 rfl rfl)
theorem dX1_loses_35 : decode cX1_loses 35 = .ok (.goto 45, 3) := dk_167 0 45 (dk_at dksX1_loses_1 13 rfl rfl)
theorem dX1_loses_38 : decode cX1_loses 38 = .ok (.aload_n 0, 1) := dk_42 (dk_at dksX1_loses_1 16 rfl rfl)
theorem dX1_loses_39 : decode cX1_loses 39 = .ok (.getfield 39, 3) := dk_180 0 39 (dk_at dksX1_loses_1 17 rfl rfl)
theorem dX1_loses_42 : decode cX1_loses 42 = .ok (.iload_n 2, 1) := dk_28 (dk_at dksX1_loses_1 20 rfl rfl)
theorem dX1_loses_43 : decode cX1_loses 43 = .ok (.aload_n 0, 1) := dk_42 (dk_at dksX1_loses_1 21 rfl rfl)
theorem dX1_loses_44 : decode cX1_loses 44 = .ok (.getfield 39, 3) := dk_180 0 39 (dk_at dksX1_loses_2 0 rfl rfl)
theorem dX1_loses_47 : decode cX1_loses 47 = .ok (.iload 4, 2) := dk_21 4 (dk_at dksX1_loses_2 3 rfl rfl)
theorem dX1_loses_49 : decode cX1_loses 49 = .ok (.iaload, 1) := dk_46 (dk_at dksX1_loses_2 5 rfl rfl)
theorem dX1_loses_50 : decode cX1_loses 50 = .ok (.iastore, 1) := dk_79 (dk_at dksX1_loses_2 6 rfl rfl)
theorem dX1_loses_51 : decode cX1_loses 51 = .ok (.aload_n 0, 1) := dk_42 (dk_at dksX1_loses_2 7 rfl rfl)
theorem dX1_loses_52 : decode cX1_loses 52 = .ok (.getfield 42, 3) := dk_180 0 42 (dk_at dksX1_loses_2 8 rfl rfl)
theorem dX1_loses_55 : decode cX1_loses 55 = .ok (.iload_n 2, 1) := dk_28 (dk_at dksX1_loses_2 11 rfl rfl)
theorem dX1_loses_56 : decode cX1_loses 56 = .ok (.aload_n 0, 1) := dk_42 (dk_at dksX1_loses_2 12 rfl rfl)
theorem dX1_loses_57 : decode cX1_loses 57 = .ok (.getfield 42, 3) := dk_180 0 42 (dk_at dksX1_loses_2 13 rfl rfl)
theorem dX1_loses_60 : decode cX1_loses 60 = .ok (.iload 4, 2) := dk_21 4 (dk_at dksX1_loses_2 16 rfl rfl)
theorem dX1_loses_62 : decode cX1_loses 62 = .ok (.iaload, 1) := dk_46 (dk_at dksX1_loses_2 18 rfl rfl)
theorem dX1_loses_63 : decode cX1_loses 63 = .ok (.iastore, 1) := dk_79 (dk_at dksX1_loses_2 19 rfl rfl)
theorem dX1_loses_64 : decode cX1_loses 64 = .ok (.aload_n 0, 1) := dk_42 (dk_at dksX1_loses_2 20 rfl rfl)
theorem dX1_loses_65 : decode cX1_loses 65 = .ok (.getfield 45, 3) := dk_180 0 45 (dk_at dksX1_loses_2 21 rfl rfl)
theorem dX1_loses_68 : decode cX1_loses 68 = .ok (.iload_n 2, 1) := dk_28 (dk_at dksX1_loses_3 0 rfl rfl)
theorem dX1_loses_69 : decode cX1_loses 69 = .ok (.aload_n 0, 1) := dk_42 (dk_at dksX1_loses_3 1 rfl rfl)
theorem dX1_loses_70 : decode cX1_loses 70 = .ok (.getfield 45, 3) := dk_180 0 45 (dk_at dksX1_loses_3 2 rfl rfl)
theorem dX1_loses_73 : decode cX1_loses 73 = .ok (.iload 4, 2) := dk_21 4 (dk_at dksX1_loses_3 5 rfl rfl)
theorem dX1_loses_75 : decode cX1_loses 75 = .ok (.iaload, 1) := dk_46 (dk_at dksX1_loses_3 7 rfl rfl)
theorem dX1_loses_76 : decode cX1_loses 76 = .ok (.iastore, 1) := dk_79 (dk_at dksX1_loses_3 8 rfl rfl)
theorem dX1_loses_77 : decode cX1_loses 77 = .ok (.iinc 2 1, 3) := dk_132 2 1 (dk_at dksX1_loses_3 9 rfl rfl)
theorem dX1_loses_80 : decode cX1_loses 80 = .ok (.iinc 4 1, 3) := dk_132 4 1 (dk_at dksX1_loses_3 12 rfl rfl)
theorem dX1_loses_83 : decode cX1_loses 83 = .ok (.goto (-76), 3) := dk_167 255 180 (dk_at dksX1_loses_3 15 rfl rfl)
theorem dX1_loses_86 : decode cX1_loses 86 = .ok (.aload_n 0, 1) := dk_42 (dk_at dksX1_loses_3 18 rfl rfl)
theorem dX1_loses_87 : decode cX1_loses 87 = .ok (.iload_n 2, 1) := dk_28 (dk_at dksX1_loses_3 19 rfl rfl)
theorem dX1_loses_88 : decode cX1_loses 88 = .ok (.putfield 98, 3) := dk_181 0 98 (dk_at dksX1_loses_3 20 rfl rfl)
theorem dX1_loses_91 : decode cX1_loses 91 = .ok (.iload_n 3, 1) := dk_29 (dk_at dksX1_loses_3 23 rfl rfl)
theorem dX1_loses_92 : decode cX1_loses 92 = .ok (.ireturn, 1) := dk_172 (dk_at dksX1_loses_4 0 rfl rfl)
abbrev cX1_lands : ByteArray := prog_6_method_24_code
def yX1_lands : MethodName := ⟨RX1, "lands", "()V"⟩
def dkwX1_lands_5 : List UInt8 := [167, 255, 145, 177]
abbrev dktX1_lands_5 : List UInt8 := dkwX1_lands_5 ++ []
def dkwX1_lands_4 : List UInt8 := [167, 255, 230, 42, 89, 180, 0, 95, 42, 42, 28, 182, 0, 152, 182, 0, 146, 96, 181, 0, 95, 132, 1, 1]
abbrev dktX1_lands_4 : List UInt8 := dkwX1_lands_4 ++ dktX1_lands_5
def dkwX1_lands_3 : List UInt8 := [180, 0, 70, 162, 0, 24, 28, 29, 184, 0, 101, 153, 0, 10, 42, 180, 0, 33, 29, 4, 79, 132, 3, 1]
abbrev dktX1_lands_3 : List UInt8 := dkwX1_lands_3 ++ dktX1_lands_4
def dkwX1_lands_2 : List UInt8 := [180, 0, 18, 27, 4, 79, 42, 89, 180, 0, 149, 28, 184, 0, 117, 96, 181, 0, 149, 3, 62, 29, 42]
abbrev dktX1_lands_2 : List UInt8 := dkwX1_lands_2 ++ dktX1_lands_3
def dkwX1_lands_1 : List UInt8 := [42, 180, 0, 9, 27, 46, 42, 180, 0, 92, 159, 0, 6, 167, 0, 78, 42, 27, 182, 0, 113, 61, 42]
abbrev dktX1_lands_1 : List UInt8 := dkwX1_lands_1 ++ dktX1_lands_2
def dkwX1_lands_0 : List UInt8 := [42, 3, 181, 0, 149, 3, 60, 27, 42, 180, 0, 67, 162, 0, 109, 42, 180, 0, 18, 27, 46, 154, 0, 94]
abbrev dktX1_lands_0 : List UInt8 := dkwX1_lands_0 ++ dktX1_lands_1
theorem dksX1_lands_0 : cX1_lands.data.toList.drop 0 = dktX1_lands_0 := by decide +kernel
theorem dksX1_lands_1 : cX1_lands.data.toList.drop 24 = dktX1_lands_1 := dk_seg dksX1_lands_0 24 rfl rfl
theorem dksX1_lands_2 : cX1_lands.data.toList.drop 47 = dktX1_lands_2 := dk_seg dksX1_lands_1 23 rfl rfl
theorem dksX1_lands_3 : cX1_lands.data.toList.drop 70 = dktX1_lands_3 := dk_seg dksX1_lands_2 23 rfl rfl
theorem dksX1_lands_4 : cX1_lands.data.toList.drop 94 = dktX1_lands_4 := dk_seg dksX1_lands_3 24 rfl rfl
theorem dksX1_lands_5 : cX1_lands.data.toList.drop 118 = dktX1_lands_5 := dk_seg dksX1_lands_4 24 rfl rfl
theorem dX1_lands_0 : decode cX1_lands 0 = .ok (.aload_n 0, 1) := dk_42 (dk_at dksX1_lands_0 0 rfl rfl)
theorem dX1_lands_1 : decode cX1_lands 1 = .ok (.iconst 0, 1) := dk_3 (dk_at dksX1_lands_0 1 rfl rfl)
theorem dX1_lands_2 : decode cX1_lands 2 = .ok (.putfield 149, 3) := dk_181 0 149 (dk_at dksX1_lands_0 2 rfl rfl)
theorem dX1_lands_5 : decode cX1_lands 5 = .ok (.iconst 0, 1) := dk_3 (dk_at dksX1_lands_0 5 rfl rfl)
theorem dX1_lands_6 : decode cX1_lands 6 = .ok (.istore_n 1, 1) := dk_60 (dk_at dksX1_lands_0 6 rfl rfl)
theorem dX1_lands_7 : decode cX1_lands 7 = .ok (.iload_n 1, 1) := dk_27 (dk_at dksX1_lands_0 7 rfl rfl)
theorem dX1_lands_8 : decode cX1_lands 8 = .ok (.aload_n 0, 1) := dk_42 (dk_at dksX1_lands_0 8 rfl rfl)
theorem dX1_lands_9 : decode cX1_lands 9 = .ok (.getfield 67, 3) := dk_180 0 67 (dk_at dksX1_lands_0 9 rfl rfl)
theorem dX1_lands_12 : decode cX1_lands 12 = .ok (.if_icmp .ge 109, 3) := dk_162 0 109 (dk_at dksX1_lands_0 12 rfl rfl)
theorem dX1_lands_15 : decode cX1_lands 15 = .ok (.aload_n 0, 1) := dk_42 (dk_at dksX1_lands_0 15 rfl rfl)
theorem dX1_lands_16 : decode cX1_lands 16 = .ok (.getfield 18, 3) := dk_180 0 18 (dk_at dksX1_lands_0 16 rfl rfl)
theorem dX1_lands_19 : decode cX1_lands 19 = .ok (.iload_n 1, 1) := dk_27 (dk_at dksX1_lands_0 19 rfl rfl)
theorem dX1_lands_20 : decode cX1_lands 20 = .ok (.iaload, 1) := dk_46 (dk_at dksX1_lands_0 20 rfl rfl)
theorem dX1_lands_21 : decode cX1_lands 21 = .ok (.ifCond .ne 94, 3) := dk_154 0 94 (dk_at dksX1_lands_0 21 rfl rfl)
theorem dX1_lands_24 : decode cX1_lands 24 = .ok (.aload_n 0, 1) := dk_42 (dk_at dksX1_lands_1 0 rfl rfl)
theorem dX1_lands_25 : decode cX1_lands 25 = .ok (.getfield 9, 3) := dk_180 0 9 (dk_at dksX1_lands_1 1 rfl rfl)
theorem dX1_lands_28 : decode cX1_lands 28 = .ok (.iload_n 1, 1) := dk_27 (dk_at dksX1_lands_1 4 rfl rfl)
theorem dX1_lands_29 : decode cX1_lands 29 = .ok (.iaload, 1) := dk_46 (dk_at dksX1_lands_1 5 rfl rfl)
theorem dX1_lands_30 : decode cX1_lands 30 = .ok (.aload_n 0, 1) := dk_42 (dk_at dksX1_lands_1 6 rfl rfl)
theorem dX1_lands_31 : decode cX1_lands 31 = .ok (.getfield 92, 3) := dk_180 0 92 (dk_at dksX1_lands_1 7 rfl rfl)
theorem dX1_lands_34 : decode cX1_lands 34 = .ok (.if_icmp .eq 6, 3) := dk_159 0 6 (dk_at dksX1_lands_1 10 rfl rfl)
theorem dX1_lands_37 : decode cX1_lands 37 = .ok (.goto 78, 3) := dk_167 0 78 (dk_at dksX1_lands_1 13 rfl rfl)
theorem dX1_lands_40 : decode cX1_lands 40 = .ok (.aload_n 0, 1) := dk_42 (dk_at dksX1_lands_1 16 rfl rfl)
theorem dX1_lands_41 : decode cX1_lands 41 = .ok (.iload_n 1, 1) := dk_27 (dk_at dksX1_lands_1 17 rfl rfl)
theorem dX1_lands_42 : decode cX1_lands 42 = .ok (.invokevirtual 113, 3) := dk_182 0 113 (dk_at dksX1_lands_1 18 rfl rfl)
theorem dX1_lands_45 : decode cX1_lands 45 = .ok (.istore_n 2, 1) := dk_61 (dk_at dksX1_lands_1 21 rfl rfl)
theorem dX1_lands_46 : decode cX1_lands 46 = .ok (.aload_n 0, 1) := dk_42 (dk_at dksX1_lands_1 22 rfl rfl)
theorem dX1_lands_47 : decode cX1_lands 47 = .ok (.getfield 18, 3) := dk_180 0 18 (dk_at dksX1_lands_2 0 rfl rfl)
theorem dX1_lands_50 : decode cX1_lands 50 = .ok (.iload_n 1, 1) := dk_27 (dk_at dksX1_lands_2 3 rfl rfl)
theorem dX1_lands_51 : decode cX1_lands 51 = .ok (.iconst 1, 1) := dk_4 (dk_at dksX1_lands_2 4 rfl rfl)
theorem dX1_lands_52 : decode cX1_lands 52 = .ok (.iastore, 1) := dk_79 (dk_at dksX1_lands_2 5 rfl rfl)
theorem dX1_lands_53 : decode cX1_lands 53 = .ok (.aload_n 0, 1) := dk_42 (dk_at dksX1_lands_2 6 rfl rfl)
theorem dX1_lands_54 : decode cX1_lands 54 = .ok (.dup, 1) := dk_89 (dk_at dksX1_lands_2 7 rfl rfl)
theorem dX1_lands_55 : decode cX1_lands 55 = .ok (.getfield 149, 3) := dk_180 0 149 (dk_at dksX1_lands_2 8 rfl rfl)
theorem dX1_lands_58 : decode cX1_lands 58 = .ok (.iload_n 2, 1) := dk_28 (dk_at dksX1_lands_2 11 rfl rfl)
theorem dX1_lands_59 : decode cX1_lands 59 = .ok (.invokestatic 117, 3) := dk_184 0 117 (dk_at dksX1_lands_2 12 rfl rfl)
theorem dX1_lands_62 : decode cX1_lands 62 = .ok (.iadd, 1) := dk_96 (dk_at dksX1_lands_2 15 rfl rfl)
theorem dX1_lands_63 : decode cX1_lands 63 = .ok (.putfield 149, 3) := dk_181 0 149 (dk_at dksX1_lands_2 16 rfl rfl)
theorem dX1_lands_66 : decode cX1_lands 66 = .ok (.iconst 0, 1) := dk_3 (dk_at dksX1_lands_2 19 rfl rfl)
theorem dX1_lands_67 : decode cX1_lands 67 = .ok (.istore_n 3, 1) := dk_62 (dk_at dksX1_lands_2 20 rfl rfl)
theorem dX1_lands_68 : decode cX1_lands 68 = .ok (.iload_n 3, 1) := dk_29 (dk_at dksX1_lands_2 21 rfl rfl)
theorem dX1_lands_69 : decode cX1_lands 69 = .ok (.aload_n 0, 1) := dk_42 (dk_at dksX1_lands_2 22 rfl rfl)
theorem dX1_lands_70 : decode cX1_lands 70 = .ok (.getfield 70, 3) := dk_180 0 70 (dk_at dksX1_lands_3 0 rfl rfl)
theorem dX1_lands_73 : decode cX1_lands 73 = .ok (.if_icmp .ge 24, 3) := dk_162 0 24 (dk_at dksX1_lands_3 3 rfl rfl)
theorem dX1_lands_76 : decode cX1_lands 76 = .ok (.iload_n 2, 1) := dk_28 (dk_at dksX1_lands_3 6 rfl rfl)
theorem dX1_lands_77 : decode cX1_lands 77 = .ok (.iload_n 3, 1) := dk_29 (dk_at dksX1_lands_3 7 rfl rfl)
theorem dX1_lands_78 : decode cX1_lands 78 = .ok (.invokestatic 101, 3) := dk_184 0 101 (dk_at dksX1_lands_3 8 rfl rfl)
theorem dX1_lands_81 : decode cX1_lands 81 = .ok (.ifCond .eq 10, 3) := dk_153 0 10 (dk_at dksX1_lands_3 11 rfl rfl)
theorem dX1_lands_84 : decode cX1_lands 84 = .ok (.aload_n 0, 1) := dk_42 (dk_at dksX1_lands_3 14 rfl rfl)
theorem dX1_lands_85 : decode cX1_lands 85 = .ok (.getfield 33, 3) := dk_180 0 33 (dk_at dksX1_lands_3 15 rfl rfl)
theorem dX1_lands_88 : decode cX1_lands 88 = .ok (.iload_n 3, 1) := dk_29 (dk_at dksX1_lands_3 18 rfl rfl)
theorem dX1_lands_89 : decode cX1_lands 89 = .ok (.iconst 1, 1) := dk_4 (dk_at dksX1_lands_3 19 rfl rfl)
theorem dX1_lands_90 : decode cX1_lands 90 = .ok (.iastore, 1) := dk_79 (dk_at dksX1_lands_3 20 rfl rfl)
theorem dX1_lands_91 : decode cX1_lands 91 = .ok (.iinc 3 1, 3) := dk_132 3 1 (dk_at dksX1_lands_3 21 rfl rfl)
theorem dX1_lands_94 : decode cX1_lands 94 = .ok (.goto (-26), 3) := dk_167 255 230 (dk_at dksX1_lands_4 0 rfl rfl)
theorem dX1_lands_97 : decode cX1_lands 97 = .ok (.aload_n 0, 1) := dk_42 (dk_at dksX1_lands_4 3 rfl rfl)
theorem dX1_lands_98 : decode cX1_lands 98 = .ok (.dup, 1) := dk_89 (dk_at dksX1_lands_4 4 rfl rfl)
theorem dX1_lands_99 : decode cX1_lands 99 = .ok (.getfield 95, 3) := dk_180 0 95 (dk_at dksX1_lands_4 5 rfl rfl)
theorem dX1_lands_102 : decode cX1_lands 102 = .ok (.aload_n 0, 1) := dk_42 (dk_at dksX1_lands_4 8 rfl rfl)
theorem dX1_lands_103 : decode cX1_lands 103 = .ok (.aload_n 0, 1) := dk_42 (dk_at dksX1_lands_4 9 rfl rfl)
theorem dX1_lands_104 : decode cX1_lands 104 = .ok (.iload_n 2, 1) := dk_28 (dk_at dksX1_lands_4 10 rfl rfl)
theorem dX1_lands_105 : decode cX1_lands 105 = .ok (.invokevirtual 152, 3) := dk_182 0 152 (dk_at dksX1_lands_4 11 rfl rfl)
theorem dX1_lands_108 : decode cX1_lands 108 = .ok (.invokevirtual 146, 3) := dk_182 0 146 (dk_at dksX1_lands_4 14 rfl rfl)
theorem dX1_lands_111 : decode cX1_lands 111 = .ok (.iadd, 1) := dk_96 (dk_at dksX1_lands_4 17 rfl rfl)
theorem dX1_lands_112 : decode cX1_lands 112 = .ok (.putfield 95, 3) := dk_181 0 95 (dk_at dksX1_lands_4 18 rfl rfl)
theorem dX1_lands_115 : decode cX1_lands 115 = .ok (.iinc 1 1, 3) := dk_132 1 1 (dk_at dksX1_lands_4 21 rfl rfl)
theorem dX1_lands_118 : decode cX1_lands 118 = .ok (.goto (-111), 3) := dk_167 255 145 (dk_at dksX1_lands_5 0 rfl rfl)
theorem dX1_lands_121 : decode cX1_lands 121 = .ok (.return_, 1) := dk_177 (dk_at dksX1_lands_5 3 rfl rfl)
abbrev cX1_ropesAt : ByteArray := prog_6_method_21_code
def yX1_ropesAt : MethodName := ⟨RX1, "ropesAt", "(I)I"⟩
def dkwX1_ropesAt_2 : List UInt8 := [61, 132, 3, 1, 167, 255, 209, 28, 172]
abbrev dktX1_ropesAt_2 : List UInt8 := dkwX1_ropesAt_2 ++ []
def dkwX1_ropesAt_1 : List UInt8 := [154, 0, 16, 27, 42, 180, 0, 42, 29, 46, 184, 0, 101, 153, 0, 9, 4, 29, 120, 167, 0, 4, 3, 128]
abbrev dktX1_ropesAt_1 : List UInt8 := dkwX1_ropesAt_1 ++ dktX1_ropesAt_2
def dkwX1_ropesAt_0 : List UInt8 := [3, 61, 3, 62, 29, 42, 180, 0, 98, 162, 0, 45, 28, 27, 42, 180, 0, 39, 29, 46, 184, 0, 101]
abbrev dktX1_ropesAt_0 : List UInt8 := dkwX1_ropesAt_0 ++ dktX1_ropesAt_1
theorem dksX1_ropesAt_0 : cX1_ropesAt.data.toList.drop 0 = dktX1_ropesAt_0 := by decide +kernel
theorem dksX1_ropesAt_1 : cX1_ropesAt.data.toList.drop 23 = dktX1_ropesAt_1 := dk_seg dksX1_ropesAt_0 23 rfl rfl
theorem dksX1_ropesAt_2 : cX1_ropesAt.data.toList.drop 47 = dktX1_ropesAt_2 := dk_seg dksX1_ropesAt_1 24 rfl rfl
theorem dX1_ropesAt_0 : decode cX1_ropesAt 0 = .ok (.iconst 0, 1) := dk_3 (dk_at dksX1_ropesAt_0 0 rfl rfl)
theorem dX1_ropesAt_1 : decode cX1_ropesAt 1 = .ok (.istore_n 2, 1) := dk_61 (dk_at dksX1_ropesAt_0 1 rfl rfl)
theorem dX1_ropesAt_2 : decode cX1_ropesAt 2 = .ok (.iconst 0, 1) := dk_3 (dk_at dksX1_ropesAt_0 2 rfl rfl)
theorem dX1_ropesAt_3 : decode cX1_ropesAt 3 = .ok (.istore_n 3, 1) := dk_62 (dk_at dksX1_ropesAt_0 3 rfl rfl)
theorem dX1_ropesAt_4 : decode cX1_ropesAt 4 = .ok (.iload_n 3, 1) := dk_29 (dk_at dksX1_ropesAt_0 4 rfl rfl)
theorem dX1_ropesAt_5 : decode cX1_ropesAt 5 = .ok (.aload_n 0, 1) := dk_42 (dk_at dksX1_ropesAt_0 5 rfl rfl)
theorem dX1_ropesAt_6 : decode cX1_ropesAt 6 = .ok (.getfield 98, 3) := dk_180 0 98 (dk_at dksX1_ropesAt_0 6 rfl rfl)
theorem dX1_ropesAt_9 : decode cX1_ropesAt 9 = .ok (.if_icmp .ge 45, 3) := dk_162 0 45 (dk_at dksX1_ropesAt_0 9 rfl rfl)
theorem dX1_ropesAt_12 : decode cX1_ropesAt 12 = .ok (.iload_n 2, 1) := dk_28 (dk_at dksX1_ropesAt_0 12 rfl rfl)
theorem dX1_ropesAt_13 : decode cX1_ropesAt 13 = .ok (.iload_n 1, 1) := dk_27 (dk_at dksX1_ropesAt_0 13 rfl rfl)
theorem dX1_ropesAt_14 : decode cX1_ropesAt 14 = .ok (.aload_n 0, 1) := dk_42 (dk_at dksX1_ropesAt_0 14 rfl rfl)
theorem dX1_ropesAt_15 : decode cX1_ropesAt 15 = .ok (.getfield 39, 3) := dk_180 0 39 (dk_at dksX1_ropesAt_0 15 rfl rfl)
theorem dX1_ropesAt_18 : decode cX1_ropesAt 18 = .ok (.iload_n 3, 1) := dk_29 (dk_at dksX1_ropesAt_0 18 rfl rfl)
theorem dX1_ropesAt_19 : decode cX1_ropesAt 19 = .ok (.iaload, 1) := dk_46 (dk_at dksX1_ropesAt_0 19 rfl rfl)
theorem dX1_ropesAt_20 : decode cX1_ropesAt 20 = .ok (.invokestatic 101, 3) := dk_184 0 101 (dk_at dksX1_ropesAt_0 20 rfl rfl)
theorem dX1_ropesAt_23 : decode cX1_ropesAt 23 = .ok (.ifCond .ne 16, 3) := dk_154 0 16 (dk_at dksX1_ropesAt_1 0 rfl rfl)
theorem dX1_ropesAt_26 : decode cX1_ropesAt 26 = .ok (.iload_n 1, 1) := dk_27 (dk_at dksX1_ropesAt_1 3 rfl rfl)
theorem dX1_ropesAt_27 : decode cX1_ropesAt 27 = .ok (.aload_n 0, 1) := dk_42 (dk_at dksX1_ropesAt_1 4 rfl rfl)
theorem dX1_ropesAt_28 : decode cX1_ropesAt 28 = .ok (.getfield 42, 3) := dk_180 0 42 (dk_at dksX1_ropesAt_1 5 rfl rfl)
theorem dX1_ropesAt_31 : decode cX1_ropesAt 31 = .ok (.iload_n 3, 1) := dk_29 (dk_at dksX1_ropesAt_1 8 rfl rfl)
theorem dX1_ropesAt_32 : decode cX1_ropesAt 32 = .ok (.iaload, 1) := dk_46 (dk_at dksX1_ropesAt_1 9 rfl rfl)
theorem dX1_ropesAt_33 : decode cX1_ropesAt 33 = .ok (.invokestatic 101, 3) := dk_184 0 101 (dk_at dksX1_ropesAt_1 10 rfl rfl)
theorem dX1_ropesAt_36 : decode cX1_ropesAt 36 = .ok (.ifCond .eq 9, 3) := dk_153 0 9 (dk_at dksX1_ropesAt_1 13 rfl rfl)
theorem dX1_ropesAt_39 : decode cX1_ropesAt 39 = .ok (.iconst 1, 1) := dk_4 (dk_at dksX1_ropesAt_1 16 rfl rfl)
theorem dX1_ropesAt_40 : decode cX1_ropesAt 40 = .ok (.iload_n 3, 1) := dk_29 (dk_at dksX1_ropesAt_1 17 rfl rfl)
theorem dX1_ropesAt_41 : decode cX1_ropesAt 41 = .ok (.ishl, 1) := dk_120 (dk_at dksX1_ropesAt_1 18 rfl rfl)
theorem dX1_ropesAt_42 : decode cX1_ropesAt 42 = .ok (.goto 4, 3) := dk_167 0 4 (dk_at dksX1_ropesAt_1 19 rfl rfl)
theorem dX1_ropesAt_45 : decode cX1_ropesAt 45 = .ok (.iconst 0, 1) := dk_3 (dk_at dksX1_ropesAt_1 22 rfl rfl)
theorem dX1_ropesAt_46 : decode cX1_ropesAt 46 = .ok (.ior, 1) := dk_128 (dk_at dksX1_ropesAt_1 23 rfl rfl)
theorem dX1_ropesAt_47 : decode cX1_ropesAt 47 = .ok (.istore_n 2, 1) := dk_61 (dk_at dksX1_ropesAt_2 0 rfl rfl)
theorem dX1_ropesAt_48 : decode cX1_ropesAt 48 = .ok (.iinc 3 1, 3) := dk_132 3 1 (dk_at dksX1_ropesAt_2 1 rfl rfl)
theorem dX1_ropesAt_51 : decode cX1_ropesAt 51 = .ok (.goto (-47), 3) := dk_167 255 209 (dk_at dksX1_ropesAt_2 4 rfl rfl)
theorem dX1_ropesAt_54 : decode cX1_ropesAt 54 = .ok (.iload_n 2, 1) := dk_28 (dk_at dksX1_ropesAt_2 7 rfl rfl)
theorem dX1_ropesAt_55 : decode cX1_ropesAt 55 = .ok (.ireturn, 1) := dk_172 (dk_at dksX1_ropesAt_2 8 rfl rfl)
abbrev cX1_sinksAll : ByteArray := prog_6_method_25_code
def yX1_sinksAll : MethodName := ⟨RX1, "sinksAll", "()V"⟩
def dkwX1_sinksAll_6 : List UInt8 := [182, 0, 146, 87, 42, 27, 184, 0, 117, 181, 0, 158, 177]
abbrev dktX1_sinksAll_6 : List UInt8 := dkwX1_sinksAll_6 ++ []
def dkwX1_sinksAll_5 : List UInt8 := [42, 180, 0, 36, 29, 42, 180, 0, 92, 79, 132, 3, 1, 167, 255, 217, 42, 42, 27, 182, 0, 152]
abbrev dktX1_sinksAll_5 : List UInt8 := dkwX1_sinksAll_5 ++ dktX1_sinksAll_6
def dkwX1_sinksAll_4 : List UInt8 := [180, 0, 70, 162, 0, 37, 27, 29, 184, 0, 101, 154, 0, 6, 167, 0, 20, 42, 180, 0, 33, 29, 5, 79]
abbrev dktX1_sinksAll_4 : List UInt8 := dkwX1_sinksAll_4 ++ dktX1_sinksAll_5
def dkwX1_sinksAll_3 : List UInt8 := [184, 0, 101, 153, 0, 10, 42, 180, 0, 18, 29, 5, 79, 132, 3, 1, 167, 255, 230, 3, 62, 29, 42]
abbrev dktX1_sinksAll_3 : List UInt8 := dkwX1_sinksAll_3 ++ dktX1_sinksAll_4
def dkwX1_sinksAll_2 : List UInt8 := [167, 0, 4, 3, 128, 61, 132, 3, 1, 167, 255, 213, 3, 62, 29, 42, 180, 0, 67, 162, 0, 24, 28, 29]
abbrev dktX1_sinksAll_2 : List UInt8 := dkwX1_sinksAll_2 ++ dktX1_sinksAll_3
def dkwX1_sinksAll_1 : List UInt8 := [182, 0, 122, 54, 4, 28, 21, 4, 2, 159, 0, 18, 27, 21, 4, 184, 0, 101, 153, 0, 9, 4, 29, 120]
abbrev dktX1_sinksAll_1 : List UInt8 := dkwX1_sinksAll_1 ++ dktX1_sinksAll_2
def dkwX1_sinksAll_0 : List UInt8 := [42, 42, 182, 0, 105, 182, 0, 155, 60, 3, 61, 3, 62, 29, 42, 180, 0, 67, 162, 0, 41, 42, 29]
abbrev dktX1_sinksAll_0 : List UInt8 := dkwX1_sinksAll_0 ++ dktX1_sinksAll_1
theorem dksX1_sinksAll_0 : cX1_sinksAll.data.toList.drop 0 = dktX1_sinksAll_0 := by decide +kernel
theorem dksX1_sinksAll_1 : cX1_sinksAll.data.toList.drop 23 = dktX1_sinksAll_1 := dk_seg dksX1_sinksAll_0 23 rfl rfl
theorem dksX1_sinksAll_2 : cX1_sinksAll.data.toList.drop 47 = dktX1_sinksAll_2 := dk_seg dksX1_sinksAll_1 24 rfl rfl
theorem dksX1_sinksAll_3 : cX1_sinksAll.data.toList.drop 71 = dktX1_sinksAll_3 := dk_seg dksX1_sinksAll_2 24 rfl rfl
theorem dksX1_sinksAll_4 : cX1_sinksAll.data.toList.drop 94 = dktX1_sinksAll_4 := dk_seg dksX1_sinksAll_3 23 rfl rfl
theorem dksX1_sinksAll_5 : cX1_sinksAll.data.toList.drop 118 = dktX1_sinksAll_5 := dk_seg dksX1_sinksAll_4 24 rfl rfl
theorem dksX1_sinksAll_6 : cX1_sinksAll.data.toList.drop 140 = dktX1_sinksAll_6 := dk_seg dksX1_sinksAll_5 22 rfl rfl
theorem dX1_sinksAll_0 : decode cX1_sinksAll 0 = .ok (.aload_n 0, 1) := dk_42 (dk_at dksX1_sinksAll_0 0 rfl rfl)
theorem dX1_sinksAll_1 : decode cX1_sinksAll 1 = .ok (.aload_n 0, 1) := dk_42 (dk_at dksX1_sinksAll_0 1 rfl rfl)
theorem dX1_sinksAll_2 : decode cX1_sinksAll 2 = .ok (.invokevirtual 105, 3) := dk_182 0 105 (dk_at dksX1_sinksAll_0 2 rfl rfl)
theorem dX1_sinksAll_5 : decode cX1_sinksAll 5 = .ok (.invokevirtual 155, 3) := dk_182 0 155 (dk_at dksX1_sinksAll_0 5 rfl rfl)
theorem dX1_sinksAll_8 : decode cX1_sinksAll 8 = .ok (.istore_n 1, 1) := dk_60 (dk_at dksX1_sinksAll_0 8 rfl rfl)
theorem dX1_sinksAll_9 : decode cX1_sinksAll 9 = .ok (.iconst 0, 1) := dk_3 (dk_at dksX1_sinksAll_0 9 rfl rfl)
theorem dX1_sinksAll_10 : decode cX1_sinksAll 10 = .ok (.istore_n 2, 1) := dk_61 (dk_at dksX1_sinksAll_0 10 rfl rfl)
theorem dX1_sinksAll_11 : decode cX1_sinksAll 11 = .ok (.iconst 0, 1) := dk_3 (dk_at dksX1_sinksAll_0 11 rfl rfl)
theorem dX1_sinksAll_12 : decode cX1_sinksAll 12 = .ok (.istore_n 3, 1) := dk_62 (dk_at dksX1_sinksAll_0 12 rfl rfl)
theorem dX1_sinksAll_13 : decode cX1_sinksAll 13 = .ok (.iload_n 3, 1) := dk_29 (dk_at dksX1_sinksAll_0 13 rfl rfl)
theorem dX1_sinksAll_14 : decode cX1_sinksAll 14 = .ok (.aload_n 0, 1) := dk_42 (dk_at dksX1_sinksAll_0 14 rfl rfl)
theorem dX1_sinksAll_15 : decode cX1_sinksAll 15 = .ok (.getfield 67, 3) := dk_180 0 67 (dk_at dksX1_sinksAll_0 15 rfl rfl)
theorem dX1_sinksAll_18 : decode cX1_sinksAll 18 = .ok (.if_icmp .ge 41, 3) := dk_162 0 41 (dk_at dksX1_sinksAll_0 18 rfl rfl)
theorem dX1_sinksAll_21 : decode cX1_sinksAll 21 = .ok (.aload_n 0, 1) := dk_42 (dk_at dksX1_sinksAll_0 21 rfl rfl)
theorem dX1_sinksAll_22 : decode cX1_sinksAll 22 = .ok (.iload_n 3, 1) := dk_29 (dk_at dksX1_sinksAll_0 22 rfl rfl)
theorem dX1_sinksAll_23 : decode cX1_sinksAll 23 = .ok (.invokevirtual 122, 3) := dk_182 0 122 (dk_at dksX1_sinksAll_1 0 rfl rfl)
theorem dX1_sinksAll_26 : decode cX1_sinksAll 26 = .ok (.istore 4, 2) := dk_54 4 (dk_at dksX1_sinksAll_1 3 rfl rfl)
theorem dX1_sinksAll_28 : decode cX1_sinksAll 28 = .ok (.iload_n 2, 1) := dk_28 (dk_at dksX1_sinksAll_1 5 rfl rfl)
theorem dX1_sinksAll_29 : decode cX1_sinksAll 29 = .ok (.iload 4, 2) := dk_21 4 (dk_at dksX1_sinksAll_1 6 rfl rfl)
theorem dX1_sinksAll_31 : decode cX1_sinksAll 31 = .ok (.iconst (-1), 1) := dk_2 (dk_at dksX1_sinksAll_1 8 rfl rfl)
theorem dX1_sinksAll_32 : decode cX1_sinksAll 32 = .ok (.if_icmp .eq 18, 3) := dk_159 0 18 (dk_at dksX1_sinksAll_1 9 rfl rfl)
theorem dX1_sinksAll_35 : decode cX1_sinksAll 35 = .ok (.iload_n 1, 1) := dk_27 (dk_at dksX1_sinksAll_1 12 rfl rfl)
theorem dX1_sinksAll_36 : decode cX1_sinksAll 36 = .ok (.iload 4, 2) := dk_21 4 (dk_at dksX1_sinksAll_1 13 rfl rfl)
theorem dX1_sinksAll_38 : decode cX1_sinksAll 38 = .ok (.invokestatic 101, 3) := dk_184 0 101 (dk_at dksX1_sinksAll_1 15 rfl rfl)
theorem dX1_sinksAll_41 : decode cX1_sinksAll 41 = .ok (.ifCond .eq 9, 3) := dk_153 0 9 (dk_at dksX1_sinksAll_1 18 rfl rfl)
theorem dX1_sinksAll_44 : decode cX1_sinksAll 44 = .ok (.iconst 1, 1) := dk_4 (dk_at dksX1_sinksAll_1 21 rfl rfl)
theorem dX1_sinksAll_45 : decode cX1_sinksAll 45 = .ok (.iload_n 3, 1) := dk_29 (dk_at dksX1_sinksAll_1 22 rfl rfl)
theorem dX1_sinksAll_46 : decode cX1_sinksAll 46 = .ok (.ishl, 1) := dk_120 (dk_at dksX1_sinksAll_1 23 rfl rfl)
theorem dX1_sinksAll_47 : decode cX1_sinksAll 47 = .ok (.goto 4, 3) := dk_167 0 4 (dk_at dksX1_sinksAll_2 0 rfl rfl)
theorem dX1_sinksAll_50 : decode cX1_sinksAll 50 = .ok (.iconst 0, 1) := dk_3 (dk_at dksX1_sinksAll_2 3 rfl rfl)
theorem dX1_sinksAll_51 : decode cX1_sinksAll 51 = .ok (.ior, 1) := dk_128 (dk_at dksX1_sinksAll_2 4 rfl rfl)
theorem dX1_sinksAll_52 : decode cX1_sinksAll 52 = .ok (.istore_n 2, 1) := dk_61 (dk_at dksX1_sinksAll_2 5 rfl rfl)
theorem dX1_sinksAll_53 : decode cX1_sinksAll 53 = .ok (.iinc 3 1, 3) := dk_132 3 1 (dk_at dksX1_sinksAll_2 6 rfl rfl)
theorem dX1_sinksAll_56 : decode cX1_sinksAll 56 = .ok (.goto (-43), 3) := dk_167 255 213 (dk_at dksX1_sinksAll_2 9 rfl rfl)
theorem dX1_sinksAll_59 : decode cX1_sinksAll 59 = .ok (.iconst 0, 1) := dk_3 (dk_at dksX1_sinksAll_2 12 rfl rfl)
theorem dX1_sinksAll_60 : decode cX1_sinksAll 60 = .ok (.istore_n 3, 1) := dk_62 (dk_at dksX1_sinksAll_2 13 rfl rfl)
theorem dX1_sinksAll_61 : decode cX1_sinksAll 61 = .ok (.iload_n 3, 1) := dk_29 (dk_at dksX1_sinksAll_2 14 rfl rfl)
theorem dX1_sinksAll_62 : decode cX1_sinksAll 62 = .ok (.aload_n 0, 1) := dk_42 (dk_at dksX1_sinksAll_2 15 rfl rfl)
theorem dX1_sinksAll_63 : decode cX1_sinksAll 63 = .ok (.getfield 67, 3) := dk_180 0 67 (dk_at dksX1_sinksAll_2 16 rfl rfl)
theorem dX1_sinksAll_66 : decode cX1_sinksAll 66 = .ok (.if_icmp .ge 24, 3) := dk_162 0 24 (dk_at dksX1_sinksAll_2 19 rfl rfl)
theorem dX1_sinksAll_69 : decode cX1_sinksAll 69 = .ok (.iload_n 2, 1) := dk_28 (dk_at dksX1_sinksAll_2 22 rfl rfl)
theorem dX1_sinksAll_70 : decode cX1_sinksAll 70 = .ok (.iload_n 3, 1) := dk_29 (dk_at dksX1_sinksAll_2 23 rfl rfl)
theorem dX1_sinksAll_71 : decode cX1_sinksAll 71 = .ok (.invokestatic 101, 3) := dk_184 0 101 (dk_at dksX1_sinksAll_3 0 rfl rfl)
theorem dX1_sinksAll_74 : decode cX1_sinksAll 74 = .ok (.ifCond .eq 10, 3) := dk_153 0 10 (dk_at dksX1_sinksAll_3 3 rfl rfl)
theorem dX1_sinksAll_77 : decode cX1_sinksAll 77 = .ok (.aload_n 0, 1) := dk_42 (dk_at dksX1_sinksAll_3 6 rfl rfl)
theorem dX1_sinksAll_78 : decode cX1_sinksAll 78 = .ok (.getfield 18, 3) := dk_180 0 18 (dk_at dksX1_sinksAll_3 7 rfl rfl)
theorem dX1_sinksAll_81 : decode cX1_sinksAll 81 = .ok (.iload_n 3, 1) := dk_29 (dk_at dksX1_sinksAll_3 10 rfl rfl)
theorem dX1_sinksAll_82 : decode cX1_sinksAll 82 = .ok (.iconst 2, 1) := dk_5 (dk_at dksX1_sinksAll_3 11 rfl rfl)
theorem dX1_sinksAll_83 : decode cX1_sinksAll 83 = .ok (.iastore, 1) := dk_79 (dk_at dksX1_sinksAll_3 12 rfl rfl)
theorem dX1_sinksAll_84 : decode cX1_sinksAll 84 = .ok (.iinc 3 1, 3) := dk_132 3 1 (dk_at dksX1_sinksAll_3 13 rfl rfl)
theorem dX1_sinksAll_87 : decode cX1_sinksAll 87 = .ok (.goto (-26), 3) := dk_167 255 230 (dk_at dksX1_sinksAll_3 16 rfl rfl)
theorem dX1_sinksAll_90 : decode cX1_sinksAll 90 = .ok (.iconst 0, 1) := dk_3 (dk_at dksX1_sinksAll_3 19 rfl rfl)
theorem dX1_sinksAll_91 : decode cX1_sinksAll 91 = .ok (.istore_n 3, 1) := dk_62 (dk_at dksX1_sinksAll_3 20 rfl rfl)
theorem dX1_sinksAll_92 : decode cX1_sinksAll 92 = .ok (.iload_n 3, 1) := dk_29 (dk_at dksX1_sinksAll_3 21 rfl rfl)
theorem dX1_sinksAll_93 : decode cX1_sinksAll 93 = .ok (.aload_n 0, 1) := dk_42 (dk_at dksX1_sinksAll_3 22 rfl rfl)
theorem dX1_sinksAll_94 : decode cX1_sinksAll 94 = .ok (.getfield 70, 3) := dk_180 0 70 (dk_at dksX1_sinksAll_4 0 rfl rfl)
theorem dX1_sinksAll_97 : decode cX1_sinksAll 97 = .ok (.if_icmp .ge 37, 3) := dk_162 0 37 (dk_at dksX1_sinksAll_4 3 rfl rfl)
theorem dX1_sinksAll_100 : decode cX1_sinksAll 100 = .ok (.iload_n 1, 1) := dk_27 (dk_at dksX1_sinksAll_4 6 rfl rfl)
theorem dX1_sinksAll_101 : decode cX1_sinksAll 101 = .ok (.iload_n 3, 1) := dk_29 (dk_at dksX1_sinksAll_4 7 rfl rfl)
theorem dX1_sinksAll_102 : decode cX1_sinksAll 102 = .ok (.invokestatic 101, 3) := dk_184 0 101 (dk_at dksX1_sinksAll_4 8 rfl rfl)
theorem dX1_sinksAll_105 : decode cX1_sinksAll 105 = .ok (.ifCond .ne 6, 3) := dk_154 0 6 (dk_at dksX1_sinksAll_4 11 rfl rfl)
theorem dX1_sinksAll_108 : decode cX1_sinksAll 108 = .ok (.goto 20, 3) := dk_167 0 20 (dk_at dksX1_sinksAll_4 14 rfl rfl)
theorem dX1_sinksAll_111 : decode cX1_sinksAll 111 = .ok (.aload_n 0, 1) := dk_42 (dk_at dksX1_sinksAll_4 17 rfl rfl)
theorem dX1_sinksAll_112 : decode cX1_sinksAll 112 = .ok (.getfield 33, 3) := dk_180 0 33 (dk_at dksX1_sinksAll_4 18 rfl rfl)
theorem dX1_sinksAll_115 : decode cX1_sinksAll 115 = .ok (.iload_n 3, 1) := dk_29 (dk_at dksX1_sinksAll_4 21 rfl rfl)
theorem dX1_sinksAll_116 : decode cX1_sinksAll 116 = .ok (.iconst 2, 1) := dk_5 (dk_at dksX1_sinksAll_4 22 rfl rfl)
theorem dX1_sinksAll_117 : decode cX1_sinksAll 117 = .ok (.iastore, 1) := dk_79 (dk_at dksX1_sinksAll_4 23 rfl rfl)
theorem dX1_sinksAll_118 : decode cX1_sinksAll 118 = .ok (.aload_n 0, 1) := dk_42 (dk_at dksX1_sinksAll_5 0 rfl rfl)
theorem dX1_sinksAll_119 : decode cX1_sinksAll 119 = .ok (.getfield 36, 3) := dk_180 0 36 (dk_at dksX1_sinksAll_5 1 rfl rfl)
theorem dX1_sinksAll_122 : decode cX1_sinksAll 122 = .ok (.iload_n 3, 1) := dk_29 (dk_at dksX1_sinksAll_5 4 rfl rfl)
theorem dX1_sinksAll_123 : decode cX1_sinksAll 123 = .ok (.aload_n 0, 1) := dk_42 (dk_at dksX1_sinksAll_5 5 rfl rfl)
theorem dX1_sinksAll_124 : decode cX1_sinksAll 124 = .ok (.getfield 92, 3) := dk_180 0 92 (dk_at dksX1_sinksAll_5 6 rfl rfl)
theorem dX1_sinksAll_127 : decode cX1_sinksAll 127 = .ok (.iastore, 1) := dk_79 (dk_at dksX1_sinksAll_5 9 rfl rfl)
theorem dX1_sinksAll_128 : decode cX1_sinksAll 128 = .ok (.iinc 3 1, 3) := dk_132 3 1 (dk_at dksX1_sinksAll_5 10 rfl rfl)
theorem dX1_sinksAll_131 : decode cX1_sinksAll 131 = .ok (.goto (-39), 3) := dk_167 255 217 (dk_at dksX1_sinksAll_5 13 rfl rfl)
theorem dX1_sinksAll_134 : decode cX1_sinksAll 134 = .ok (.aload_n 0, 1) := dk_42 (dk_at dksX1_sinksAll_5 16 rfl rfl)
theorem dX1_sinksAll_135 : decode cX1_sinksAll 135 = .ok (.aload_n 0, 1) := dk_42 (dk_at dksX1_sinksAll_5 17 rfl rfl)
theorem dX1_sinksAll_136 : decode cX1_sinksAll 136 = .ok (.iload_n 1, 1) := dk_27 (dk_at dksX1_sinksAll_5 18 rfl rfl)
theorem dX1_sinksAll_137 : decode cX1_sinksAll 137 = .ok (.invokevirtual 152, 3) := dk_182 0 152 (dk_at dksX1_sinksAll_5 19 rfl rfl)
theorem dX1_sinksAll_140 : decode cX1_sinksAll 140 = .ok (.invokevirtual 146, 3) := dk_182 0 146 (dk_at dksX1_sinksAll_6 0 rfl rfl)
theorem dX1_sinksAll_143 : decode cX1_sinksAll 143 = .ok (.pop, 1) := dk_87 (dk_at dksX1_sinksAll_6 3 rfl rfl)
theorem dX1_sinksAll_144 : decode cX1_sinksAll 144 = .ok (.aload_n 0, 1) := dk_42 (dk_at dksX1_sinksAll_6 4 rfl rfl)
theorem dX1_sinksAll_145 : decode cX1_sinksAll 145 = .ok (.iload_n 1, 1) := dk_27 (dk_at dksX1_sinksAll_6 5 rfl rfl)
theorem dX1_sinksAll_146 : decode cX1_sinksAll 146 = .ok (.invokestatic 117, 3) := dk_184 0 117 (dk_at dksX1_sinksAll_6 6 rfl rfl)
theorem dX1_sinksAll_149 : decode cX1_sinksAll 149 = .ok (.putfield 158, 3) := dk_181 0 158 (dk_at dksX1_sinksAll_6 9 rfl rfl)
theorem dX1_sinksAll_152 : decode cX1_sinksAll 152 = .ok (.return_, 1) := dk_177 (dk_at dksX1_sinksAll_6 12 rfl rfl)
abbrev cX1_sinkingBy : ByteArray := prog_6_method_17_code
def yX1_sinkingBy : MethodName := ⟨RX1, "sinkingBy", "(I)I"⟩
def dkwX1_sinkingBy_4 : List UInt8 := [167, 255, 176, 28, 172]
abbrev dktX1_sinkingBy_4 : List UInt8 := dkwX1_sinkingBy_4 ++ []
def dkwX1_sinkingBy_3 : List UInt8 := [21, 4, 46, 182, 0, 132, 100, 156, 0, 13, 28, 42, 180, 0, 60, 21, 4, 46, 128, 61, 132, 4, 1]
abbrev dktX1_sinkingBy_3 : List UInt8 := dkwX1_sinkingBy_3 ++ dktX1_sinkingBy_4
def dkwX1_sinkingBy_2 : List UInt8 := [180, 0, 60, 21, 4, 46, 128, 62, 42, 42, 180, 0, 60, 21, 4, 46, 182, 0, 129, 42, 42, 180, 0, 60]
abbrev dktX1_sinkingBy_2 : List UInt8 := dkwX1_sinkingBy_2 ++ dktX1_sinkingBy_3
def dkwX1_sinkingBy_1 : List UInt8 := [180, 0, 33, 21, 4, 46, 154, 0, 61, 29, 21, 4, 184, 0, 101, 153, 0, 6, 167, 0, 49, 29, 42]
abbrev dktX1_sinkingBy_1 : List UInt8 := dkwX1_sinkingBy_1 ++ dktX1_sinkingBy_2
def dkwX1_sinkingBy_0 : List UInt8 := [3, 61, 3, 62, 42, 27, 182, 0, 125, 3, 54, 4, 21, 4, 42, 180, 0, 70, 162, 0, 77, 42]
abbrev dktX1_sinkingBy_0 : List UInt8 := dkwX1_sinkingBy_0 ++ dktX1_sinkingBy_1
theorem dksX1_sinkingBy_0 : cX1_sinkingBy.data.toList.drop 0 = dktX1_sinkingBy_0 := by decide +kernel
theorem dksX1_sinkingBy_1 : cX1_sinkingBy.data.toList.drop 22 = dktX1_sinkingBy_1 := dk_seg dksX1_sinkingBy_0 22 rfl rfl
theorem dksX1_sinkingBy_2 : cX1_sinkingBy.data.toList.drop 45 = dktX1_sinkingBy_2 := dk_seg dksX1_sinkingBy_1 23 rfl rfl
theorem dksX1_sinkingBy_3 : cX1_sinkingBy.data.toList.drop 69 = dktX1_sinkingBy_3 := dk_seg dksX1_sinkingBy_2 24 rfl rfl
theorem dksX1_sinkingBy_4 : cX1_sinkingBy.data.toList.drop 92 = dktX1_sinkingBy_4 := dk_seg dksX1_sinkingBy_3 23 rfl rfl
theorem dX1_sinkingBy_0 : decode cX1_sinkingBy 0 = .ok (.iconst 0, 1) := dk_3 (dk_at dksX1_sinkingBy_0 0 rfl rfl)
theorem dX1_sinkingBy_1 : decode cX1_sinkingBy 1 = .ok (.istore_n 2, 1) := dk_61 (dk_at dksX1_sinkingBy_0 1 rfl rfl)
theorem dX1_sinkingBy_2 : decode cX1_sinkingBy 2 = .ok (.iconst 0, 1) := dk_3 (dk_at dksX1_sinkingBy_0 2 rfl rfl)
theorem dX1_sinkingBy_3 : decode cX1_sinkingBy 3 = .ok (.istore_n 3, 1) := dk_62 (dk_at dksX1_sinkingBy_0 3 rfl rfl)
theorem dX1_sinkingBy_4 : decode cX1_sinkingBy 4 = .ok (.aload_n 0, 1) := dk_42 (dk_at dksX1_sinkingBy_0 4 rfl rfl)
theorem dX1_sinkingBy_5 : decode cX1_sinkingBy 5 = .ok (.iload_n 1, 1) := dk_27 (dk_at dksX1_sinkingBy_0 5 rfl rfl)
theorem dX1_sinkingBy_6 : decode cX1_sinkingBy 6 = .ok (.invokevirtual 125, 3) := dk_182 0 125 (dk_at dksX1_sinkingBy_0 6 rfl rfl)
theorem dX1_sinkingBy_9 : decode cX1_sinkingBy 9 = .ok (.iconst 0, 1) := dk_3 (dk_at dksX1_sinkingBy_0 9 rfl rfl)
theorem dX1_sinkingBy_10 : decode cX1_sinkingBy 10 = .ok (.istore 4, 2) := dk_54 4 (dk_at dksX1_sinkingBy_0 10 rfl rfl)
theorem dX1_sinkingBy_12 : decode cX1_sinkingBy 12 = .ok (.iload 4, 2) := dk_21 4 (dk_at dksX1_sinkingBy_0 12 rfl rfl)
theorem dX1_sinkingBy_14 : decode cX1_sinkingBy 14 = .ok (.aload_n 0, 1) := dk_42 (dk_at dksX1_sinkingBy_0 14 rfl rfl)
theorem dX1_sinkingBy_15 : decode cX1_sinkingBy 15 = .ok (.getfield 70, 3) := dk_180 0 70 (dk_at dksX1_sinkingBy_0 15 rfl rfl)
theorem dX1_sinkingBy_18 : decode cX1_sinkingBy 18 = .ok (.if_icmp .ge 77, 3) := dk_162 0 77 (dk_at dksX1_sinkingBy_0 18 rfl rfl)
theorem dX1_sinkingBy_21 : decode cX1_sinkingBy 21 = .ok (.aload_n 0, 1) := dk_42 (dk_at dksX1_sinkingBy_0 21 rfl rfl)
theorem dX1_sinkingBy_22 : decode cX1_sinkingBy 22 = .ok (.getfield 33, 3) := dk_180 0 33 (dk_at dksX1_sinkingBy_1 0 rfl rfl)
theorem dX1_sinkingBy_25 : decode cX1_sinkingBy 25 = .ok (.iload 4, 2) := dk_21 4 (dk_at dksX1_sinkingBy_1 3 rfl rfl)
theorem dX1_sinkingBy_27 : decode cX1_sinkingBy 27 = .ok (.iaload, 1) := dk_46 (dk_at dksX1_sinkingBy_1 5 rfl rfl)
theorem dX1_sinkingBy_28 : decode cX1_sinkingBy 28 = .ok (.ifCond .ne 61, 3) := dk_154 0 61 (dk_at dksX1_sinkingBy_1 6 rfl rfl)
theorem dX1_sinkingBy_31 : decode cX1_sinkingBy 31 = .ok (.iload_n 3, 1) := dk_29 (dk_at dksX1_sinkingBy_1 9 rfl rfl)
theorem dX1_sinkingBy_32 : decode cX1_sinkingBy 32 = .ok (.iload 4, 2) := dk_21 4 (dk_at dksX1_sinkingBy_1 10 rfl rfl)
theorem dX1_sinkingBy_34 : decode cX1_sinkingBy 34 = .ok (.invokestatic 101, 3) := dk_184 0 101 (dk_at dksX1_sinkingBy_1 12 rfl rfl)
theorem dX1_sinkingBy_37 : decode cX1_sinkingBy 37 = .ok (.ifCond .eq 6, 3) := dk_153 0 6 (dk_at dksX1_sinkingBy_1 15 rfl rfl)
theorem dX1_sinkingBy_40 : decode cX1_sinkingBy 40 = .ok (.goto 49, 3) := dk_167 0 49 (dk_at dksX1_sinkingBy_1 18 rfl rfl)
theorem dX1_sinkingBy_43 : decode cX1_sinkingBy 43 = .ok (.iload_n 3, 1) := dk_29 (dk_at dksX1_sinkingBy_1 21 rfl rfl)
theorem dX1_sinkingBy_44 : decode cX1_sinkingBy 44 = .ok (.aload_n 0, 1) := dk_42 (dk_at dksX1_sinkingBy_1 22 rfl rfl)
theorem dX1_sinkingBy_45 : decode cX1_sinkingBy 45 = .ok (.getfield 60, 3) := dk_180 0 60 (dk_at dksX1_sinkingBy_2 0 rfl rfl)
theorem dX1_sinkingBy_48 : decode cX1_sinkingBy 48 = .ok (.iload 4, 2) := dk_21 4 (dk_at dksX1_sinkingBy_2 3 rfl rfl)
theorem dX1_sinkingBy_50 : decode cX1_sinkingBy 50 = .ok (.iaload, 1) := dk_46 (dk_at dksX1_sinkingBy_2 5 rfl rfl)
theorem dX1_sinkingBy_51 : decode cX1_sinkingBy 51 = .ok (.ior, 1) := dk_128 (dk_at dksX1_sinkingBy_2 6 rfl rfl)
theorem dX1_sinkingBy_52 : decode cX1_sinkingBy 52 = .ok (.istore_n 3, 1) := dk_62 (dk_at dksX1_sinkingBy_2 7 rfl rfl)
theorem dX1_sinkingBy_53 : decode cX1_sinkingBy 53 = .ok (.aload_n 0, 1) := dk_42 (dk_at dksX1_sinkingBy_2 8 rfl rfl)
theorem dX1_sinkingBy_54 : decode cX1_sinkingBy 54 = .ok (.aload_n 0, 1) := dk_42 (dk_at dksX1_sinkingBy_2 9 rfl rfl)
theorem dX1_sinkingBy_55 : decode cX1_sinkingBy 55 = .ok (.getfield 60, 3) := dk_180 0 60 (dk_at dksX1_sinkingBy_2 10 rfl rfl)
theorem dX1_sinkingBy_58 : decode cX1_sinkingBy 58 = .ok (.iload 4, 2) := dk_21 4 (dk_at dksX1_sinkingBy_2 13 rfl rfl)
theorem dX1_sinkingBy_60 : decode cX1_sinkingBy 60 = .ok (.iaload, 1) := dk_46 (dk_at dksX1_sinkingBy_2 15 rfl rfl)
theorem dX1_sinkingBy_61 : decode cX1_sinkingBy 61 = .ok (.invokevirtual 129, 3) := dk_182 0 129 (dk_at dksX1_sinkingBy_2 16 rfl rfl)
theorem dX1_sinkingBy_64 : decode cX1_sinkingBy 64 = .ok (.aload_n 0, 1) := dk_42 (dk_at dksX1_sinkingBy_2 19 rfl rfl)
theorem dX1_sinkingBy_65 : decode cX1_sinkingBy 65 = .ok (.aload_n 0, 1) := dk_42 (dk_at dksX1_sinkingBy_2 20 rfl rfl)
theorem dX1_sinkingBy_66 : decode cX1_sinkingBy 66 = .ok (.getfield 60, 3) := dk_180 0 60 (dk_at dksX1_sinkingBy_2 21 rfl rfl)
theorem dX1_sinkingBy_69 : decode cX1_sinkingBy 69 = .ok (.iload 4, 2) := dk_21 4 (dk_at dksX1_sinkingBy_3 0 rfl rfl)
theorem dX1_sinkingBy_71 : decode cX1_sinkingBy 71 = .ok (.iaload, 1) := dk_46 (dk_at dksX1_sinkingBy_3 2 rfl rfl)
theorem dX1_sinkingBy_72 : decode cX1_sinkingBy 72 = .ok (.invokevirtual 132, 3) := dk_182 0 132 (dk_at dksX1_sinkingBy_3 3 rfl rfl)
theorem dX1_sinkingBy_75 : decode cX1_sinkingBy 75 = .ok (.isub, 1) := dk_100 (dk_at dksX1_sinkingBy_3 6 rfl rfl)
theorem dX1_sinkingBy_76 : decode cX1_sinkingBy 76 = .ok (.ifCond .ge 13, 3) := dk_156 0 13 (dk_at dksX1_sinkingBy_3 7 rfl rfl)
theorem dX1_sinkingBy_79 : decode cX1_sinkingBy 79 = .ok (.iload_n 2, 1) := dk_28 (dk_at dksX1_sinkingBy_3 10 rfl rfl)
theorem dX1_sinkingBy_80 : decode cX1_sinkingBy 80 = .ok (.aload_n 0, 1) := dk_42 (dk_at dksX1_sinkingBy_3 11 rfl rfl)
theorem dX1_sinkingBy_81 : decode cX1_sinkingBy 81 = .ok (.getfield 60, 3) := dk_180 0 60 (dk_at dksX1_sinkingBy_3 12 rfl rfl)
theorem dX1_sinkingBy_84 : decode cX1_sinkingBy 84 = .ok (.iload 4, 2) := dk_21 4 (dk_at dksX1_sinkingBy_3 15 rfl rfl)
theorem dX1_sinkingBy_86 : decode cX1_sinkingBy 86 = .ok (.iaload, 1) := dk_46 (dk_at dksX1_sinkingBy_3 17 rfl rfl)
theorem dX1_sinkingBy_87 : decode cX1_sinkingBy 87 = .ok (.ior, 1) := dk_128 (dk_at dksX1_sinkingBy_3 18 rfl rfl)
theorem dX1_sinkingBy_88 : decode cX1_sinkingBy 88 = .ok (.istore_n 2, 1) := dk_61 (dk_at dksX1_sinkingBy_3 19 rfl rfl)
theorem dX1_sinkingBy_89 : decode cX1_sinkingBy 89 = .ok (.iinc 4 1, 3) := dk_132 4 1 (dk_at dksX1_sinkingBy_3 20 rfl rfl)
theorem dX1_sinkingBy_92 : decode cX1_sinkingBy 92 = .ok (.goto (-80), 3) := dk_167 255 176 (dk_at dksX1_sinkingBy_4 0 rfl rfl)
theorem dX1_sinkingBy_95 : decode cX1_sinkingBy 95 = .ok (.iload_n 2, 1) := dk_28 (dk_at dksX1_sinkingBy_4 3 rfl rfl)
theorem dX1_sinkingBy_96 : decode cX1_sinkingBy 96 = .ok (.ireturn, 1) := dk_172 (dk_at dksX1_sinkingBy_4 4 rfl rfl)
abbrev cX1_afloat : ByteArray := prog_6_method_7_code
def yX1_afloat : MethodName := ⟨RX1, "afloat", "()I"⟩
def dkwX1_afloat_1 : List UInt8 := [120, 167, 0, 4, 3, 128, 60, 132, 2, 1, 167, 255, 226, 27, 172]
abbrev dktX1_afloat_1 : List UInt8 := dkwX1_afloat_1 ++ []
def dkwX1_afloat_0 : List UInt8 := [3, 60, 3, 61, 28, 42, 180, 0, 70, 162, 0, 28, 27, 42, 180, 0, 33, 28, 46, 154, 0, 9, 4, 28]
abbrev dktX1_afloat_0 : List UInt8 := dkwX1_afloat_0 ++ dktX1_afloat_1
theorem dksX1_afloat_0 : cX1_afloat.data.toList.drop 0 = dktX1_afloat_0 := by decide +kernel
theorem dksX1_afloat_1 : cX1_afloat.data.toList.drop 24 = dktX1_afloat_1 := dk_seg dksX1_afloat_0 24 rfl rfl
theorem dX1_afloat_0 : decode cX1_afloat 0 = .ok (.iconst 0, 1) := dk_3 (dk_at dksX1_afloat_0 0 rfl rfl)
theorem dX1_afloat_1 : decode cX1_afloat 1 = .ok (.istore_n 1, 1) := dk_60 (dk_at dksX1_afloat_0 1 rfl rfl)
theorem dX1_afloat_2 : decode cX1_afloat 2 = .ok (.iconst 0, 1) := dk_3 (dk_at dksX1_afloat_0 2 rfl rfl)
theorem dX1_afloat_3 : decode cX1_afloat 3 = .ok (.istore_n 2, 1) := dk_61 (dk_at dksX1_afloat_0 3 rfl rfl)
theorem dX1_afloat_4 : decode cX1_afloat 4 = .ok (.iload_n 2, 1) := dk_28 (dk_at dksX1_afloat_0 4 rfl rfl)
theorem dX1_afloat_5 : decode cX1_afloat 5 = .ok (.aload_n 0, 1) := dk_42 (dk_at dksX1_afloat_0 5 rfl rfl)
theorem dX1_afloat_6 : decode cX1_afloat 6 = .ok (.getfield 70, 3) := dk_180 0 70 (dk_at dksX1_afloat_0 6 rfl rfl)
theorem dX1_afloat_9 : decode cX1_afloat 9 = .ok (.if_icmp .ge 28, 3) := dk_162 0 28 (dk_at dksX1_afloat_0 9 rfl rfl)
theorem dX1_afloat_12 : decode cX1_afloat 12 = .ok (.iload_n 1, 1) := dk_27 (dk_at dksX1_afloat_0 12 rfl rfl)
theorem dX1_afloat_13 : decode cX1_afloat 13 = .ok (.aload_n 0, 1) := dk_42 (dk_at dksX1_afloat_0 13 rfl rfl)
theorem dX1_afloat_14 : decode cX1_afloat 14 = .ok (.getfield 33, 3) := dk_180 0 33 (dk_at dksX1_afloat_0 14 rfl rfl)
theorem dX1_afloat_17 : decode cX1_afloat 17 = .ok (.iload_n 2, 1) := dk_28 (dk_at dksX1_afloat_0 17 rfl rfl)
theorem dX1_afloat_18 : decode cX1_afloat 18 = .ok (.iaload, 1) := dk_46 (dk_at dksX1_afloat_0 18 rfl rfl)
theorem dX1_afloat_19 : decode cX1_afloat 19 = .ok (.ifCond .ne 9, 3) := dk_154 0 9 (dk_at dksX1_afloat_0 19 rfl rfl)
theorem dX1_afloat_22 : decode cX1_afloat 22 = .ok (.iconst 1, 1) := dk_4 (dk_at dksX1_afloat_0 22 rfl rfl)
theorem dX1_afloat_23 : decode cX1_afloat 23 = .ok (.iload_n 2, 1) := dk_28 (dk_at dksX1_afloat_0 23 rfl rfl)
theorem dX1_afloat_24 : decode cX1_afloat 24 = .ok (.ishl, 1) := dk_120 (dk_at dksX1_afloat_1 0 rfl rfl)
theorem dX1_afloat_25 : decode cX1_afloat 25 = .ok (.goto 4, 3) := dk_167 0 4 (dk_at dksX1_afloat_1 1 rfl rfl)
theorem dX1_afloat_28 : decode cX1_afloat 28 = .ok (.iconst 0, 1) := dk_3 (dk_at dksX1_afloat_1 4 rfl rfl)
theorem dX1_afloat_29 : decode cX1_afloat 29 = .ok (.ior, 1) := dk_128 (dk_at dksX1_afloat_1 5 rfl rfl)
theorem dX1_afloat_30 : decode cX1_afloat 30 = .ok (.istore_n 1, 1) := dk_60 (dk_at dksX1_afloat_1 6 rfl rfl)
theorem dX1_afloat_31 : decode cX1_afloat 31 = .ok (.iinc 2 1, 3) := dk_132 2 1 (dk_at dksX1_afloat_1 7 rfl rfl)
theorem dX1_afloat_34 : decode cX1_afloat 34 = .ok (.goto (-30), 3) := dk_167 255 226 (dk_at dksX1_afloat_1 10 rfl rfl)
theorem dX1_afloat_37 : decode cX1_afloat 37 = .ok (.iload_n 1, 1) := dk_27 (dk_at dksX1_afloat_1 13 rfl rfl)
theorem dX1_afloat_38 : decode cX1_afloat 38 = .ok (.ireturn, 1) := dk_172 (dk_at dksX1_afloat_1 14 rfl rfl)
theorem q139 : (Jvm.Cond.initialized "PartyRaft$Flow") ∈ lw_all := lw_g (lw_at lw_m1 2 rfl) rfl
theorem q173 : (Jvm.Cond.instantiable "PartyRaft$Flow" (29 : Nat)) ∈ lw_all := lw_g (lw_at lw_m1 36 rfl) rfl
theorem q175 : (Jvm.Cond.instanceMethod ({ cls := "PartyRaft$Flow", name := "<init>", desc := "()V" } : Jvm.MethodName)) ∈ lw_all := lw_g (lw_at lw_m1 38 rfl) rfl
theorem q176 : (Jvm.Cond.code ({ cls := "PartyRaft$Flow", name := "<init>", desc := "()V" } : Jvm.MethodName) prog_6_method_1_code (1 : Nat) (Option.none : Option Jvm.ClassFile.FieldType)) ∈ lw_all := lw_g (lw_at lw_m1 39 rfl) rfl
theorem q177 : (Jvm.Cond.methodLink "PartyRaft$Flow" (3 : Nat) ({ cls := "java/lang/Object", name := "<init>", desc := "()V" } : Jvm.MethodName)) ∈ lw_all := lw_g (lw_at lw_m1 40 rfl) rfl
theorem q178 : (Jvm.Cond.fieldLink "PartyRaft$Flow" (63 : Nat) "PartyRaft$Flow" "miles" "I") ∈ lw_all := lw_g (lw_at lw_m1 41 rfl) rfl
theorem q181 : (Jvm.Cond.fieldLink "PartyRaft$Flow" (67 : Nat) "PartyRaft$Flow" "ownerMany" "I") ∈ lw_all := lw_g (lw_at lw_m1 44 rfl) rfl
theorem q184 : (Jvm.Cond.fieldLink "PartyRaft$Flow" (70 : Nat) "PartyRaft$Flow" "thingMany" "I") ∈ lw_all := lw_g (lw_at lw_m1 47 rfl) rfl
theorem q187 : (Jvm.Cond.fieldLink "PartyRaft$Flow" (73 : Nat) "PartyRaft$Flow" "rapidMany" "I") ∈ lw_all := lw_g (lw_at lw_m1 50 rfl) rfl
theorem q190 : (Jvm.Cond.fieldLink "PartyRaft$Flow" (95 : Nat) "PartyRaft$Flow" "store" "I") ∈ lw_all := lw_g (lw_at lw_m1 53 rfl) rfl
theorem q193 : (Jvm.Cond.fieldLink "PartyRaft$Flow" (98 : Nat) "PartyRaft$Flow" "ropeMany" "I") ∈ lw_all := lw_g (lw_at lw_m1 56 rfl) rfl
theorem q196 : (Jvm.Cond.fieldLink "PartyRaft$Flow" (92 : Nat) "PartyRaft$Flow" "now" "I") ∈ lw_all := lw_g (lw_at lw_m1 59 rfl) rfl
theorem q198 : (Jvm.Cond.fieldLink "PartyRaft$Flow" (76 : Nat) "PartyRaft$Flow" "undoMany" "I") ∈ lw_all := lw_g (lw_at lw_m1 61 rfl) rfl
theorem q200 : (Jvm.Cond.fieldLink "PartyRaft$Flow" (79 : Nat) "PartyRaft$Flow" "offerMany" "I") ∈ lw_all := lw_g (lw_at lw_m1 63 rfl) rfl
theorem q202 : (Jvm.Cond.fieldLink "PartyRaft$Flow" (9 : Nat) "PartyRaft$Flow" "landing" "[I") ∈ lw_all := lw_g (lw_at lw_m1 65 rfl) rfl
theorem q205 : (Jvm.Cond.fieldLink "PartyRaft$Flow" (15 : Nat) "PartyRaft$Flow" "mass" "[I") ∈ lw_all := lw_g (lw_at lw_m1 68 rfl) rfl
theorem q208 : (Jvm.Cond.fieldLink "PartyRaft$Flow" (18 : Nat) "PartyRaft$Flow" "place" "[I") ∈ lw_all := lw_g (lw_at lw_m1 71 rfl) rfl
theorem q210 : (Jvm.Cond.fieldLink "PartyRaft$Flow" (21 : Nat) "PartyRaft$Flow" "owner" "[I") ∈ lw_all := lw_g (lw_at lw_m1 73 rfl) rfl
theorem q213 : (Jvm.Cond.fieldLink "PartyRaft$Flow" (24 : Nat) "PartyRaft$Flow" "weight" "[I") ∈ lw_all := lw_g (lw_at lw_m1 76 rfl) rfl
theorem q216 : (Jvm.Cond.fieldLink "PartyRaft$Flow" (27 : Nat) "PartyRaft$Flow" "bears" "[I") ∈ lw_all := lw_g (lw_at lw_m1 79 rfl) rfl
theorem q219 : (Jvm.Cond.fieldLink "PartyRaft$Flow" (30 : Nat) "PartyRaft$Flow" "soak" "[I") ∈ lw_all := lw_g (lw_at lw_m1 82 rfl) rfl
theorem q222 : (Jvm.Cond.fieldLink "PartyRaft$Flow" (33 : Nat) "PartyRaft$Flow" "state" "[I") ∈ lw_all := lw_g (lw_at lw_m1 85 rfl) rfl
theorem q224 : (Jvm.Cond.fieldLink "PartyRaft$Flow" (36 : Nat) "PartyRaft$Flow" "sunkAt" "[I") ∈ lw_all := lw_g (lw_at lw_m1 87 rfl) rfl
theorem q226 : (Jvm.Cond.fieldLink "PartyRaft$Flow" (39 : Nat) "PartyRaft$Flow" "ropeA" "[I") ∈ lw_all := lw_g (lw_at lw_m1 89 rfl) rfl
theorem q228 : (Jvm.Cond.fieldLink "PartyRaft$Flow" (42 : Nat) "PartyRaft$Flow" "ropeB" "[I") ∈ lw_all := lw_g (lw_at lw_m1 91 rfl) rfl
theorem q230 : (Jvm.Cond.fieldLink "PartyRaft$Flow" (45 : Nat) "PartyRaft$Flow" "strength" "[I") ∈ lw_all := lw_g (lw_at lw_m1 93 rfl) rfl
theorem q232 : (Jvm.Cond.fieldLink "PartyRaft$Flow" (48 : Nat) "PartyRaft$Flow" "rapidMile" "[I") ∈ lw_all := lw_g (lw_at lw_m1 95 rfl) rfl
theorem q234 : (Jvm.Cond.fieldLink "PartyRaft$Flow" (51 : Nat) "PartyRaft$Flow" "force" "[I") ∈ lw_all := lw_g (lw_at lw_m1 97 rfl) rfl
theorem q236 : (Jvm.Cond.fieldLink "PartyRaft$Flow" (54 : Nat) "PartyRaft$Flow" "offer" "[I") ∈ lw_all := lw_g (lw_at lw_m1 99 rfl) rfl
theorem q238 : (Jvm.Cond.fieldLink "PartyRaft$Flow" (57 : Nat) "PartyRaft$Flow" "undo" "[I") ∈ lw_all := lw_g (lw_at lw_m1 101 rfl) rfl
theorem q240 : (Jvm.Cond.fieldLink "PartyRaft$Flow" (158 : Nat) "PartyRaft$Flow" "sankMany" "I") ∈ lw_all := lw_g (lw_at lw_m1 103 rfl) rfl
theorem q241 : (Jvm.Cond.fieldLink "PartyRaft$Flow" (149 : Nat) "PartyRaft$Flow" "landedMany" "I") ∈ lw_all := lw_g (lw_at lw_m1 104 rfl) rfl
theorem q243 : (Jvm.Cond.fieldLink "PartyRaft$Flow" (143 : Nat) "PartyRaft$Flow" "brokeMany" "I") ∈ lw_all := lw_g (lw_at lw_m1 106 rfl) rfl
theorem q245 : (Jvm.Cond.fieldLink "PartyRaft$Flow" (60 : Nat) "PartyRaft$Flow" "pieceAt" "[I") ∈ lw_all := lw_g (lw_at lw_m1 108 rfl) rfl
theorem q247 : (Jvm.Cond.lays "PartyRaft$Flow" "PartyRaft$Flow" "miles" "I") ∈ lw_all := lw_g (lw_at lw_m1 110 rfl) rfl
theorem q248 : (Jvm.Cond.soleField "PartyRaft$Flow" "miles") ∈ lw_all := lw_g (lw_at lw_m1 111 rfl) rfl
theorem q249 : (Jvm.Cond.lays "PartyRaft$Flow" "PartyRaft$Flow" "ownerMany" "I") ∈ lw_all := lw_g (lw_at lw_m1 112 rfl) rfl
theorem q250 : (Jvm.Cond.soleField "PartyRaft$Flow" "ownerMany") ∈ lw_all := lw_g (lw_at lw_m1 113 rfl) rfl
theorem q251 : (Jvm.Cond.lays "PartyRaft$Flow" "PartyRaft$Flow" "thingMany" "I") ∈ lw_all := lw_g (lw_at lw_m1 114 rfl) rfl
theorem q252 : (Jvm.Cond.soleField "PartyRaft$Flow" "thingMany") ∈ lw_all := lw_g (lw_at lw_m1 115 rfl) rfl
theorem q253 : (Jvm.Cond.lays "PartyRaft$Flow" "PartyRaft$Flow" "rapidMany" "I") ∈ lw_all := lw_g (lw_at lw_m1 116 rfl) rfl
theorem q254 : (Jvm.Cond.soleField "PartyRaft$Flow" "rapidMany") ∈ lw_all := lw_g (lw_at lw_m1 117 rfl) rfl
theorem q255 : (Jvm.Cond.lays "PartyRaft$Flow" "PartyRaft$Flow" "store" "I") ∈ lw_all := lw_g (lw_at lw_m1 118 rfl) rfl
theorem q256 : (Jvm.Cond.soleField "PartyRaft$Flow" "store") ∈ lw_all := lw_g (lw_at lw_m1 119 rfl) rfl
theorem q257 : (Jvm.Cond.lays "PartyRaft$Flow" "PartyRaft$Flow" "ropeMany" "I") ∈ lw_all := lw_g (lw_at lw_m1 120 rfl) rfl
theorem q258 : (Jvm.Cond.soleField "PartyRaft$Flow" "ropeMany") ∈ lw_all := lw_g (lw_at lw_m1 121 rfl) rfl
theorem q259 : (Jvm.Cond.lays "PartyRaft$Flow" "PartyRaft$Flow" "now" "I") ∈ lw_all := lw_g (lw_at lw_m1 122 rfl) rfl
theorem q260 : (Jvm.Cond.soleField "PartyRaft$Flow" "now") ∈ lw_all := lw_g (lw_at lw_m1 123 rfl) rfl
theorem q261 : (Jvm.Cond.lays "PartyRaft$Flow" "PartyRaft$Flow" "undoMany" "I") ∈ lw_all := lw_g (lw_at lw_m1 124 rfl) rfl
theorem q262 : (Jvm.Cond.soleField "PartyRaft$Flow" "undoMany") ∈ lw_all := lw_g (lw_at lw_m1 125 rfl) rfl
theorem q263 : (Jvm.Cond.lays "PartyRaft$Flow" "PartyRaft$Flow" "offerMany" "I") ∈ lw_all := lw_g (lw_at lw_m1 126 rfl) rfl
theorem q264 : (Jvm.Cond.soleField "PartyRaft$Flow" "offerMany") ∈ lw_all := lw_g (lw_at lw_m1 127 rfl) rfl
theorem q265 : (Jvm.Cond.laysFinal "PartyRaft$Flow" "PartyRaft$Flow" "landing" "[I") ∈ lw_all := lw_g (lw_at lw_m1 128 rfl) rfl
theorem q266 : (Jvm.Cond.soleField "PartyRaft$Flow" "landing") ∈ lw_all := lw_g (lw_at lw_m1 129 rfl) rfl
theorem q267 : (Jvm.Cond.laysFinal "PartyRaft$Flow" "PartyRaft$Flow" "mass" "[I") ∈ lw_all := lw_g (lw_at lw_m1 130 rfl) rfl
theorem q268 : (Jvm.Cond.soleField "PartyRaft$Flow" "mass") ∈ lw_all := lw_g (lw_at lw_m1 131 rfl) rfl
theorem q269 : (Jvm.Cond.laysFinal "PartyRaft$Flow" "PartyRaft$Flow" "place" "[I") ∈ lw_all := lw_g (lw_at lw_m1 132 rfl) rfl
theorem q270 : (Jvm.Cond.soleField "PartyRaft$Flow" "place") ∈ lw_all := lw_g (lw_at lw_m1 133 rfl) rfl
theorem q271 : (Jvm.Cond.laysFinal "PartyRaft$Flow" "PartyRaft$Flow" "owner" "[I") ∈ lw_all := lw_g (lw_at lw_m1 134 rfl) rfl
theorem q272 : (Jvm.Cond.soleField "PartyRaft$Flow" "owner") ∈ lw_all := lw_g (lw_at lw_m1 135 rfl) rfl
theorem q273 : (Jvm.Cond.laysFinal "PartyRaft$Flow" "PartyRaft$Flow" "weight" "[I") ∈ lw_all := lw_g (lw_at lw_m1 136 rfl) rfl
theorem q274 : (Jvm.Cond.soleField "PartyRaft$Flow" "weight") ∈ lw_all := lw_g (lw_at lw_m1 137 rfl) rfl
theorem q275 : (Jvm.Cond.laysFinal "PartyRaft$Flow" "PartyRaft$Flow" "bears" "[I") ∈ lw_all := lw_g (lw_at lw_m1 138 rfl) rfl
theorem q276 : (Jvm.Cond.soleField "PartyRaft$Flow" "bears") ∈ lw_all := lw_g (lw_at lw_m1 139 rfl) rfl
theorem q277 : (Jvm.Cond.laysFinal "PartyRaft$Flow" "PartyRaft$Flow" "soak" "[I") ∈ lw_all := lw_g (lw_at lw_m1 140 rfl) rfl
theorem q278 : (Jvm.Cond.soleField "PartyRaft$Flow" "soak") ∈ lw_all := lw_g (lw_at lw_m1 141 rfl) rfl
theorem q279 : (Jvm.Cond.laysFinal "PartyRaft$Flow" "PartyRaft$Flow" "state" "[I") ∈ lw_all := lw_g (lw_at lw_m1 142 rfl) rfl
theorem q280 : (Jvm.Cond.soleField "PartyRaft$Flow" "state") ∈ lw_all := lw_g (lw_at lw_m1 143 rfl) rfl
theorem q281 : (Jvm.Cond.laysFinal "PartyRaft$Flow" "PartyRaft$Flow" "sunkAt" "[I") ∈ lw_all := lw_g (lw_at lw_m1 144 rfl) rfl
theorem q282 : (Jvm.Cond.soleField "PartyRaft$Flow" "sunkAt") ∈ lw_all := lw_g (lw_at lw_m1 145 rfl) rfl
theorem q283 : (Jvm.Cond.laysFinal "PartyRaft$Flow" "PartyRaft$Flow" "ropeA" "[I") ∈ lw_all := lw_g (lw_at lw_m1 146 rfl) rfl
theorem q284 : (Jvm.Cond.soleField "PartyRaft$Flow" "ropeA") ∈ lw_all := lw_g (lw_at lw_m1 147 rfl) rfl
theorem q285 : (Jvm.Cond.laysFinal "PartyRaft$Flow" "PartyRaft$Flow" "ropeB" "[I") ∈ lw_all := lw_g (lw_at lw_m1 148 rfl) rfl
theorem q286 : (Jvm.Cond.soleField "PartyRaft$Flow" "ropeB") ∈ lw_all := lw_g (lw_at lw_m1 149 rfl) rfl
theorem q287 : (Jvm.Cond.laysFinal "PartyRaft$Flow" "PartyRaft$Flow" "strength" "[I") ∈ lw_all := lw_g (lw_at lw_m1 150 rfl) rfl
theorem q288 : (Jvm.Cond.soleField "PartyRaft$Flow" "strength") ∈ lw_all := lw_g (lw_at lw_m1 151 rfl) rfl
theorem q289 : (Jvm.Cond.laysFinal "PartyRaft$Flow" "PartyRaft$Flow" "rapidMile" "[I") ∈ lw_all := lw_g (lw_at lw_m1 152 rfl) rfl
theorem q290 : (Jvm.Cond.soleField "PartyRaft$Flow" "rapidMile") ∈ lw_all := lw_g (lw_at lw_m1 153 rfl) rfl
theorem q291 : (Jvm.Cond.laysFinal "PartyRaft$Flow" "PartyRaft$Flow" "force" "[I") ∈ lw_all := lw_g (lw_at lw_m1 154 rfl) rfl
theorem q292 : (Jvm.Cond.soleField "PartyRaft$Flow" "force") ∈ lw_all := lw_g (lw_at lw_m1 155 rfl) rfl
theorem q293 : (Jvm.Cond.laysFinal "PartyRaft$Flow" "PartyRaft$Flow" "offer" "[I") ∈ lw_all := lw_g (lw_at lw_m1 156 rfl) rfl
theorem q294 : (Jvm.Cond.soleField "PartyRaft$Flow" "offer") ∈ lw_all := lw_g (lw_at lw_m1 157 rfl) rfl
theorem q295 : (Jvm.Cond.laysFinal "PartyRaft$Flow" "PartyRaft$Flow" "undo" "[I") ∈ lw_all := lw_g (lw_at lw_m1 158 rfl) rfl
theorem q296 : (Jvm.Cond.soleField "PartyRaft$Flow" "undo") ∈ lw_all := lw_g (lw_at lw_m1 159 rfl) rfl
theorem q297 : (Jvm.Cond.lays "PartyRaft$Flow" "PartyRaft$Flow" "sankMany" "I") ∈ lw_all := lw_g (lw_at lw_m1 160 rfl) rfl
theorem q298 : (Jvm.Cond.soleField "PartyRaft$Flow" "sankMany") ∈ lw_all := lw_g (lw_at lw_m1 161 rfl) rfl
theorem q299 : (Jvm.Cond.lays "PartyRaft$Flow" "PartyRaft$Flow" "landedMany" "I") ∈ lw_all := lw_g (lw_at lw_m1 162 rfl) rfl
theorem q300 : (Jvm.Cond.soleField "PartyRaft$Flow" "landedMany") ∈ lw_all := lw_g (lw_at lw_m1 163 rfl) rfl
theorem q301 : (Jvm.Cond.lays "PartyRaft$Flow" "PartyRaft$Flow" "brokeMany" "I") ∈ lw_all := lw_g (lw_at lw_m1 164 rfl) rfl
theorem q302 : (Jvm.Cond.soleField "PartyRaft$Flow" "brokeMany") ∈ lw_all := lw_g (lw_at lw_m1 165 rfl) rfl
theorem q303 : (Jvm.Cond.laysFinal "PartyRaft$Flow" "PartyRaft$Flow" "pieceAt" "[I") ∈ lw_all := lw_g (lw_at lw_m1 166 rfl) rfl
theorem q304 : (Jvm.Cond.soleField "PartyRaft$Flow" "pieceAt") ∈ lw_all := lw_g (lw_at lw_m1 167 rfl) rfl
theorem q305 : (Jvm.Cond.superclass "PartyRaft$Flow" "java/lang/Object") ∈ lw_all := lw_g (lw_at lw_m1 168 rfl) rfl
theorem q552 : (Jvm.Cond.instanceMethod ({ cls := "PartyRaft$Flow", name := "copies", desc := "(LPartyRaft$Flow;)LPartyRaft$Flow;" } : Jvm.MethodName)) ∈ lw_all := lw_g (lw_at lw_m2 175 rfl) rfl
theorem q553 : (Jvm.Cond.selects "PartyRaft$Flow" ({ cls := "PartyRaft$Flow", name := "copies", desc := "(LPartyRaft$Flow;)LPartyRaft$Flow;" } : Jvm.MethodName) ({ cls := "PartyRaft$Flow", name := "copies", desc := "(LPartyRaft$Flow;)LPartyRaft$Flow;" } : Jvm.MethodName)) ∈ lw_all := lw_g (lw_at lw_m2 176 rfl) rfl
theorem q554 : (Jvm.Cond.code ({ cls := "PartyRaft$Flow", name := "copies", desc := "(LPartyRaft$Flow;)LPartyRaft$Flow;" } : Jvm.MethodName) prog_6_method_2_code (2 : Nat) (Option.some (Jvm.ClassFile.FieldType.object "PartyRaft$Flow"))) ∈ lw_all := lw_g (lw_at lw_m2 177 rfl) rfl
theorem q555 : (Jvm.Cond.methodLink "PartyRaft$Flow" (82 : Nat) ({ cls := "java/lang/System", name := "arraycopy", desc := "(Ljava/lang/Object;ILjava/lang/Object;II)V" } : Jvm.MethodName)) ∈ lw_all := lw_g (lw_at lw_m2 178 rfl) rfl
theorem q558 : (Jvm.Cond.methodLink "PartyRaft$Flow" (88 : Nat) ({ cls := "PartyRaft$Flow", name := "standsAs", desc := "(LPartyRaft$Flow;)LPartyRaft$Flow;" } : Jvm.MethodName)) ∈ lw_all := lw_g (lw_at lw_m2 181 rfl) rfl
theorem q559 : (Jvm.Cond.instanceMethod ({ cls := "PartyRaft$Flow", name := "standsAs", desc := "(LPartyRaft$Flow;)LPartyRaft$Flow;" } : Jvm.MethodName)) ∈ lw_all := lw_g (lw_at lw_m2 182 rfl) rfl
theorem q560 : (Jvm.Cond.selects "PartyRaft$Flow" ({ cls := "PartyRaft$Flow", name := "standsAs", desc := "(LPartyRaft$Flow;)LPartyRaft$Flow;" } : Jvm.MethodName) ({ cls := "PartyRaft$Flow", name := "standsAs", desc := "(LPartyRaft$Flow;)LPartyRaft$Flow;" } : Jvm.MethodName)) ∈ lw_all := lw_g (lw_at lw_m2 183 rfl) rfl
theorem q561 : (Jvm.Cond.code ({ cls := "PartyRaft$Flow", name := "standsAs", desc := "(LPartyRaft$Flow;)LPartyRaft$Flow;" } : Jvm.MethodName) prog_6_method_3_code (2 : Nat) (Option.some (Jvm.ClassFile.FieldType.object "PartyRaft$Flow"))) ∈ lw_all := lw_g (lw_at lw_m2 184 rfl) rfl
theorem q662 : (Jvm.Cond.instanceMethod ({ cls := "PartyRaft$Flow", name := "ropeOf", desc := "(II)I" } : Jvm.MethodName)) ∈ lw_all := lw_g (lw_at lw_m3 45 rfl) rfl
theorem q663 : (Jvm.Cond.selects "PartyRaft$Flow" ({ cls := "PartyRaft$Flow", name := "ropeOf", desc := "(II)I" } : Jvm.MethodName) ({ cls := "PartyRaft$Flow", name := "ropeOf", desc := "(II)I" } : Jvm.MethodName)) ∈ lw_all := lw_g (lw_at lw_m3 46 rfl) rfl
theorem q664 : (Jvm.Cond.code ({ cls := "PartyRaft$Flow", name := "ropeOf", desc := "(II)I" } : Jvm.MethodName) prog_6_method_18_code (4 : Nat) (Option.some Jvm.ClassFile.FieldType.int)) ∈ lw_all := lw_g (lw_at lw_m3 47 rfl) rfl
theorem q665 : (Jvm.Cond.methodLink "PartyRaft$Flow" (135 : Nat) ({ cls := "java/lang/Math", name := "min", desc := "(II)I" } : Jvm.MethodName)) ∈ lw_all := lw_g (lw_at lw_m3 48 rfl) rfl
theorem q668 : (Jvm.Cond.methodLink "PartyRaft$Flow" (140 : Nat) ({ cls := "java/lang/Math", name := "max", desc := "(II)I" } : Jvm.MethodName)) ∈ lw_all := lw_g (lw_at lw_m3 51 rfl) rfl
theorem q672 : (Jvm.Cond.instanceMethod ({ cls := "PartyRaft$Flow", name := "binds", desc := "(III)V" } : Jvm.MethodName)) ∈ lw_all := lw_g (lw_at lw_m3 55 rfl) rfl
theorem q673 : (Jvm.Cond.selects "PartyRaft$Flow" ({ cls := "PartyRaft$Flow", name := "binds", desc := "(III)V" } : Jvm.MethodName) ({ cls := "PartyRaft$Flow", name := "binds", desc := "(III)V" } : Jvm.MethodName)) ∈ lw_all := lw_g (lw_at lw_m3 56 rfl) rfl
theorem q674 : (Jvm.Cond.code ({ cls := "PartyRaft$Flow", name := "binds", desc := "(III)V" } : Jvm.MethodName) prog_6_method_19_code (4 : Nat) (Option.none : Option Jvm.ClassFile.FieldType)) ∈ lw_all := lw_g (lw_at lw_m3 57 rfl) rfl
theorem q680 : (Jvm.Cond.instanceMethod ({ cls := "PartyRaft$Flow", name := "forceAt", desc := "(I)I" } : Jvm.MethodName)) ∈ lw_all := lw_g (lw_at lw_m3 63 rfl) rfl
theorem q681 : (Jvm.Cond.selects "PartyRaft$Flow" ({ cls := "PartyRaft$Flow", name := "forceAt", desc := "(I)I" } : Jvm.MethodName) ({ cls := "PartyRaft$Flow", name := "forceAt", desc := "(I)I" } : Jvm.MethodName)) ∈ lw_all := lw_g (lw_at lw_m3 64 rfl) rfl
theorem q682 : (Jvm.Cond.code ({ cls := "PartyRaft$Flow", name := "forceAt", desc := "(I)I" } : Jvm.MethodName) prog_6_method_22_code (3 : Nat) (Option.some Jvm.ClassFile.FieldType.int)) ∈ lw_all := lw_g (lw_at lw_m3 65 rfl) rfl
theorem q878 : (Jvm.Cond.instanceMethod ({ cls := "PartyRaft$Flow", name := "allRopes", desc := "()I" } : Jvm.MethodName)) ∈ lw_all := lw_g (lw_at lw_m4 21 rfl) rfl
theorem q879 : (Jvm.Cond.selects "PartyRaft$Flow" ({ cls := "PartyRaft$Flow", name := "allRopes", desc := "()I" } : Jvm.MethodName) ({ cls := "PartyRaft$Flow", name := "allRopes", desc := "()I" } : Jvm.MethodName)) ∈ lw_all := lw_g (lw_at lw_m4 22 rfl) rfl
theorem q880 : (Jvm.Cond.code ({ cls := "PartyRaft$Flow", name := "allRopes", desc := "()I" } : Jvm.MethodName) prog_6_method_9_code (1 : Nat) (Option.some Jvm.ClassFile.FieldType.int)) ∈ lw_all := lw_g (lw_at lw_m4 23 rfl) rfl
theorem q882 : (Jvm.Cond.instanceMethod ({ cls := "PartyRaft$Flow", name := "parts", desc := "(I)V" } : Jvm.MethodName)) ∈ lw_all := lw_g (lw_at lw_m4 25 rfl) rfl
theorem q883 : (Jvm.Cond.selects "PartyRaft$Flow" ({ cls := "PartyRaft$Flow", name := "parts", desc := "(I)V" } : Jvm.MethodName) ({ cls := "PartyRaft$Flow", name := "parts", desc := "(I)V" } : Jvm.MethodName)) ∈ lw_all := lw_g (lw_at lw_m4 26 rfl) rfl
theorem q884 : (Jvm.Cond.code ({ cls := "PartyRaft$Flow", name := "parts", desc := "(I)V" } : Jvm.MethodName) prog_6_method_12_code (3 : Nat) (Option.none : Option Jvm.ClassFile.FieldType)) ∈ lw_all := lw_g (lw_at lw_m4 27 rfl) rfl
theorem q885 : (Jvm.Cond.methodLink "PartyRaft$Flow" (109 : Nat) ({ cls := "PartyRaft$Flow", name := "pieceBy", desc := "(II)I" } : Jvm.MethodName)) ∈ lw_all := lw_g (lw_at lw_m4 28 rfl) rfl
theorem q886 : (Jvm.Cond.instanceMethod ({ cls := "PartyRaft$Flow", name := "pieceBy", desc := "(II)I" } : Jvm.MethodName)) ∈ lw_all := lw_g (lw_at lw_m4 29 rfl) rfl
theorem q887 : (Jvm.Cond.selects "PartyRaft$Flow" ({ cls := "PartyRaft$Flow", name := "pieceBy", desc := "(II)I" } : Jvm.MethodName) ({ cls := "PartyRaft$Flow", name := "pieceBy", desc := "(II)I" } : Jvm.MethodName)) ∈ lw_all := lw_g (lw_at lw_m4 30 rfl) rfl
theorem q888 : (Jvm.Cond.code ({ cls := "PartyRaft$Flow", name := "pieceBy", desc := "(II)I" } : Jvm.MethodName) prog_6_method_8_code (6 : Nat) (Option.some Jvm.ClassFile.FieldType.int)) ∈ lw_all := lw_g (lw_at lw_m4 31 rfl) rfl
theorem q889 : (Jvm.Cond.methodLinkNest "PartyRaft$Flow" (101 : Nat) ({ cls := "PartyRaft", name := "has", desc := "(II)Z" } : Jvm.MethodName) "PartyRaft") ∈ lw_tbl := lw_at lw_m4 32 rfl
theorem q893 : (Jvm.Cond.instanceMethod ({ cls := "PartyRaft$Flow", name := "rides", desc := "(I)I" } : Jvm.MethodName)) ∈ lw_all := lw_g (lw_at lw_m4 36 rfl) rfl
theorem q894 : (Jvm.Cond.selects "PartyRaft$Flow" ({ cls := "PartyRaft$Flow", name := "rides", desc := "(I)I" } : Jvm.MethodName) ({ cls := "PartyRaft$Flow", name := "rides", desc := "(I)I" } : Jvm.MethodName)) ∈ lw_all := lw_g (lw_at lw_m4 37 rfl) rfl
theorem q895 : (Jvm.Cond.code ({ cls := "PartyRaft$Flow", name := "rides", desc := "(I)I" } : Jvm.MethodName) prog_6_method_13_code (7 : Nat) (Option.some Jvm.ClassFile.FieldType.int)) ∈ lw_all := lw_g (lw_at lw_m4 38 rfl) rfl
theorem q896 : (Jvm.Cond.methodLink "PartyRaft$Flow" (113 : Nat) ({ cls := "PartyRaft$Flow", name := "ownOf", desc := "(I)I" } : Jvm.MethodName)) ∈ lw_all := lw_g (lw_at lw_m4 39 rfl) rfl
theorem q897 : (Jvm.Cond.instanceMethod ({ cls := "PartyRaft$Flow", name := "ownOf", desc := "(I)I" } : Jvm.MethodName)) ∈ lw_all := lw_g (lw_at lw_m4 40 rfl) rfl
theorem q898 : (Jvm.Cond.selects "PartyRaft$Flow" ({ cls := "PartyRaft$Flow", name := "ownOf", desc := "(I)I" } : Jvm.MethodName) ({ cls := "PartyRaft$Flow", name := "ownOf", desc := "(I)I" } : Jvm.MethodName)) ∈ lw_all := lw_g (lw_at lw_m4 41 rfl) rfl
theorem q899 : (Jvm.Cond.code ({ cls := "PartyRaft$Flow", name := "ownOf", desc := "(I)I" } : Jvm.MethodName) prog_6_method_11_code (4 : Nat) (Option.some Jvm.ClassFile.FieldType.int)) ∈ lw_all := lw_g (lw_at lw_m4 42 rfl) rfl
theorem q900 : (Jvm.Cond.methodLink "PartyRaft$Flow" (117 : Nat) ({ cls := "java/lang/Integer", name := "bitCount", desc := "(I)I" } : Jvm.MethodName)) ∈ lw_all := lw_g (lw_at lw_m4 43 rfl) rfl
theorem q919 : (Jvm.Cond.instanceMethod ({ cls := "PartyRaft$Flow", name := "isAfloat", desc := "(I)Z" } : Jvm.MethodName)) ∈ lw_all := lw_g (lw_at lw_m4 62 rfl) rfl
theorem q920 : (Jvm.Cond.selects "PartyRaft$Flow" ({ cls := "PartyRaft$Flow", name := "isAfloat", desc := "(I)Z" } : Jvm.MethodName) ({ cls := "PartyRaft$Flow", name := "isAfloat", desc := "(I)Z" } : Jvm.MethodName)) ∈ lw_all := lw_g (lw_at lw_m4 63 rfl) rfl
theorem q921 : (Jvm.Cond.code ({ cls := "PartyRaft$Flow", name := "isAfloat", desc := "(I)Z" } : Jvm.MethodName) prog_6_method_6_code (2 : Nat) (Option.some Jvm.ClassFile.FieldType.boolean)) ∈ lw_all := lw_g (lw_at lw_m4 64 rfl) rfl
theorem q923 : (Jvm.Cond.instanceMethod ({ cls := "PartyRaft$Flow", name := "pieceOf", desc := "(I)I" } : Jvm.MethodName)) ∈ lw_all := lw_g (lw_at lw_m4 66 rfl) rfl
theorem q924 : (Jvm.Cond.selects "PartyRaft$Flow" ({ cls := "PartyRaft$Flow", name := "pieceOf", desc := "(I)I" } : Jvm.MethodName) ({ cls := "PartyRaft$Flow", name := "pieceOf", desc := "(I)I" } : Jvm.MethodName)) ∈ lw_all := lw_g (lw_at lw_m4 67 rfl) rfl
theorem q925 : (Jvm.Cond.code ({ cls := "PartyRaft$Flow", name := "pieceOf", desc := "(I)I" } : Jvm.MethodName) prog_6_method_10_code (2 : Nat) (Option.some Jvm.ClassFile.FieldType.int)) ∈ lw_all := lw_g (lw_at lw_m4 68 rfl) rfl
theorem q926 : (Jvm.Cond.methodLink "PartyRaft$Flow" (105 : Nat) ({ cls := "PartyRaft$Flow", name := "allRopes", desc := "()I" } : Jvm.MethodName)) ∈ lw_all := lw_g (lw_at lw_m4 69 rfl) rfl
theorem q946 : (Jvm.Cond.instanceMethod ({ cls := "PartyRaft$Flow", name := "marginOf", desc := "(I)I" } : Jvm.MethodName)) ∈ lw_all := lw_g (lw_at lw_m4 89 rfl) rfl
theorem q947 : (Jvm.Cond.selects "PartyRaft$Flow" ({ cls := "PartyRaft$Flow", name := "marginOf", desc := "(I)I" } : Jvm.MethodName) ({ cls := "PartyRaft$Flow", name := "marginOf", desc := "(I)I" } : Jvm.MethodName)) ∈ lw_all := lw_g (lw_at lw_m4 90 rfl) rfl
theorem q948 : (Jvm.Cond.code ({ cls := "PartyRaft$Flow", name := "marginOf", desc := "(I)I" } : Jvm.MethodName) prog_6_method_16_code (2 : Nat) (Option.some Jvm.ClassFile.FieldType.int)) ∈ lw_all := lw_g (lw_at lw_m4 91 rfl) rfl
theorem q949 : (Jvm.Cond.methodLink "PartyRaft$Flow" (125 : Nat) ({ cls := "PartyRaft$Flow", name := "parts", desc := "(I)V" } : Jvm.MethodName)) ∈ lw_all := lw_g (lw_at lw_m4 92 rfl) rfl
theorem q950 : (Jvm.Cond.methodLink "PartyRaft$Flow" (129 : Nat) ({ cls := "PartyRaft$Flow", name := "bearsOf", desc := "(I)I" } : Jvm.MethodName)) ∈ lw_all := lw_g (lw_at lw_m4 93 rfl) rfl
theorem q951 : (Jvm.Cond.instanceMethod ({ cls := "PartyRaft$Flow", name := "bearsOf", desc := "(I)I" } : Jvm.MethodName)) ∈ lw_all := lw_g (lw_at lw_m4 94 rfl) rfl
theorem q952 : (Jvm.Cond.selects "PartyRaft$Flow" ({ cls := "PartyRaft$Flow", name := "bearsOf", desc := "(I)I" } : Jvm.MethodName) ({ cls := "PartyRaft$Flow", name := "bearsOf", desc := "(I)I" } : Jvm.MethodName)) ∈ lw_all := lw_g (lw_at lw_m4 95 rfl) rfl
theorem q953 : (Jvm.Cond.code ({ cls := "PartyRaft$Flow", name := "bearsOf", desc := "(I)I" } : Jvm.MethodName) prog_6_method_14_code (4 : Nat) (Option.some Jvm.ClassFile.FieldType.int)) ∈ lw_all := lw_g (lw_at lw_m4 96 rfl) rfl
theorem q954 : (Jvm.Cond.methodLink "PartyRaft$Flow" (132 : Nat) ({ cls := "PartyRaft$Flow", name := "ridersOf", desc := "(I)I" } : Jvm.MethodName)) ∈ lw_all := lw_g (lw_at lw_m4 97 rfl) rfl
theorem q955 : (Jvm.Cond.instanceMethod ({ cls := "PartyRaft$Flow", name := "ridersOf", desc := "(I)I" } : Jvm.MethodName)) ∈ lw_all := lw_g (lw_at lw_m4 98 rfl) rfl
theorem q956 : (Jvm.Cond.selects "PartyRaft$Flow" ({ cls := "PartyRaft$Flow", name := "ridersOf", desc := "(I)I" } : Jvm.MethodName) ({ cls := "PartyRaft$Flow", name := "ridersOf", desc := "(I)I" } : Jvm.MethodName)) ∈ lw_all := lw_g (lw_at lw_m4 99 rfl) rfl
theorem q957 : (Jvm.Cond.code ({ cls := "PartyRaft$Flow", name := "ridersOf", desc := "(I)I" } : Jvm.MethodName) prog_6_method_15_code (5 : Nat) (Option.some Jvm.ClassFile.FieldType.int)) ∈ lw_all := lw_g (lw_at lw_m4 100 rfl) rfl
theorem q958 : (Jvm.Cond.methodLink "PartyRaft$Flow" (122 : Nat) ({ cls := "PartyRaft$Flow", name := "rides", desc := "(I)I" } : Jvm.MethodName)) ∈ lw_all := lw_g (lw_at lw_m4 101 rfl) rfl
theorem q964 : (Jvm.Cond.instanceMethod ({ cls := "PartyRaft$Flow", name := "takes", desc := "(I)V" } : Jvm.MethodName)) ∈ lw_all := lw_g (lw_at lw_m4 107 rfl) rfl
theorem q965 : (Jvm.Cond.selects "PartyRaft$Flow" ({ cls := "PartyRaft$Flow", name := "takes", desc := "(I)V" } : Jvm.MethodName) ({ cls := "PartyRaft$Flow", name := "takes", desc := "(I)V" } : Jvm.MethodName)) ∈ lw_all := lw_g (lw_at lw_m4 108 rfl) rfl
theorem q966 : (Jvm.Cond.code ({ cls := "PartyRaft$Flow", name := "takes", desc := "(I)V" } : Jvm.MethodName) prog_6_method_5_code (3 : Nat) (Option.none : Option Jvm.ClassFile.FieldType)) ∈ lw_all := lw_g (lw_at lw_m4 109 rfl) rfl
theorem q977 : (Jvm.Cond.instanceMethod ({ cls := "PartyRaft$Flow", name := "lays", desc := "(I)V" } : Jvm.MethodName)) ∈ lw_all := lw_g (lw_at lw_m4 120 rfl) rfl
theorem q978 : (Jvm.Cond.selects "PartyRaft$Flow" ({ cls := "PartyRaft$Flow", name := "lays", desc := "(I)V" } : Jvm.MethodName) ({ cls := "PartyRaft$Flow", name := "lays", desc := "(I)V" } : Jvm.MethodName)) ∈ lw_all := lw_g (lw_at lw_m4 121 rfl) rfl
theorem q979 : (Jvm.Cond.code ({ cls := "PartyRaft$Flow", name := "lays", desc := "(I)V" } : Jvm.MethodName) prog_6_method_4_code (3 : Nat) (Option.none : Option Jvm.ClassFile.FieldType)) ∈ lw_all := lw_g (lw_at lw_m4 122 rfl) rfl
theorem q981 : (Jvm.Cond.instanceMethod ({ cls := "PartyRaft$Flow", name := "goesOn", desc := "()I" } : Jvm.MethodName)) ∈ lw_all := lw_g (lw_at lw_m4 124 rfl) rfl
theorem q982 : (Jvm.Cond.selects "PartyRaft$Flow" ({ cls := "PartyRaft$Flow", name := "goesOn", desc := "()I" } : Jvm.MethodName) ({ cls := "PartyRaft$Flow", name := "goesOn", desc := "()I" } : Jvm.MethodName)) ∈ lw_all := lw_g (lw_at lw_m4 125 rfl) rfl
theorem q983 : (Jvm.Cond.code ({ cls := "PartyRaft$Flow", name := "goesOn", desc := "()I" } : Jvm.MethodName) prog_6_method_27_code (1 : Nat) (Option.some Jvm.ClassFile.FieldType.int)) ∈ lw_all := lw_g (lw_at lw_m4 126 rfl) rfl
theorem q984 : (Jvm.Cond.methodLink "PartyRaft$Flow" (170 : Nat) ({ cls := "PartyRaft$Flow", name := "forceAt", desc := "(I)I" } : Jvm.MethodName)) ∈ lw_all := lw_g (lw_at lw_m4 127 rfl) rfl
theorem q985 : (Jvm.Cond.methodLink "PartyRaft$Flow" (173 : Nat) ({ cls := "PartyRaft$Flow", name := "goes", desc := "(I)I" } : Jvm.MethodName)) ∈ lw_all := lw_g (lw_at lw_m4 128 rfl) rfl
theorem q986 : (Jvm.Cond.instanceMethod ({ cls := "PartyRaft$Flow", name := "goes", desc := "(I)I" } : Jvm.MethodName)) ∈ lw_all := lw_g (lw_at lw_m4 129 rfl) rfl
theorem q987 : (Jvm.Cond.selects "PartyRaft$Flow" ({ cls := "PartyRaft$Flow", name := "goes", desc := "(I)I" } : Jvm.MethodName) ({ cls := "PartyRaft$Flow", name := "goes", desc := "(I)I" } : Jvm.MethodName)) ∈ lw_all := lw_g (lw_at lw_m4 130 rfl) rfl
theorem q988 : (Jvm.Cond.code ({ cls := "PartyRaft$Flow", name := "goes", desc := "(I)I" } : Jvm.MethodName) prog_6_method_26_code (3 : Nat) (Option.some Jvm.ClassFile.FieldType.int)) ∈ lw_all := lw_g (lw_at lw_m4 131 rfl) rfl
theorem q989 : (Jvm.Cond.methodLink "PartyRaft$Flow" (161 : Nat) ({ cls := "PartyRaft$Flow", name := "breaks", desc := "(I)V" } : Jvm.MethodName)) ∈ lw_all := lw_g (lw_at lw_m4 132 rfl) rfl
theorem q990 : (Jvm.Cond.privateMethod ({ cls := "PartyRaft$Flow", name := "breaks", desc := "(I)V" } : Jvm.MethodName)) ∈ lw_tbl := lw_at lw_m4 133 rfl
theorem q991 : (Jvm.Cond.instanceMethod ({ cls := "PartyRaft$Flow", name := "breaks", desc := "(I)V" } : Jvm.MethodName)) ∈ lw_all := lw_g (lw_at lw_m4 134 rfl) rfl
theorem q992 : (Jvm.Cond.code ({ cls := "PartyRaft$Flow", name := "breaks", desc := "(I)V" } : Jvm.MethodName) prog_6_method_23_code (4 : Nat) (Option.none : Option Jvm.ClassFile.FieldType)) ∈ lw_all := lw_g (lw_at lw_m4 135 rfl) rfl
theorem q993 : (Jvm.Cond.methodLink "PartyRaft$Flow" (146 : Nat) ({ cls := "PartyRaft$Flow", name := "loses", desc := "(I)I" } : Jvm.MethodName)) ∈ lw_all := lw_g (lw_at lw_m4 136 rfl) rfl
theorem q994 : (Jvm.Cond.instanceMethod ({ cls := "PartyRaft$Flow", name := "loses", desc := "(I)I" } : Jvm.MethodName)) ∈ lw_all := lw_g (lw_at lw_m4 137 rfl) rfl
theorem q995 : (Jvm.Cond.selects "PartyRaft$Flow" ({ cls := "PartyRaft$Flow", name := "loses", desc := "(I)I" } : Jvm.MethodName) ({ cls := "PartyRaft$Flow", name := "loses", desc := "(I)I" } : Jvm.MethodName)) ∈ lw_all := lw_g (lw_at lw_m4 138 rfl) rfl
theorem q996 : (Jvm.Cond.code ({ cls := "PartyRaft$Flow", name := "loses", desc := "(I)I" } : Jvm.MethodName) prog_6_method_20_code (5 : Nat) (Option.some Jvm.ClassFile.FieldType.int)) ∈ lw_all := lw_g (lw_at lw_m4 139 rfl) rfl
theorem q997 : (Jvm.Cond.methodLink "PartyRaft$Flow" (164 : Nat) ({ cls := "PartyRaft$Flow", name := "lands", desc := "()V" } : Jvm.MethodName)) ∈ lw_all := lw_g (lw_at lw_m4 140 rfl) rfl
theorem q998 : (Jvm.Cond.privateMethod ({ cls := "PartyRaft$Flow", name := "lands", desc := "()V" } : Jvm.MethodName)) ∈ lw_tbl := lw_at lw_m4 141 rfl
theorem q999 : (Jvm.Cond.instanceMethod ({ cls := "PartyRaft$Flow", name := "lands", desc := "()V" } : Jvm.MethodName)) ∈ lw_all := lw_g (lw_at lw_m4 142 rfl) rfl
theorem q1000 : (Jvm.Cond.code ({ cls := "PartyRaft$Flow", name := "lands", desc := "()V" } : Jvm.MethodName) prog_6_method_24_code (4 : Nat) (Option.none : Option Jvm.ClassFile.FieldType)) ∈ lw_all := lw_g (lw_at lw_m4 143 rfl) rfl
theorem q1001 : (Jvm.Cond.methodLink "PartyRaft$Flow" (152 : Nat) ({ cls := "PartyRaft$Flow", name := "ropesAt", desc := "(I)I" } : Jvm.MethodName)) ∈ lw_all := lw_g (lw_at lw_m4 144 rfl) rfl
theorem q1002 : (Jvm.Cond.instanceMethod ({ cls := "PartyRaft$Flow", name := "ropesAt", desc := "(I)I" } : Jvm.MethodName)) ∈ lw_all := lw_g (lw_at lw_m4 145 rfl) rfl
theorem q1003 : (Jvm.Cond.selects "PartyRaft$Flow" ({ cls := "PartyRaft$Flow", name := "ropesAt", desc := "(I)I" } : Jvm.MethodName) ({ cls := "PartyRaft$Flow", name := "ropesAt", desc := "(I)I" } : Jvm.MethodName)) ∈ lw_all := lw_g (lw_at lw_m4 146 rfl) rfl
theorem q1004 : (Jvm.Cond.code ({ cls := "PartyRaft$Flow", name := "ropesAt", desc := "(I)I" } : Jvm.MethodName) prog_6_method_21_code (4 : Nat) (Option.some Jvm.ClassFile.FieldType.int)) ∈ lw_all := lw_g (lw_at lw_m4 147 rfl) rfl
theorem q1005 : (Jvm.Cond.methodLink "PartyRaft$Flow" (167 : Nat) ({ cls := "PartyRaft$Flow", name := "sinksAll", desc := "()V" } : Jvm.MethodName)) ∈ lw_all := lw_g (lw_at lw_m4 148 rfl) rfl
theorem q1006 : (Jvm.Cond.privateMethod ({ cls := "PartyRaft$Flow", name := "sinksAll", desc := "()V" } : Jvm.MethodName)) ∈ lw_tbl := lw_at lw_m4 149 rfl
theorem q1007 : (Jvm.Cond.instanceMethod ({ cls := "PartyRaft$Flow", name := "sinksAll", desc := "()V" } : Jvm.MethodName)) ∈ lw_all := lw_g (lw_at lw_m4 150 rfl) rfl
theorem q1008 : (Jvm.Cond.code ({ cls := "PartyRaft$Flow", name := "sinksAll", desc := "()V" } : Jvm.MethodName) prog_6_method_25_code (5 : Nat) (Option.none : Option Jvm.ClassFile.FieldType)) ∈ lw_all := lw_g (lw_at lw_m4 151 rfl) rfl
theorem q1009 : (Jvm.Cond.methodLink "PartyRaft$Flow" (155 : Nat) ({ cls := "PartyRaft$Flow", name := "sinkingBy", desc := "(I)I" } : Jvm.MethodName)) ∈ lw_all := lw_g (lw_at lw_m4 152 rfl) rfl
theorem q1010 : (Jvm.Cond.instanceMethod ({ cls := "PartyRaft$Flow", name := "sinkingBy", desc := "(I)I" } : Jvm.MethodName)) ∈ lw_all := lw_g (lw_at lw_m4 153 rfl) rfl
theorem q1011 : (Jvm.Cond.selects "PartyRaft$Flow" ({ cls := "PartyRaft$Flow", name := "sinkingBy", desc := "(I)I" } : Jvm.MethodName) ({ cls := "PartyRaft$Flow", name := "sinkingBy", desc := "(I)I" } : Jvm.MethodName)) ∈ lw_all := lw_g (lw_at lw_m4 154 rfl) rfl
theorem q1012 : (Jvm.Cond.code ({ cls := "PartyRaft$Flow", name := "sinkingBy", desc := "(I)I" } : Jvm.MethodName) prog_6_method_17_code (5 : Nat) (Option.some Jvm.ClassFile.FieldType.int)) ∈ lw_all := lw_g (lw_at lw_m4 155 rfl) rfl
theorem q1058 : (Jvm.Cond.instanceMethod ({ cls := "PartyRaft$Flow", name := "afloat", desc := "()I" } : Jvm.MethodName)) ∈ lw_all := lw_g (lw_at lw_m4 201 rfl) rfl
theorem q1059 : (Jvm.Cond.selects "PartyRaft$Flow" ({ cls := "PartyRaft$Flow", name := "afloat", desc := "()I" } : Jvm.MethodName) ({ cls := "PartyRaft$Flow", name := "afloat", desc := "()I" } : Jvm.MethodName)) ∈ lw_all := lw_g (lw_at lw_m4 202 rfl) rfl
theorem q1060 : (Jvm.Cond.code ({ cls := "PartyRaft$Flow", name := "afloat", desc := "()I" } : Jvm.MethodName) prog_6_method_7_code (3 : Nat) (Option.some Jvm.ClassFile.FieldType.int)) ∈ lw_all := lw_g (lw_at lw_m4 203 rfl) rfl
theorem in_X1 : ∀ w ∈ wsX10, w ∈ lw_all := lw_in wsX10 [247, 249, 251, 253, 255, 257, 259, 261, 263, 265, 267, 269, 271, 273, 275, 277, 279, 281, 283, 285, 287, 289, 291, 293, 295, 297, 299, 301, 303] (by decide +kernel) (by decide +kernel)
/-! PartyRaft$Fault -/
set_option maxRecDepth 100000
def RX2 : String := "PartyRaft$Fault"
def TX2 : u_T := fun k => match k with
  | 0 => ("java/lang/Throwable", "cause", "Ljava/lang/Throwable;", false)
  | 1 => ("java/lang/Throwable", "stackTrace", "[Ljava/lang/StackTraceElement;", false)
  | 2 => ("java/lang/Throwable", "suppressedExceptions", "Ljava/util/List;", false)
  | 3 => ("java/lang/Throwable", "detailMessage", "Ljava/lang/String;", false)
  | 4 => ("java/lang/Throwable", "backtrace", "Ljava/lang/Object;", false)
  | 5 => ("java/lang/Throwable", "depth", "I", false)
  | 6 => ("PartyRaft$Fault", "kind", "I", false)
  | _ => ("PartyRaft$Fault", "place", "I", false)
def tyX2 : Nat → FieldType := fun k => match k with
  | 0 => .object "java/lang/Throwable"
  | 1 => .array (.object "java/lang/StackTraceElement")
  | 2 => .object "java/util/List"
  | 3 => .object "java/lang/String"
  | 4 => .object "java/lang/Object"
  | 5 => .int
  | 6 => .int
  | _ => .int
abbrev wsX20 : List Cond := u_ws RX2 TX2 8
theorem nmX2 : ∀ a, a < 8 → ∀ b, b < 8 → a ≠ b → (TX2 a).2.1 ≠ (TX2 b).2.1 := by decide +kernel
theorem tyX2_ok : ∀ k, k < 8 → parseFieldDescriptor (TX2 k).2.2.1 = some (tyX2 k) := by decide +kernel
abbrev cX2_init : ByteArray := prog_5_method_1_code
def yX2_init : MethodName := ⟨RX2, "<init>", "()V"⟩
def dkwX2_init_0 : List UInt8 := [42, 18, 1, 1, 3, 3, 183, 0, 3, 177]
abbrev dktX2_init_0 : List UInt8 := dkwX2_init_0 ++ []
theorem dksX2_init_0 : cX2_init.data.toList.drop 0 = dktX2_init_0 := by decide +kernel
theorem dX2_init_0 : decode cX2_init 0 = .ok (.aload_n 0, 1) := dk_42 (dk_at dksX2_init_0 0 rfl rfl)
theorem dX2_init_1 : decode cX2_init 1 = .ok (.ldc 1, 2) := dk_18 1 (dk_at dksX2_init_0 1 rfl rfl)
theorem dX2_init_3 : decode cX2_init 3 = .ok (.aconst_null, 1) := dk_1 (dk_at dksX2_init_0 3 rfl rfl)
theorem dX2_init_4 : decode cX2_init 4 = .ok (.iconst 0, 1) := dk_3 (dk_at dksX2_init_0 4 rfl rfl)
theorem dX2_init_5 : decode cX2_init 5 = .ok (.iconst 0, 1) := dk_3 (dk_at dksX2_init_0 5 rfl rfl)
theorem dX2_init_6 : decode cX2_init 6 = .ok (.invokespecial 3, 3) := dk_183 0 3 (dk_at dksX2_init_0 6 rfl rfl)
theorem dX2_init_9 : decode cX2_init 9 = .ok (.return_, 1) := dk_177 (dk_at dksX2_init_0 9 rfl rfl)
theorem q143 : (Jvm.Cond.initialized "PartyRaft$Fault") ∈ lw_all := lw_g (lw_at lw_m1 6 rfl) rfl
theorem q308 : (Jvm.Cond.instantiable "PartyRaft$Fault" (8 : Nat)) ∈ lw_all := lw_g (lw_at lw_m1 171 rfl) rfl
theorem q309 : (Jvm.Cond.castable "PartyRaft$Fault" "PartyRaft$Fault") ∈ lw_tbl := lw_at lw_m1 172 rfl
theorem q316 : (Jvm.Cond.selects "PartyRaft$Fault" ({ cls := "java/lang/Throwable", name := "fillInStackTrace", desc := "(I)Ljava/lang/Throwable;" } : Jvm.MethodName) ({ cls := "java/lang/Throwable", name := "fillInStackTrace", desc := "(I)Ljava/lang/Throwable;" } : Jvm.MethodName)) ∈ lw_all := lw_g (lw_at lw_m1 179 rfl) rfl
theorem q317 : (Jvm.Cond.selects "PartyRaft$Fault" ({ cls := "java/lang/Throwable", name := "fillInStackTrace", desc := "()Ljava/lang/Throwable;" } : Jvm.MethodName) ({ cls := "java/lang/Throwable", name := "fillInStackTrace", desc := "()Ljava/lang/Throwable;" } : Jvm.MethodName)) ∈ lw_all := lw_g (lw_at lw_m1 180 rfl) rfl
theorem q318 : (Jvm.Cond.lays "PartyRaft$Fault" "java/lang/Throwable" "cause" "Ljava/lang/Throwable;") ∈ lw_all := lw_g (lw_at lw_m1 181 rfl) rfl
theorem q320 : (Jvm.Cond.lays "PartyRaft$Fault" "java/lang/Throwable" "stackTrace" "[Ljava/lang/StackTraceElement;") ∈ lw_all := lw_g (lw_at lw_m1 183 rfl) rfl
theorem q322 : (Jvm.Cond.lays "PartyRaft$Fault" "java/lang/Throwable" "suppressedExceptions" "Ljava/util/List;") ∈ lw_all := lw_g (lw_at lw_m1 185 rfl) rfl
theorem q324 : (Jvm.Cond.lays "PartyRaft$Fault" "java/lang/Throwable" "detailMessage" "Ljava/lang/String;") ∈ lw_all := lw_g (lw_at lw_m1 187 rfl) rfl
theorem q326 : (Jvm.Cond.lays "PartyRaft$Fault" "java/lang/Throwable" "backtrace" "Ljava/lang/Object;") ∈ lw_all := lw_g (lw_at lw_m1 189 rfl) rfl
theorem q347 : (Jvm.Cond.instanceMethod ({ cls := "PartyRaft$Fault", name := "<init>", desc := "()V" } : Jvm.MethodName)) ∈ lw_all := lw_g (lw_at lw_m1 210 rfl) rfl
theorem q348 : (Jvm.Cond.code ({ cls := "PartyRaft$Fault", name := "<init>", desc := "()V" } : Jvm.MethodName) prog_5_method_1_code (1 : Nat) (Option.none : Option Jvm.ClassFile.FieldType)) ∈ lw_all := lw_g (lw_at lw_m1 211 rfl) rfl
theorem q349 : (Jvm.Cond.stringRef "PartyRaft$Fault" (1 : Nat) "fault") ∈ lw_tbl := lw_at lw_m1 212 rfl
theorem q350 : (Jvm.Cond.methodLink "PartyRaft$Fault" (3 : Nat) ({ cls := "java/lang/RuntimeException", name := "<init>", desc := "(Ljava/lang/String;Ljava/lang/Throwable;ZZ)V" } : Jvm.MethodName)) ∈ lw_all := lw_g (lw_at lw_m1 213 rfl) rfl
theorem q368 : (Jvm.Cond.lays "PartyRaft$Fault" "PartyRaft$Fault" "kind" "I") ∈ lw_all := lw_g (lw_at lw_m1 231 rfl) rfl
theorem q369 : (Jvm.Cond.soleField "PartyRaft$Fault" "kind") ∈ lw_all := lw_g (lw_at lw_m1 232 rfl) rfl
theorem q370 : (Jvm.Cond.lays "PartyRaft$Fault" "PartyRaft$Fault" "place" "I") ∈ lw_all := lw_g (lw_at lw_m1 233 rfl) rfl
theorem q371 : (Jvm.Cond.soleField "PartyRaft$Fault" "place") ∈ lw_all := lw_g (lw_at lw_m1 234 rfl) rfl
theorem q376 : (Jvm.Cond.lays "PartyRaft$Fault" "java/lang/Throwable" "depth" "I") ∈ lw_all := lw_g (lw_at lw_m1 239 rfl) rfl
theorem q379 : (Jvm.Cond.superclass "PartyRaft$Fault" "java/lang/RuntimeException") ∈ lw_all := lw_g (lw_at lw_m2 2 rfl) rfl
theorem in_X2 : ∀ w ∈ wsX20, w ∈ lw_all := lw_in wsX20 [318, 320, 322, 324, 326, 376, 368, 370] (by decide +kernel) (by decide +kernel)
/-! PartyRaft$Text -/
set_option maxRecDepth 100000
def RX4 : String := "PartyRaft$Text"
def TX4 : u_T := fun k => match k with
  | 0 => ("PartyRaft$Text", "words", "[Ljava/lang/String;", true)
  | 1 => ("PartyRaft$Text", "read", "LPartyRaft$Flow;", true)
  | 2 => ("PartyRaft$Text", "next", "I", false)
  | 3 => ("PartyRaft$Text", "deep", "I", false)
  | 4 => ("PartyRaft$Text", "made", "I", false)
  | 5 => ("PartyRaft$Text", "many", "I", false)
  | _ => ("PartyRaft$Text", "this$0", "LPartyRaft;", true)
def tyX4 : Nat → FieldType := fun k => match k with
  | 0 => .array (.object "java/lang/String")
  | 1 => .object "PartyRaft$Flow"
  | 2 => .int
  | 3 => .int
  | 4 => .int
  | 5 => .int
  | _ => .object "PartyRaft"
abbrev wsX40 : List Cond := u_ws RX4 TX4 7
theorem nmX4 : ∀ a, a < 7 → ∀ b, b < 7 → a ≠ b → (TX4 a).2.1 ≠ (TX4 b).2.1 := by decide +kernel
theorem tyX4_ok : ∀ k, k < 7 → parseFieldDescriptor (TX4 k).2.2.1 = some (tyX4 k) := by decide +kernel
abbrev cX4_init : ByteArray := prog_13_method_1_code
def yX4_init : MethodName := ⟨RX4, "<init>", "(LPartyRaft;)V"⟩
def dkwX4_init_1 : List UInt8 := [180, 0, 3, 180, 0, 22, 181, 0, 26, 177]
abbrev dktX4_init_1 : List UInt8 := dkwX4_init_1 ++ []
def dkwX4_init_0 : List UInt8 := [42, 43, 181, 0, 3, 42, 183, 0, 9, 42, 42, 180, 0, 3, 180, 0, 15, 181, 0, 19, 42, 42]
abbrev dktX4_init_0 : List UInt8 := dkwX4_init_0 ++ dktX4_init_1
theorem dksX4_init_0 : cX4_init.data.toList.drop 0 = dktX4_init_0 := by decide +kernel
theorem dksX4_init_1 : cX4_init.data.toList.drop 22 = dktX4_init_1 := dk_seg dksX4_init_0 22 rfl rfl
theorem dX4_init_0 : decode cX4_init 0 = .ok (.aload_n 0, 1) := dk_42 (dk_at dksX4_init_0 0 rfl rfl)
theorem dX4_init_1 : decode cX4_init 1 = .ok (.aload_n 1, 1) := dk_43 (dk_at dksX4_init_0 1 rfl rfl)
theorem dX4_init_2 : decode cX4_init 2 = .ok (.putfield 3, 3) := dk_181 0 3 (dk_at dksX4_init_0 2 rfl rfl)
theorem dX4_init_5 : decode cX4_init 5 = .ok (.aload_n 0, 1) := dk_42 (dk_at dksX4_init_0 5 rfl rfl)
theorem dX4_init_6 : decode cX4_init 6 = .ok (.invokespecial 9, 3) := dk_183 0 9 (dk_at dksX4_init_0 6 rfl rfl)
theorem dX4_init_9 : decode cX4_init 9 = .ok (.aload_n 0, 1) := dk_42 (dk_at dksX4_init_0 9 rfl rfl)
theorem dX4_init_10 : decode cX4_init 10 = .ok (.aload_n 0, 1) := dk_42 (dk_at dksX4_init_0 10 rfl rfl)
theorem dX4_init_11 : decode cX4_init 11 = .ok (.getfield 3, 3) := dk_180 0 3 (dk_at dksX4_init_0 11 rfl rfl)
theorem dX4_init_14 : decode cX4_init 14 = .ok (.getfield 15, 3) := dk_180 0 15 (dk_at dksX4_init_0 14 rfl rfl)
theorem dX4_init_17 : decode cX4_init 17 = .ok (.putfield 19, 3) := dk_181 0 19 (dk_at dksX4_init_0 17 rfl rfl)
theorem dX4_init_20 : decode cX4_init 20 = .ok (.aload_n 0, 1) := dk_42 (dk_at dksX4_init_0 20 rfl rfl)
theorem dX4_init_21 : decode cX4_init 21 = .ok (.aload_n 0, 1) := dk_42 (dk_at dksX4_init_0 21 rfl rfl)
theorem dX4_init_22 : decode cX4_init 22 = .ok (.getfield 3, 3) := dk_180 0 3 (dk_at dksX4_init_1 0 rfl rfl)
theorem dX4_init_25 : decode cX4_init 25 = .ok (.getfield 22, 3) := dk_180 0 22 (dk_at dksX4_init_1 3 rfl rfl)
theorem dX4_init_28 : decode cX4_init 28 = .ok (.putfield 26, 3) := dk_181 0 26 (dk_at dksX4_init_1 6 rfl rfl)
theorem dX4_init_31 : decode cX4_init 31 = .ok (.return_, 1) := dk_177 (dk_at dksX4_init_1 9 rfl rfl)
abbrev cX4_riverTold : ByteArray := prog_13_method_20_code
def yX4_riverTold : MethodName := ⟨RX4, "riverTold", "()LPartyRaft$Flow;"⟩
def dkwX4_riverTold_4 : List UInt8 := [42, 28, 182, 0, 182, 42, 16, 59, 182, 0, 186, 154, 255, 165, 42, 182, 0, 189, 42, 180, 0, 26, 176]
abbrev dktX4_riverTold_4 : List UInt8 := dkwX4_riverTold_4 ++ []
def dkwX4_riverTold_3 : List UInt8 := [181, 0, 90, 42, 89, 180, 0, 42, 42, 180, 0, 3, 180, 0, 172, 28, 50, 182, 0, 59, 96, 181, 0, 42]
abbrev dktX4_riverTold_3 : List UInt8 := dkwX4_riverTold_3 ++ dktX4_riverTold_4
def dkwX4_riverTold_2 : List UInt8 := [3, 27, 182, 0, 76, 42, 42, 28, 182, 0, 179, 7, 27, 182, 0, 76, 42, 89, 180, 0, 90, 4, 96]
abbrev dktX4_riverTold_2 : List UInt8 := dkwX4_riverTold_2 ++ dktX4_riverTold_3
def dkwX4_riverTold_1 : List UInt8 := [60, 42, 42, 180, 0, 3, 180, 0, 172, 182, 0, 175, 61, 42, 28, 2, 159, 0, 7, 4, 167, 0, 4, 3]
abbrev dktX4_riverTold_1 : List UInt8 := dkwX4_riverTold_1 ++ dktX4_riverTold_2
def dkwX4_riverTold_0 : List UInt8 := [42, 180, 0, 26, 42, 180, 0, 3, 180, 0, 165, 182, 0, 168, 87, 42, 182, 0, 52, 87, 42, 180, 0, 42]
abbrev dktX4_riverTold_0 : List UInt8 := dkwX4_riverTold_0 ++ dktX4_riverTold_1
theorem dksX4_riverTold_0 : cX4_riverTold.data.toList.drop 0 = dktX4_riverTold_0 := by decide +kernel
theorem dksX4_riverTold_1 : cX4_riverTold.data.toList.drop 24 = dktX4_riverTold_1 := dk_seg dksX4_riverTold_0 24 rfl rfl
theorem dksX4_riverTold_2 : cX4_riverTold.data.toList.drop 48 = dktX4_riverTold_2 := dk_seg dksX4_riverTold_1 24 rfl rfl
theorem dksX4_riverTold_3 : cX4_riverTold.data.toList.drop 71 = dktX4_riverTold_3 := dk_seg dksX4_riverTold_2 23 rfl rfl
theorem dksX4_riverTold_4 : cX4_riverTold.data.toList.drop 95 = dktX4_riverTold_4 := dk_seg dksX4_riverTold_3 24 rfl rfl
theorem dX4_riverTold_0 : decode cX4_riverTold 0 = .ok (.aload_n 0, 1) := dk_42 (dk_at dksX4_riverTold_0 0 rfl rfl)
theorem dX4_riverTold_1 : decode cX4_riverTold 1 = .ok (.getfield 26, 3) := dk_180 0 26 (dk_at dksX4_riverTold_0 1 rfl rfl)
theorem dX4_riverTold_4 : decode cX4_riverTold 4 = .ok (.aload_n 0, 1) := dk_42 (dk_at dksX4_riverTold_0 4 rfl rfl)
theorem dX4_riverTold_5 : decode cX4_riverTold 5 = .ok (.getfield 3, 3) := dk_180 0 3 (dk_at dksX4_riverTold_0 5 rfl rfl)
theorem dX4_riverTold_8 : decode cX4_riverTold 8 = .ok (.getfield 165, 3) := dk_180 0 165 (dk_at dksX4_riverTold_0 8 rfl rfl)
theorem dX4_riverTold_11 : decode cX4_riverTold 11 = .ok (.invokevirtual 168, 3) := dk_182 0 168 (dk_at dksX4_riverTold_0 11 rfl rfl)
theorem dX4_riverTold_14 : decode cX4_riverTold 14 = .ok (.pop, 1) := dk_87 (dk_at dksX4_riverTold_0 14 rfl rfl)
theorem dX4_riverTold_15 : decode cX4_riverTold 15 = .ok (.aload_n 0, 1) := dk_42 (dk_at dksX4_riverTold_0 15 rfl rfl)
theorem dX4_riverTold_16 : decode cX4_riverTold 16 = .ok (.invokevirtual 52, 3) := dk_182 0 52 (dk_at dksX4_riverTold_0 16 rfl rfl)
theorem dX4_riverTold_19 : decode cX4_riverTold 19 = .ok (.pop, 1) := dk_87 (dk_at dksX4_riverTold_0 19 rfl rfl)
theorem dX4_riverTold_20 : decode cX4_riverTold 20 = .ok (.aload_n 0, 1) := dk_42 (dk_at dksX4_riverTold_0 20 rfl rfl)
theorem dX4_riverTold_21 : decode cX4_riverTold 21 = .ok (.getfield 42, 3) := dk_180 0 42 (dk_at dksX4_riverTold_0 21 rfl rfl)
theorem dX4_riverTold_24 : decode cX4_riverTold 24 = .ok (.istore_n 1, 1) := dk_60 (dk_at dksX4_riverTold_1 0 rfl rfl)
theorem dX4_riverTold_25 : decode cX4_riverTold 25 = .ok (.aload_n 0, 1) := dk_42 (dk_at dksX4_riverTold_1 1 rfl rfl)
theorem dX4_riverTold_26 : decode cX4_riverTold 26 = .ok (.aload_n 0, 1) := dk_42 (dk_at dksX4_riverTold_1 2 rfl rfl)
theorem dX4_riverTold_27 : decode cX4_riverTold 27 = .ok (.getfield 3, 3) := dk_180 0 3 (dk_at dksX4_riverTold_1 3 rfl rfl)
theorem dX4_riverTold_30 : decode cX4_riverTold 30 = .ok (.getfield 172, 3) := dk_180 0 172 (dk_at dksX4_riverTold_1 6 rfl rfl)
theorem dX4_riverTold_33 : decode cX4_riverTold 33 = .ok (.invokevirtual 175, 3) := dk_182 0 175 (dk_at dksX4_riverTold_1 9 rfl rfl)
theorem dX4_riverTold_36 : decode cX4_riverTold 36 = .ok (.istore_n 2, 1) := dk_61 (dk_at dksX4_riverTold_1 12 rfl rfl)
theorem dX4_riverTold_37 : decode cX4_riverTold 37 = .ok (.aload_n 0, 1) := dk_42 (dk_at dksX4_riverTold_1 13 rfl rfl)
theorem dX4_riverTold_38 : decode cX4_riverTold 38 = .ok (.iload_n 2, 1) := dk_28 (dk_at dksX4_riverTold_1 14 rfl rfl)
theorem dX4_riverTold_39 : decode cX4_riverTold 39 = .ok (.iconst (-1), 1) := dk_2 (dk_at dksX4_riverTold_1 15 rfl rfl)
theorem dX4_riverTold_40 : decode cX4_riverTold 40 = .ok (.if_icmp .eq 7, 3) := dk_159 0 7 (dk_at dksX4_riverTold_1 16 rfl rfl)
theorem dX4_riverTold_43 : decode cX4_riverTold 43 = .ok (.iconst 1, 1) := dk_4 (dk_at dksX4_riverTold_1 19 rfl rfl)
theorem dX4_riverTold_44 : decode cX4_riverTold 44 = .ok (.goto 4, 3) := dk_167 0 4 (dk_at dksX4_riverTold_1 20 rfl rfl)
theorem dX4_riverTold_47 : decode cX4_riverTold 47 = .ok (.iconst 0, 1) := dk_3 (dk_at dksX4_riverTold_1 23 rfl rfl)
theorem dX4_riverTold_48 : decode cX4_riverTold 48 = .ok (.iconst 0, 1) := dk_3 (dk_at dksX4_riverTold_2 0 rfl rfl)
theorem dX4_riverTold_49 : decode cX4_riverTold 49 = .ok (.iload_n 1, 1) := dk_27 (dk_at dksX4_riverTold_2 1 rfl rfl)
theorem dX4_riverTold_50 : decode cX4_riverTold 50 = .ok (.invokevirtual 76, 3) := dk_182 0 76 (dk_at dksX4_riverTold_2 2 rfl rfl)
theorem dX4_riverTold_53 : decode cX4_riverTold 53 = .ok (.aload_n 0, 1) := dk_42 (dk_at dksX4_riverTold_2 5 rfl rfl)
theorem dX4_riverTold_54 : decode cX4_riverTold 54 = .ok (.aload_n 0, 1) := dk_42 (dk_at dksX4_riverTold_2 6 rfl rfl)
theorem dX4_riverTold_55 : decode cX4_riverTold 55 = .ok (.iload_n 2, 1) := dk_28 (dk_at dksX4_riverTold_2 7 rfl rfl)
theorem dX4_riverTold_56 : decode cX4_riverTold 56 = .ok (.invokevirtual 179, 3) := dk_182 0 179 (dk_at dksX4_riverTold_2 8 rfl rfl)
theorem dX4_riverTold_59 : decode cX4_riverTold 59 = .ok (.iconst 4, 1) := dk_7 (dk_at dksX4_riverTold_2 11 rfl rfl)
theorem dX4_riverTold_60 : decode cX4_riverTold 60 = .ok (.iload_n 1, 1) := dk_27 (dk_at dksX4_riverTold_2 12 rfl rfl)
theorem dX4_riverTold_61 : decode cX4_riverTold 61 = .ok (.invokevirtual 76, 3) := dk_182 0 76 (dk_at dksX4_riverTold_2 13 rfl rfl)
theorem dX4_riverTold_64 : decode cX4_riverTold 64 = .ok (.aload_n 0, 1) := dk_42 (dk_at dksX4_riverTold_2 16 rfl rfl)
theorem dX4_riverTold_65 : decode cX4_riverTold 65 = .ok (.dup, 1) := dk_89 (dk_at dksX4_riverTold_2 17 rfl rfl)
theorem dX4_riverTold_66 : decode cX4_riverTold 66 = .ok (.getfield 90, 3) := dk_180 0 90 (dk_at dksX4_riverTold_2 18 rfl rfl)
theorem dX4_riverTold_69 : decode cX4_riverTold 69 = .ok (.iconst 1, 1) := dk_4 (dk_at dksX4_riverTold_2 21 rfl rfl)
theorem dX4_riverTold_70 : decode cX4_riverTold 70 = .ok (.iadd, 1) := dk_96 (dk_at dksX4_riverTold_2 22 rfl rfl)
theorem dX4_riverTold_71 : decode cX4_riverTold 71 = .ok (.putfield 90, 3) := dk_181 0 90 (dk_at dksX4_riverTold_3 0 rfl rfl)
theorem dX4_riverTold_74 : decode cX4_riverTold 74 = .ok (.aload_n 0, 1) := dk_42 (dk_at dksX4_riverTold_3 3 rfl rfl)
theorem dX4_riverTold_75 : decode cX4_riverTold 75 = .ok (.dup, 1) := dk_89 (dk_at dksX4_riverTold_3 4 rfl rfl)
theorem dX4_riverTold_76 : decode cX4_riverTold 76 = .ok (.getfield 42, 3) := dk_180 0 42 (dk_at dksX4_riverTold_3 5 rfl rfl)
theorem dX4_riverTold_79 : decode cX4_riverTold 79 = .ok (.aload_n 0, 1) := dk_42 (dk_at dksX4_riverTold_3 8 rfl rfl)
theorem dX4_riverTold_80 : decode cX4_riverTold 80 = .ok (.getfield 3, 3) := dk_180 0 3 (dk_at dksX4_riverTold_3 9 rfl rfl)
theorem dX4_riverTold_83 : decode cX4_riverTold 83 = .ok (.getfield 172, 3) := dk_180 0 172 (dk_at dksX4_riverTold_3 12 rfl rfl)
theorem dX4_riverTold_86 : decode cX4_riverTold 86 = .ok (.iload_n 2, 1) := dk_28 (dk_at dksX4_riverTold_3 15 rfl rfl)
theorem dX4_riverTold_87 : decode cX4_riverTold 87 = .ok (.aaload, 1) := dk_50 (dk_at dksX4_riverTold_3 16 rfl rfl)
theorem dX4_riverTold_88 : decode cX4_riverTold 88 = .ok (.invokevirtual 59, 3) := dk_182 0 59 (dk_at dksX4_riverTold_3 17 rfl rfl)
theorem dX4_riverTold_91 : decode cX4_riverTold 91 = .ok (.iadd, 1) := dk_96 (dk_at dksX4_riverTold_3 20 rfl rfl)
theorem dX4_riverTold_92 : decode cX4_riverTold 92 = .ok (.putfield 42, 3) := dk_181 0 42 (dk_at dksX4_riverTold_3 21 rfl rfl)
theorem dX4_riverTold_95 : decode cX4_riverTold 95 = .ok (.aload_n 0, 1) := dk_42 (dk_at dksX4_riverTold_4 0 rfl rfl)
theorem dX4_riverTold_96 : decode cX4_riverTold 96 = .ok (.iload_n 2, 1) := dk_28 (dk_at dksX4_riverTold_4 1 rfl rfl)
theorem dX4_riverTold_97 : decode cX4_riverTold 97 = .ok (.invokevirtual 182, 3) := dk_182 0 182 (dk_at dksX4_riverTold_4 2 rfl rfl)
theorem dX4_riverTold_100 : decode cX4_riverTold 100 = .ok (.aload_n 0, 1) := dk_42 (dk_at dksX4_riverTold_4 5 rfl rfl)
theorem dX4_riverTold_101 : decode cX4_riverTold 101 = .ok (.bipush 59, 2) := dk_16 59 (dk_at dksX4_riverTold_4 6 rfl rfl)
theorem dX4_riverTold_103 : decode cX4_riverTold 103 = .ok (.invokevirtual 186, 3) := dk_182 0 186 (dk_at dksX4_riverTold_4 8 rfl rfl)
theorem dX4_riverTold_106 : decode cX4_riverTold 106 = .ok (.ifCond .ne (-91), 3) := dk_154 255 165 (dk_at dksX4_riverTold_4 11 rfl rfl)
theorem dX4_riverTold_109 : decode cX4_riverTold 109 = .ok (.aload_n 0, 1) := dk_42 (dk_at dksX4_riverTold_4 14 rfl rfl)
theorem dX4_riverTold_110 : decode cX4_riverTold 110 = .ok (.invokevirtual 189, 3) := dk_182 0 189 (dk_at dksX4_riverTold_4 15 rfl rfl)
theorem dX4_riverTold_113 : decode cX4_riverTold 113 = .ok (.aload_n 0, 1) := dk_42 (dk_at dksX4_riverTold_4 18 rfl rfl)
theorem dX4_riverTold_114 : decode cX4_riverTold 114 = .ok (.getfield 26, 3) := dk_180 0 26 (dk_at dksX4_riverTold_4 19 rfl rfl)
theorem dX4_riverTold_117 : decode cX4_riverTold 117 = .ok (.areturn, 1) := dk_176 (dk_at dksX4_riverTold_4 22 rfl rfl)
abbrev cX4_see : ByteArray := prog_13_method_3_code
def yX4_see : MethodName := ⟨RX4, "see", "()I"⟩
def dkwX4_see_3 : List UInt8 := [51, 17, 0, 255, 126, 167, 0, 4, 2, 172]
abbrev dktX4_see_3 : List UInt8 := dkwX4_see_3 ++ []
def dkwX4_see_2 : List UInt8 := [180, 0, 42, 42, 180, 0, 3, 180, 0, 45, 162, 0, 22, 42, 180, 0, 3, 180, 0, 48, 42, 180, 0, 42]
abbrev dktX4_see_2 : List UInt8 := dkwX4_see_2 ++ dktX4_see_3
def dkwX4_see_1 : List UInt8 := [180, 0, 42, 51, 16, 32, 160, 0, 16, 42, 89, 180, 0, 42, 4, 96, 181, 0, 42, 167, 255, 215, 42]
abbrev dktX4_see_1 : List UInt8 := dkwX4_see_1 ++ dktX4_see_2
def dkwX4_see_0 : List UInt8 := [42, 180, 0, 42, 42, 180, 0, 3, 180, 0, 45, 162, 0, 33, 42, 180, 0, 3, 180, 0, 48, 42]
abbrev dktX4_see_0 : List UInt8 := dkwX4_see_0 ++ dktX4_see_1
theorem dksX4_see_0 : cX4_see.data.toList.drop 0 = dktX4_see_0 := by decide +kernel
theorem dksX4_see_1 : cX4_see.data.toList.drop 22 = dktX4_see_1 := dk_seg dksX4_see_0 22 rfl rfl
theorem dksX4_see_2 : cX4_see.data.toList.drop 45 = dktX4_see_2 := dk_seg dksX4_see_1 23 rfl rfl
theorem dksX4_see_3 : cX4_see.data.toList.drop 69 = dktX4_see_3 := dk_seg dksX4_see_2 24 rfl rfl
theorem dX4_see_0 : decode cX4_see 0 = .ok (.aload_n 0, 1) := dk_42 (dk_at dksX4_see_0 0 rfl rfl)
theorem dX4_see_1 : decode cX4_see 1 = .ok (.getfield 42, 3) := dk_180 0 42 (dk_at dksX4_see_0 1 rfl rfl)
theorem dX4_see_4 : decode cX4_see 4 = .ok (.aload_n 0, 1) := dk_42 (dk_at dksX4_see_0 4 rfl rfl)
theorem dX4_see_5 : decode cX4_see 5 = .ok (.getfield 3, 3) := dk_180 0 3 (dk_at dksX4_see_0 5 rfl rfl)
theorem dX4_see_8 : decode cX4_see 8 = .ok (.getfield 45, 3) := dk_180 0 45 (dk_at dksX4_see_0 8 rfl rfl)
theorem dX4_see_11 : decode cX4_see 11 = .ok (.if_icmp .ge 33, 3) := dk_162 0 33 (dk_at dksX4_see_0 11 rfl rfl)
theorem dX4_see_14 : decode cX4_see 14 = .ok (.aload_n 0, 1) := dk_42 (dk_at dksX4_see_0 14 rfl rfl)
theorem dX4_see_15 : decode cX4_see 15 = .ok (.getfield 3, 3) := dk_180 0 3 (dk_at dksX4_see_0 15 rfl rfl)
theorem dX4_see_18 : decode cX4_see 18 = .ok (.getfield 48, 3) := dk_180 0 48 (dk_at dksX4_see_0 18 rfl rfl)
theorem dX4_see_21 : decode cX4_see 21 = .ok (.aload_n 0, 1) := dk_42 (dk_at dksX4_see_0 21 rfl rfl)
theorem dX4_see_22 : decode cX4_see 22 = .ok (.getfield 42, 3) := dk_180 0 42 (dk_at dksX4_see_1 0 rfl rfl)
theorem dX4_see_25 : decode cX4_see 25 = .ok (.baload, 1) := dk_51 (dk_at dksX4_see_1 3 rfl rfl)
theorem dX4_see_26 : decode cX4_see 26 = .ok (.bipush 32, 2) := dk_16 32 (dk_at dksX4_see_1 4 rfl rfl)
theorem dX4_see_28 : decode cX4_see 28 = .ok (.if_icmp .ne 16, 3) := dk_160 0 16 (dk_at dksX4_see_1 6 rfl rfl)
theorem dX4_see_31 : decode cX4_see 31 = .ok (.aload_n 0, 1) := dk_42 (dk_at dksX4_see_1 9 rfl rfl)
theorem dX4_see_32 : decode cX4_see 32 = .ok (.dup, 1) := dk_89 (dk_at dksX4_see_1 10 rfl rfl)
theorem dX4_see_33 : decode cX4_see 33 = .ok (.getfield 42, 3) := dk_180 0 42 (dk_at dksX4_see_1 11 rfl rfl)
theorem dX4_see_36 : decode cX4_see 36 = .ok (.iconst 1, 1) := dk_4 (dk_at dksX4_see_1 14 rfl rfl)
theorem dX4_see_37 : decode cX4_see 37 = .ok (.iadd, 1) := dk_96 (dk_at dksX4_see_1 15 rfl rfl)
theorem dX4_see_38 : decode cX4_see 38 = .ok (.putfield 42, 3) := dk_181 0 42 (dk_at dksX4_see_1 16 rfl rfl)
theorem dX4_see_41 : decode cX4_see 41 = .ok (.goto (-41), 3) := dk_167 255 215 (dk_at dksX4_see_1 19 rfl rfl)
theorem dX4_see_44 : decode cX4_see 44 = .ok (.aload_n 0, 1) := dk_42 (dk_at dksX4_see_1 22 rfl rfl)
theorem dX4_see_45 : decode cX4_see 45 = .ok (.getfield 42, 3) := dk_180 0 42 (dk_at dksX4_see_2 0 rfl rfl)
theorem dX4_see_48 : decode cX4_see 48 = .ok (.aload_n 0, 1) := dk_42 (dk_at dksX4_see_2 3 rfl rfl)
theorem dX4_see_49 : decode cX4_see 49 = .ok (.getfield 3, 3) := dk_180 0 3 (dk_at dksX4_see_2 4 rfl rfl)
theorem dX4_see_52 : decode cX4_see 52 = .ok (.getfield 45, 3) := dk_180 0 45 (dk_at dksX4_see_2 7 rfl rfl)
theorem dX4_see_55 : decode cX4_see 55 = .ok (.if_icmp .ge 22, 3) := dk_162 0 22 (dk_at dksX4_see_2 10 rfl rfl)
theorem dX4_see_58 : decode cX4_see 58 = .ok (.aload_n 0, 1) := dk_42 (dk_at dksX4_see_2 13 rfl rfl)
theorem dX4_see_59 : decode cX4_see 59 = .ok (.getfield 3, 3) := dk_180 0 3 (dk_at dksX4_see_2 14 rfl rfl)
theorem dX4_see_62 : decode cX4_see 62 = .ok (.getfield 48, 3) := dk_180 0 48 (dk_at dksX4_see_2 17 rfl rfl)
theorem dX4_see_65 : decode cX4_see 65 = .ok (.aload_n 0, 1) := dk_42 (dk_at dksX4_see_2 20 rfl rfl)
theorem dX4_see_66 : decode cX4_see 66 = .ok (.getfield 42, 3) := dk_180 0 42 (dk_at dksX4_see_2 21 rfl rfl)
theorem dX4_see_69 : decode cX4_see 69 = .ok (.baload, 1) := dk_51 (dk_at dksX4_see_3 0 rfl rfl)
theorem dX4_see_70 : decode cX4_see 70 = .ok (.sipush 255, 3) := dk_17 0 255 (dk_at dksX4_see_3 1 rfl rfl)
theorem dX4_see_73 : decode cX4_see 73 = .ok (.iand, 1) := dk_126 (dk_at dksX4_see_3 4 rfl rfl)
theorem dX4_see_74 : decode cX4_see 74 = .ok (.goto 4, 3) := dk_167 0 4 (dk_at dksX4_see_3 5 rfl rfl)
theorem dX4_see_77 : decode cX4_see 77 = .ok (.iconst (-1), 1) := dk_2 (dk_at dksX4_see_3 8 rfl rfl)
theorem dX4_see_78 : decode cX4_see 78 = .ok (.ireturn, 1) := dk_172 (dk_at dksX4_see_3 9 rfl rfl)
abbrev cX4_oneOf : ByteArray := prog_13_method_8_code
def yX4_oneOf : MethodName := ⟨RX4, "oneOf", "([Ljava/lang/String;)I"⟩
def dkwX4_oneOf_1 : List UInt8 := [167, 255, 235, 2, 172]
abbrev dktX4_oneOf_1 : List UInt8 := dkwX4_oneOf_1 ++ []
def dkwX4_oneOf_0 : List UInt8 := [3, 61, 28, 43, 190, 162, 0, 21, 42, 43, 28, 50, 182, 0, 68, 153, 0, 5, 28, 172, 132, 2, 1]
abbrev dktX4_oneOf_0 : List UInt8 := dkwX4_oneOf_0 ++ dktX4_oneOf_1
theorem dksX4_oneOf_0 : cX4_oneOf.data.toList.drop 0 = dktX4_oneOf_0 := by decide +kernel
theorem dksX4_oneOf_1 : cX4_oneOf.data.toList.drop 23 = dktX4_oneOf_1 := dk_seg dksX4_oneOf_0 23 rfl rfl
theorem dX4_oneOf_0 : decode cX4_oneOf 0 = .ok (.iconst 0, 1) := dk_3 (dk_at dksX4_oneOf_0 0 rfl rfl)
theorem dX4_oneOf_1 : decode cX4_oneOf 1 = .ok (.istore_n 2, 1) := dk_61 (dk_at dksX4_oneOf_0 1 rfl rfl)
theorem dX4_oneOf_2 : decode cX4_oneOf 2 = .ok (.iload_n 2, 1) := dk_28 (dk_at dksX4_oneOf_0 2 rfl rfl)
theorem dX4_oneOf_3 : decode cX4_oneOf 3 = .ok (.aload_n 1, 1) := dk_43 (dk_at dksX4_oneOf_0 3 rfl rfl)
theorem dX4_oneOf_4 : decode cX4_oneOf 4 = .ok (.arraylength, 1) := dk_190 (dk_at dksX4_oneOf_0 4 rfl rfl)
theorem dX4_oneOf_5 : decode cX4_oneOf 5 = .ok (.if_icmp .ge 21, 3) := dk_162 0 21 (dk_at dksX4_oneOf_0 5 rfl rfl)
theorem dX4_oneOf_8 : decode cX4_oneOf 8 = .ok (.aload_n 0, 1) := dk_42 (dk_at dksX4_oneOf_0 8 rfl rfl)
theorem dX4_oneOf_9 : decode cX4_oneOf 9 = .ok (.aload_n 1, 1) := dk_43 (dk_at dksX4_oneOf_0 9 rfl rfl)
theorem dX4_oneOf_10 : decode cX4_oneOf 10 = .ok (.iload_n 2, 1) := dk_28 (dk_at dksX4_oneOf_0 10 rfl rfl)
theorem dX4_oneOf_11 : decode cX4_oneOf 11 = .ok (.aaload, 1) := dk_50 (dk_at dksX4_oneOf_0 11 rfl rfl)
theorem dX4_oneOf_12 : decode cX4_oneOf 12 = .ok (.invokevirtual 68, 3) := dk_182 0 68 (dk_at dksX4_oneOf_0 12 rfl rfl)
theorem dX4_oneOf_15 : decode cX4_oneOf 15 = .ok (.ifCond .eq 5, 3) := dk_153 0 5 (dk_at dksX4_oneOf_0 15 rfl rfl)
theorem dX4_oneOf_18 : decode cX4_oneOf 18 = .ok (.iload_n 2, 1) := dk_28 (dk_at dksX4_oneOf_0 18 rfl rfl)
theorem dX4_oneOf_19 : decode cX4_oneOf 19 = .ok (.ireturn, 1) := dk_172 (dk_at dksX4_oneOf_0 19 rfl rfl)
theorem dX4_oneOf_20 : decode cX4_oneOf 20 = .ok (.iinc 2 1, 3) := dk_132 2 1 (dk_at dksX4_oneOf_0 20 rfl rfl)
theorem dX4_oneOf_23 : decode cX4_oneOf 23 = .ok (.goto (-21), 3) := dk_167 255 235 (dk_at dksX4_oneOf_1 0 rfl rfl)
theorem dX4_oneOf_26 : decode cX4_oneOf 26 = .ok (.iconst (-1), 1) := dk_2 (dk_at dksX4_oneOf_1 3 rfl rfl)
theorem dX4_oneOf_27 : decode cX4_oneOf 27 = .ok (.ireturn, 1) := dk_172 (dk_at dksX4_oneOf_1 4 rfl rfl)
abbrev cX4_isWord : ByteArray := prog_13_method_6_code
def yX4_isWord : MethodName := ⟨RX4, "isWord", "(Ljava/lang/String;)Z"⟩
def dkwX4_isWord_2 : List UInt8 := [180, 0, 42, 21, 4, 96, 51, 160, 0, 7, 4, 167, 0, 4, 3, 62, 132, 4, 1, 167, 255, 213, 29, 172]
abbrev dktX4_isWord_2 : List UInt8 := dkwX4_isWord_2 ++ []
def dkwX4_isWord_1 : List UInt8 := [153, 0, 45, 21, 4, 28, 162, 0, 39, 43, 21, 4, 182, 0, 64, 42, 180, 0, 3, 180, 0, 48, 42]
abbrev dktX4_isWord_1 : List UInt8 := dkwX4_isWord_1 ++ dktX4_isWord_2
def dkwX4_isWord_0 : List UInt8 := [42, 182, 0, 56, 61, 28, 43, 182, 0, 59, 160, 0, 7, 4, 167, 0, 4, 3, 62, 3, 54, 4, 29]
abbrev dktX4_isWord_0 : List UInt8 := dkwX4_isWord_0 ++ dktX4_isWord_1
theorem dksX4_isWord_0 : cX4_isWord.data.toList.drop 0 = dktX4_isWord_0 := by decide +kernel
theorem dksX4_isWord_1 : cX4_isWord.data.toList.drop 23 = dktX4_isWord_1 := dk_seg dksX4_isWord_0 23 rfl rfl
theorem dksX4_isWord_2 : cX4_isWord.data.toList.drop 46 = dktX4_isWord_2 := dk_seg dksX4_isWord_1 23 rfl rfl
theorem dX4_isWord_0 : decode cX4_isWord 0 = .ok (.aload_n 0, 1) := dk_42 (dk_at dksX4_isWord_0 0 rfl rfl)
theorem dX4_isWord_1 : decode cX4_isWord 1 = .ok (.invokevirtual 56, 3) := dk_182 0 56 (dk_at dksX4_isWord_0 1 rfl rfl)
theorem dX4_isWord_4 : decode cX4_isWord 4 = .ok (.istore_n 2, 1) := dk_61 (dk_at dksX4_isWord_0 4 rfl rfl)
theorem dX4_isWord_5 : decode cX4_isWord 5 = .ok (.iload_n 2, 1) := dk_28 (dk_at dksX4_isWord_0 5 rfl rfl)
theorem dX4_isWord_6 : decode cX4_isWord 6 = .ok (.aload_n 1, 1) := dk_43 (dk_at dksX4_isWord_0 6 rfl rfl)
theorem dX4_isWord_7 : decode cX4_isWord 7 = .ok (.invokevirtual 59, 3) := dk_182 0 59 (dk_at dksX4_isWord_0 7 rfl rfl)
theorem dX4_isWord_10 : decode cX4_isWord 10 = .ok (.if_icmp .ne 7, 3) := dk_160 0 7 (dk_at dksX4_isWord_0 10 rfl rfl)
theorem dX4_isWord_13 : decode cX4_isWord 13 = .ok (.iconst 1, 1) := dk_4 (dk_at dksX4_isWord_0 13 rfl rfl)
theorem dX4_isWord_14 : decode cX4_isWord 14 = .ok (.goto 4, 3) := dk_167 0 4 (dk_at dksX4_isWord_0 14 rfl rfl)
theorem dX4_isWord_17 : decode cX4_isWord 17 = .ok (.iconst 0, 1) := dk_3 (dk_at dksX4_isWord_0 17 rfl rfl)
theorem dX4_isWord_18 : decode cX4_isWord 18 = .ok (.istore_n 3, 1) := dk_62 (dk_at dksX4_isWord_0 18 rfl rfl)
theorem dX4_isWord_19 : decode cX4_isWord 19 = .ok (.iconst 0, 1) := dk_3 (dk_at dksX4_isWord_0 19 rfl rfl)
theorem dX4_isWord_20 : decode cX4_isWord 20 = .ok (.istore 4, 2) := dk_54 4 (dk_at dksX4_isWord_0 20 rfl rfl)
theorem dX4_isWord_22 : decode cX4_isWord 22 = .ok (.iload_n 3, 1) := dk_29 (dk_at dksX4_isWord_0 22 rfl rfl)
theorem dX4_isWord_23 : decode cX4_isWord 23 = .ok (.ifCond .eq 45, 3) := dk_153 0 45 (dk_at dksX4_isWord_1 0 rfl rfl)
theorem dX4_isWord_26 : decode cX4_isWord 26 = .ok (.iload 4, 2) := dk_21 4 (dk_at dksX4_isWord_1 3 rfl rfl)
theorem dX4_isWord_28 : decode cX4_isWord 28 = .ok (.iload_n 2, 1) := dk_28 (dk_at dksX4_isWord_1 5 rfl rfl)
theorem dX4_isWord_29 : decode cX4_isWord 29 = .ok (.if_icmp .ge 39, 3) := dk_162 0 39 (dk_at dksX4_isWord_1 6 rfl rfl)
theorem dX4_isWord_32 : decode cX4_isWord 32 = .ok (.aload_n 1, 1) := dk_43 (dk_at dksX4_isWord_1 9 rfl rfl)
theorem dX4_isWord_33 : decode cX4_isWord 33 = .ok (.iload 4, 2) := dk_21 4 (dk_at dksX4_isWord_1 10 rfl rfl)
theorem dX4_isWord_35 : decode cX4_isWord 35 = .ok (.invokevirtual 64, 3) := dk_182 0 64 (dk_at dksX4_isWord_1 12 rfl rfl)
theorem dX4_isWord_38 : decode cX4_isWord 38 = .ok (.aload_n 0, 1) := dk_42 (dk_at dksX4_isWord_1 15 rfl rfl)
theorem dX4_isWord_39 : decode cX4_isWord 39 = .ok (.getfield 3, 3) := dk_180 0 3 (dk_at dksX4_isWord_1 16 rfl rfl)
theorem dX4_isWord_42 : decode cX4_isWord 42 = .ok (.getfield 48, 3) := dk_180 0 48 (dk_at dksX4_isWord_1 19 rfl rfl)
theorem dX4_isWord_45 : decode cX4_isWord 45 = .ok (.aload_n 0, 1) := dk_42 (dk_at dksX4_isWord_1 22 rfl rfl)
theorem dX4_isWord_46 : decode cX4_isWord 46 = .ok (.getfield 42, 3) := dk_180 0 42 (dk_at dksX4_isWord_2 0 rfl rfl)
theorem dX4_isWord_49 : decode cX4_isWord 49 = .ok (.iload 4, 2) := dk_21 4 (dk_at dksX4_isWord_2 3 rfl rfl)
theorem dX4_isWord_51 : decode cX4_isWord 51 = .ok (.iadd, 1) := dk_96 (dk_at dksX4_isWord_2 5 rfl rfl)
theorem dX4_isWord_52 : decode cX4_isWord 52 = .ok (.baload, 1) := dk_51 (dk_at dksX4_isWord_2 6 rfl rfl)
theorem dX4_isWord_53 : decode cX4_isWord 53 = .ok (.if_icmp .ne 7, 3) := dk_160 0 7 (dk_at dksX4_isWord_2 7 rfl rfl)
theorem dX4_isWord_56 : decode cX4_isWord 56 = .ok (.iconst 1, 1) := dk_4 (dk_at dksX4_isWord_2 10 rfl rfl)
theorem dX4_isWord_57 : decode cX4_isWord 57 = .ok (.goto 4, 3) := dk_167 0 4 (dk_at dksX4_isWord_2 11 rfl rfl)
theorem dX4_isWord_60 : decode cX4_isWord 60 = .ok (.iconst 0, 1) := dk_3 (dk_at dksX4_isWord_2 14 rfl rfl)
theorem dX4_isWord_61 : decode cX4_isWord 61 = .ok (.istore_n 3, 1) := dk_62 (dk_at dksX4_isWord_2 15 rfl rfl)
theorem dX4_isWord_62 : decode cX4_isWord 62 = .ok (.iinc 4 1, 3) := dk_132 4 1 (dk_at dksX4_isWord_2 16 rfl rfl)
theorem dX4_isWord_65 : decode cX4_isWord 65 = .ok (.goto (-43), 3) := dk_167 255 213 (dk_at dksX4_isWord_2 19 rfl rfl)
theorem dX4_isWord_68 : decode cX4_isWord 68 = .ok (.iload_n 3, 1) := dk_29 (dk_at dksX4_isWord_2 22 rfl rfl)
theorem dX4_isWord_69 : decode cX4_isWord 69 = .ok (.ireturn, 1) := dk_172 (dk_at dksX4_isWord_2 23 rfl rfl)
abbrev cX4_letters : ByteArray := prog_13_method_5_code
def yX4_letters : MethodName := ⟨RX4, "letters", "()I"⟩
def dkwX4_letters_2 : List UInt8 := [180, 0, 48, 42, 180, 0, 42, 27, 96, 51, 16, 122, 163, 0, 9, 132, 1, 1, 167, 255, 199, 27, 172]
abbrev dktX4_letters_2 : List UInt8 := dkwX4_letters_2 ++ []
def dkwX4_letters_1 : List UInt8 := [180, 0, 3, 180, 0, 48, 42, 180, 0, 42, 27, 96, 51, 16, 97, 161, 0, 28, 42, 180, 0, 3]
abbrev dktX4_letters_1 : List UInt8 := dkwX4_letters_1 ++ dktX4_letters_2
def dkwX4_letters_0 : List UInt8 := [42, 182, 0, 52, 87, 3, 60, 42, 180, 0, 42, 27, 96, 42, 180, 0, 3, 180, 0, 45, 162, 0, 47, 42]
abbrev dktX4_letters_0 : List UInt8 := dkwX4_letters_0 ++ dktX4_letters_1
theorem dksX4_letters_0 : cX4_letters.data.toList.drop 0 = dktX4_letters_0 := by decide +kernel
theorem dksX4_letters_1 : cX4_letters.data.toList.drop 24 = dktX4_letters_1 := dk_seg dksX4_letters_0 24 rfl rfl
theorem dksX4_letters_2 : cX4_letters.data.toList.drop 46 = dktX4_letters_2 := dk_seg dksX4_letters_1 22 rfl rfl
theorem dX4_letters_0 : decode cX4_letters 0 = .ok (.aload_n 0, 1) := dk_42 (dk_at dksX4_letters_0 0 rfl rfl)
theorem dX4_letters_1 : decode cX4_letters 1 = .ok (.invokevirtual 52, 3) := dk_182 0 52 (dk_at dksX4_letters_0 1 rfl rfl)
theorem dX4_letters_4 : decode cX4_letters 4 = .ok (.pop, 1) := dk_87 (dk_at dksX4_letters_0 4 rfl rfl)
theorem dX4_letters_5 : decode cX4_letters 5 = .ok (.iconst 0, 1) := dk_3 (dk_at dksX4_letters_0 5 rfl rfl)
theorem dX4_letters_6 : decode cX4_letters 6 = .ok (.istore_n 1, 1) := dk_60 (dk_at dksX4_letters_0 6 rfl rfl)
theorem dX4_letters_7 : decode cX4_letters 7 = .ok (.aload_n 0, 1) := dk_42 (dk_at dksX4_letters_0 7 rfl rfl)
theorem dX4_letters_8 : decode cX4_letters 8 = .ok (.getfield 42, 3) := dk_180 0 42 (dk_at dksX4_letters_0 8 rfl rfl)
theorem dX4_letters_11 : decode cX4_letters 11 = .ok (.iload_n 1, 1) := dk_27 (dk_at dksX4_letters_0 11 rfl rfl)
theorem dX4_letters_12 : decode cX4_letters 12 = .ok (.iadd, 1) := dk_96 (dk_at dksX4_letters_0 12 rfl rfl)
theorem dX4_letters_13 : decode cX4_letters 13 = .ok (.aload_n 0, 1) := dk_42 (dk_at dksX4_letters_0 13 rfl rfl)
theorem dX4_letters_14 : decode cX4_letters 14 = .ok (.getfield 3, 3) := dk_180 0 3 (dk_at dksX4_letters_0 14 rfl rfl)
theorem dX4_letters_17 : decode cX4_letters 17 = .ok (.getfield 45, 3) := dk_180 0 45 (dk_at dksX4_letters_0 17 rfl rfl)
theorem dX4_letters_20 : decode cX4_letters 20 = .ok (.if_icmp .ge 47, 3) := dk_162 0 47 (dk_at dksX4_letters_0 20 rfl rfl)
theorem dX4_letters_23 : decode cX4_letters 23 = .ok (.aload_n 0, 1) := dk_42 (dk_at dksX4_letters_0 23 rfl rfl)
theorem dX4_letters_24 : decode cX4_letters 24 = .ok (.getfield 3, 3) := dk_180 0 3 (dk_at dksX4_letters_1 0 rfl rfl)
theorem dX4_letters_27 : decode cX4_letters 27 = .ok (.getfield 48, 3) := dk_180 0 48 (dk_at dksX4_letters_1 3 rfl rfl)
theorem dX4_letters_30 : decode cX4_letters 30 = .ok (.aload_n 0, 1) := dk_42 (dk_at dksX4_letters_1 6 rfl rfl)
theorem dX4_letters_31 : decode cX4_letters 31 = .ok (.getfield 42, 3) := dk_180 0 42 (dk_at dksX4_letters_1 7 rfl rfl)
theorem dX4_letters_34 : decode cX4_letters 34 = .ok (.iload_n 1, 1) := dk_27 (dk_at dksX4_letters_1 10 rfl rfl)
theorem dX4_letters_35 : decode cX4_letters 35 = .ok (.iadd, 1) := dk_96 (dk_at dksX4_letters_1 11 rfl rfl)
theorem dX4_letters_36 : decode cX4_letters 36 = .ok (.baload, 1) := dk_51 (dk_at dksX4_letters_1 12 rfl rfl)
theorem dX4_letters_37 : decode cX4_letters 37 = .ok (.bipush 97, 2) := dk_16 97 (dk_at dksX4_letters_1 13 rfl rfl)
theorem dX4_letters_39 : decode cX4_letters 39 = .ok (.if_icmp .lt 28, 3) := dk_161 0 28 (dk_at dksX4_letters_1 15 rfl rfl)
theorem dX4_letters_42 : decode cX4_letters 42 = .ok (.aload_n 0, 1) := dk_42 (dk_at dksX4_letters_1 18 rfl rfl)
theorem dX4_letters_43 : decode cX4_letters 43 = .ok (.getfield 3, 3) := dk_180 0 3 (dk_at dksX4_letters_1 19 rfl rfl)
theorem dX4_letters_46 : decode cX4_letters 46 = .ok (.getfield 48, 3) := dk_180 0 48 (dk_at dksX4_letters_2 0 rfl rfl)
theorem dX4_letters_49 : decode cX4_letters 49 = .ok (.aload_n 0, 1) := dk_42 (dk_at dksX4_letters_2 3 rfl rfl)
theorem dX4_letters_50 : decode cX4_letters 50 = .ok (.getfield 42, 3) := dk_180 0 42 (dk_at dksX4_letters_2 4 rfl rfl)
theorem dX4_letters_53 : decode cX4_letters 53 = .ok (.iload_n 1, 1) := dk_27 (dk_at dksX4_letters_2 7 rfl rfl)
theorem dX4_letters_54 : decode cX4_letters 54 = .ok (.iadd, 1) := dk_96 (dk_at dksX4_letters_2 8 rfl rfl)
theorem dX4_letters_55 : decode cX4_letters 55 = .ok (.baload, 1) := dk_51 (dk_at dksX4_letters_2 9 rfl rfl)
theorem dX4_letters_56 : decode cX4_letters 56 = .ok (.bipush 122, 2) := dk_16 122 (dk_at dksX4_letters_2 10 rfl rfl)
theorem dX4_letters_58 : decode cX4_letters 58 = .ok (.if_icmp .gt 9, 3) := dk_163 0 9 (dk_at dksX4_letters_2 12 rfl rfl)
theorem dX4_letters_61 : decode cX4_letters 61 = .ok (.iinc 1 1, 3) := dk_132 1 1 (dk_at dksX4_letters_2 15 rfl rfl)
theorem dX4_letters_64 : decode cX4_letters 64 = .ok (.goto (-57), 3) := dk_167 255 199 (dk_at dksX4_letters_2 18 rfl rfl)
theorem dX4_letters_67 : decode cX4_letters 67 = .ok (.iload_n 1, 1) := dk_27 (dk_at dksX4_letters_2 21 rfl rfl)
theorem dX4_letters_68 : decode cX4_letters 68 = .ok (.ireturn, 1) := dk_172 (dk_at dksX4_letters_2 22 rfl rfl)
abbrev cX4_demand : ByteArray := prog_13_method_2_code
def yX4_demand : MethodName := ⟨RX4, "demand", "(ZII)V"⟩
def dkwX4_demand_1 : List UInt8 := [181, 0, 39, 42, 180, 0, 3, 180, 0, 29, 191]
abbrev dktX4_demand_1 : List UInt8 := dkwX4_demand_1 ++ []
def dkwX4_demand_0 : List UInt8 := [27, 153, 0, 4, 177, 42, 180, 0, 3, 180, 0, 29, 28, 181, 0, 33, 42, 180, 0, 3, 180, 0, 29, 29]
abbrev dktX4_demand_0 : List UInt8 := dkwX4_demand_0 ++ dktX4_demand_1
theorem dksX4_demand_0 : cX4_demand.data.toList.drop 0 = dktX4_demand_0 := by decide +kernel
theorem dksX4_demand_1 : cX4_demand.data.toList.drop 24 = dktX4_demand_1 := dk_seg dksX4_demand_0 24 rfl rfl
theorem dX4_demand_0 : decode cX4_demand 0 = .ok (.iload_n 1, 1) := dk_27 (dk_at dksX4_demand_0 0 rfl rfl)
theorem dX4_demand_1 : decode cX4_demand 1 = .ok (.ifCond .eq 4, 3) := dk_153 0 4 (dk_at dksX4_demand_0 1 rfl rfl)
theorem dX4_demand_4 : decode cX4_demand 4 = .ok (.return_, 1) := dk_177 (dk_at dksX4_demand_0 4 rfl rfl)
theorem dX4_demand_5 : decode cX4_demand 5 = .ok (.aload_n 0, 1) := dk_42 (dk_at dksX4_demand_0 5 rfl rfl)
theorem dX4_demand_6 : decode cX4_demand 6 = .ok (.getfield 3, 3) := dk_180 0 3 (dk_at dksX4_demand_0 6 rfl rfl)
theorem dX4_demand_9 : decode cX4_demand 9 = .ok (.getfield 29, 3) := dk_180 0 29 (dk_at dksX4_demand_0 9 rfl rfl)
theorem dX4_demand_12 : decode cX4_demand 12 = .ok (.iload_n 2, 1) := dk_28 (dk_at dksX4_demand_0 12 rfl rfl)
theorem dX4_demand_13 : decode cX4_demand 13 = .ok (.putfield 33, 3) := dk_181 0 33 (dk_at dksX4_demand_0 13 rfl rfl)
theorem dX4_demand_16 : decode cX4_demand 16 = .ok (.aload_n 0, 1) := dk_42 (dk_at dksX4_demand_0 16 rfl rfl)
theorem dX4_demand_17 : decode cX4_demand 17 = .ok (.getfield 3, 3) := dk_180 0 3 (dk_at dksX4_demand_0 17 rfl rfl)
theorem dX4_demand_20 : decode cX4_demand 20 = .ok (.getfield 29, 3) := dk_180 0 29 (dk_at dksX4_demand_0 20 rfl rfl)
theorem dX4_demand_23 : decode cX4_demand 23 = .ok (.iload_n 3, 1) := dk_29 (dk_at dksX4_demand_0 23 rfl rfl)
theorem dX4_demand_24 : decode cX4_demand 24 = .ok (.putfield 39, 3) := dk_181 0 39 (dk_at dksX4_demand_1 0 rfl rfl)
theorem dX4_demand_27 : decode cX4_demand 27 = .ok (.aload_n 0, 1) := dk_42 (dk_at dksX4_demand_1 3 rfl rfl)
theorem dX4_demand_28 : decode cX4_demand 28 = .ok (.getfield 3, 3) := dk_180 0 3 (dk_at dksX4_demand_1 4 rfl rfl)
theorem dX4_demand_31 : decode cX4_demand 31 = .ok (.getfield 29, 3) := dk_180 0 29 (dk_at dksX4_demand_1 7 rfl rfl)
theorem dX4_demand_34 : decode cX4_demand 34 = .ok (.athrow, 1) := dk_191 (dk_at dksX4_demand_1 10 rfl rfl)
abbrev cX4_canBe : ByteArray := prog_13_method_14_code
def yX4_canBe : MethodName := ⟨RX4, "canBe", "(I)Z"⟩
def dkwX4_canBe_6 : List UInt8 := [167, 0, 4, 3, 172, 4, 172]
abbrev dktX4_canBe_6 : List UInt8 := dkwX4_canBe_6 ++ []
def dkwX4_canBe_5 : List UInt8 := [162, 0, 7, 4, 167, 0, 4, 3, 172, 42, 180, 0, 26, 180, 0, 107, 16, 6, 162, 0, 7, 4]
abbrev dktX4_canBe_5 : List UInt8 := dkwX4_canBe_5 ++ dktX4_canBe_6
def dkwX4_canBe_4 : List UInt8 := [180, 0, 101, 16, 8, 162, 0, 7, 4, 167, 0, 4, 3, 172, 42, 180, 0, 26, 180, 0, 104, 16, 12]
abbrev dktX4_canBe_4 : List UInt8 := dkwX4_canBe_4 ++ dktX4_canBe_5
def dkwX4_canBe_3 : List UInt8 := [42, 180, 0, 26, 180, 0, 98, 16, 6, 162, 0, 7, 4, 167, 0, 4, 3, 172, 42, 180, 0, 26]
abbrev dktX4_canBe_3 : List UInt8 := dkwX4_canBe_3 ++ dktX4_canBe_4
def dkwX4_canBe_2 : List UInt8 := [170, 0, 0, 0, 101, 0, 0, 0, 1, 0, 0, 0, 4, 0, 0, 0, 29, 0, 0, 0, 47, 0, 0, 0, 65, 0, 0, 0, 83]
abbrev dktX4_canBe_2 : List UInt8 := dkwX4_canBe_2 ++ dktX4_canBe_3
def dkwX4_canBe_1 : List UInt8 := [180, 0, 93, 154, 0, 7, 4, 167, 0, 4, 3, 159, 0, 5, 3, 172, 27]
abbrev dktX4_canBe_1 : List UInt8 := dkwX4_canBe_1 ++ dktX4_canBe_2
def dkwX4_canBe_0 : List UInt8 := [42, 180, 0, 90, 16, 40, 162, 0, 30, 27, 154, 0, 7, 4, 167, 0, 4, 3, 42, 180, 0, 26]
abbrev dktX4_canBe_0 : List UInt8 := dkwX4_canBe_0 ++ dktX4_canBe_1
theorem dksX4_canBe_0 : cX4_canBe.data.toList.drop 0 = dktX4_canBe_0 := by decide +kernel
theorem dksX4_canBe_1 : cX4_canBe.data.toList.drop 22 = dktX4_canBe_1 := dk_seg dksX4_canBe_0 22 rfl rfl
theorem dksX4_canBe_2 : cX4_canBe.data.toList.drop 39 = dktX4_canBe_2 := dk_seg dksX4_canBe_1 17 rfl rfl
theorem dksX4_canBe_3 : cX4_canBe.data.toList.drop 68 = dktX4_canBe_3 := dk_seg dksX4_canBe_2 29 rfl rfl
theorem dksX4_canBe_4 : cX4_canBe.data.toList.drop 90 = dktX4_canBe_4 := dk_seg dksX4_canBe_3 22 rfl rfl
theorem dksX4_canBe_5 : cX4_canBe.data.toList.drop 113 = dktX4_canBe_5 := dk_seg dksX4_canBe_4 23 rfl rfl
theorem dksX4_canBe_6 : cX4_canBe.data.toList.drop 135 = dktX4_canBe_6 := dk_seg dksX4_canBe_5 22 rfl rfl
theorem dX4_canBe_0 : decode cX4_canBe 0 = .ok (.aload_n 0, 1) := dk_42 (dk_at dksX4_canBe_0 0 rfl rfl)
theorem dX4_canBe_1 : decode cX4_canBe 1 = .ok (.getfield 90, 3) := dk_180 0 90 (dk_at dksX4_canBe_0 1 rfl rfl)
theorem dX4_canBe_4 : decode cX4_canBe 4 = .ok (.bipush 40, 2) := dk_16 40 (dk_at dksX4_canBe_0 4 rfl rfl)
theorem dX4_canBe_6 : decode cX4_canBe 6 = .ok (.if_icmp .ge 30, 3) := dk_162 0 30 (dk_at dksX4_canBe_0 6 rfl rfl)
theorem dX4_canBe_9 : decode cX4_canBe 9 = .ok (.iload_n 1, 1) := dk_27 (dk_at dksX4_canBe_0 9 rfl rfl)
theorem dX4_canBe_10 : decode cX4_canBe 10 = .ok (.ifCond .ne 7, 3) := dk_154 0 7 (dk_at dksX4_canBe_0 10 rfl rfl)
theorem dX4_canBe_13 : decode cX4_canBe 13 = .ok (.iconst 1, 1) := dk_4 (dk_at dksX4_canBe_0 13 rfl rfl)
theorem dX4_canBe_14 : decode cX4_canBe 14 = .ok (.goto 4, 3) := dk_167 0 4 (dk_at dksX4_canBe_0 14 rfl rfl)
theorem dX4_canBe_17 : decode cX4_canBe 17 = .ok (.iconst 0, 1) := dk_3 (dk_at dksX4_canBe_0 17 rfl rfl)
theorem dX4_canBe_18 : decode cX4_canBe 18 = .ok (.aload_n 0, 1) := dk_42 (dk_at dksX4_canBe_0 18 rfl rfl)
theorem dX4_canBe_19 : decode cX4_canBe 19 = .ok (.getfield 26, 3) := dk_180 0 26 (dk_at dksX4_canBe_0 19 rfl rfl)
theorem dX4_canBe_22 : decode cX4_canBe 22 = .ok (.getfield 93, 3) := dk_180 0 93 (dk_at dksX4_canBe_1 0 rfl rfl)
theorem dX4_canBe_25 : decode cX4_canBe 25 = .ok (.ifCond .ne 7, 3) := dk_154 0 7 (dk_at dksX4_canBe_1 3 rfl rfl)
theorem dX4_canBe_28 : decode cX4_canBe 28 = .ok (.iconst 1, 1) := dk_4 (dk_at dksX4_canBe_1 6 rfl rfl)
theorem dX4_canBe_29 : decode cX4_canBe 29 = .ok (.goto 4, 3) := dk_167 0 4 (dk_at dksX4_canBe_1 7 rfl rfl)
theorem dX4_canBe_32 : decode cX4_canBe 32 = .ok (.iconst 0, 1) := dk_3 (dk_at dksX4_canBe_1 10 rfl rfl)
theorem dX4_canBe_33 : decode cX4_canBe 33 = .ok (.if_icmp .eq 5, 3) := dk_159 0 5 (dk_at dksX4_canBe_1 11 rfl rfl)
theorem dX4_canBe_36 : decode cX4_canBe 36 = .ok (.iconst 0, 1) := dk_3 (dk_at dksX4_canBe_1 14 rfl rfl)
theorem dX4_canBe_37 : decode cX4_canBe 37 = .ok (.ireturn, 1) := dk_172 (dk_at dksX4_canBe_1 15 rfl rfl)
theorem dX4_canBe_38 : decode cX4_canBe 38 = .ok (.iload_n 1, 1) := dk_27 (dk_at dksX4_canBe_1 16 rfl rfl)
theorem dX4_canBe_39 : decode cX4_canBe 39 = .ok (.tableswitch 101 1 4 #[29, 47, 65, 83], 29) := by decide +kernel
theorem dX4_canBe_68 : decode cX4_canBe 68 = .ok (.aload_n 0, 1) := dk_42 (dk_at dksX4_canBe_3 0 rfl rfl)
theorem dX4_canBe_69 : decode cX4_canBe 69 = .ok (.getfield 26, 3) := dk_180 0 26 (dk_at dksX4_canBe_3 1 rfl rfl)
theorem dX4_canBe_72 : decode cX4_canBe 72 = .ok (.getfield 98, 3) := dk_180 0 98 (dk_at dksX4_canBe_3 4 rfl rfl)
theorem dX4_canBe_75 : decode cX4_canBe 75 = .ok (.bipush 6, 2) := dk_16 6 (dk_at dksX4_canBe_3 7 rfl rfl)
theorem dX4_canBe_77 : decode cX4_canBe 77 = .ok (.if_icmp .ge 7, 3) := dk_162 0 7 (dk_at dksX4_canBe_3 9 rfl rfl)
theorem dX4_canBe_80 : decode cX4_canBe 80 = .ok (.iconst 1, 1) := dk_4 (dk_at dksX4_canBe_3 12 rfl rfl)
theorem dX4_canBe_81 : decode cX4_canBe 81 = .ok (.goto 4, 3) := dk_167 0 4 (dk_at dksX4_canBe_3 13 rfl rfl)
theorem dX4_canBe_84 : decode cX4_canBe 84 = .ok (.iconst 0, 1) := dk_3 (dk_at dksX4_canBe_3 16 rfl rfl)
theorem dX4_canBe_85 : decode cX4_canBe 85 = .ok (.ireturn, 1) := dk_172 (dk_at dksX4_canBe_3 17 rfl rfl)
theorem dX4_canBe_86 : decode cX4_canBe 86 = .ok (.aload_n 0, 1) := dk_42 (dk_at dksX4_canBe_3 18 rfl rfl)
theorem dX4_canBe_87 : decode cX4_canBe 87 = .ok (.getfield 26, 3) := dk_180 0 26 (dk_at dksX4_canBe_3 19 rfl rfl)
theorem dX4_canBe_90 : decode cX4_canBe 90 = .ok (.getfield 101, 3) := dk_180 0 101 (dk_at dksX4_canBe_4 0 rfl rfl)
theorem dX4_canBe_93 : decode cX4_canBe 93 = .ok (.bipush 8, 2) := dk_16 8 (dk_at dksX4_canBe_4 3 rfl rfl)
theorem dX4_canBe_95 : decode cX4_canBe 95 = .ok (.if_icmp .ge 7, 3) := dk_162 0 7 (dk_at dksX4_canBe_4 5 rfl rfl)
theorem dX4_canBe_98 : decode cX4_canBe 98 = .ok (.iconst 1, 1) := dk_4 (dk_at dksX4_canBe_4 8 rfl rfl)
theorem dX4_canBe_99 : decode cX4_canBe 99 = .ok (.goto 4, 3) := dk_167 0 4 (dk_at dksX4_canBe_4 9 rfl rfl)
theorem dX4_canBe_102 : decode cX4_canBe 102 = .ok (.iconst 0, 1) := dk_3 (dk_at dksX4_canBe_4 12 rfl rfl)
theorem dX4_canBe_103 : decode cX4_canBe 103 = .ok (.ireturn, 1) := dk_172 (dk_at dksX4_canBe_4 13 rfl rfl)
theorem dX4_canBe_104 : decode cX4_canBe 104 = .ok (.aload_n 0, 1) := dk_42 (dk_at dksX4_canBe_4 14 rfl rfl)
theorem dX4_canBe_105 : decode cX4_canBe 105 = .ok (.getfield 26, 3) := dk_180 0 26 (dk_at dksX4_canBe_4 15 rfl rfl)
theorem dX4_canBe_108 : decode cX4_canBe 108 = .ok (.getfield 104, 3) := dk_180 0 104 (dk_at dksX4_canBe_4 18 rfl rfl)
theorem dX4_canBe_111 : decode cX4_canBe 111 = .ok (.bipush 12, 2) := dk_16 12 (dk_at dksX4_canBe_4 21 rfl rfl)
theorem dX4_canBe_113 : decode cX4_canBe 113 = .ok (.if_icmp .ge 7, 3) := dk_162 0 7 (dk_at dksX4_canBe_5 0 rfl rfl)
theorem dX4_canBe_116 : decode cX4_canBe 116 = .ok (.iconst 1, 1) := dk_4 (dk_at dksX4_canBe_5 3 rfl rfl)
theorem dX4_canBe_117 : decode cX4_canBe 117 = .ok (.goto 4, 3) := dk_167 0 4 (dk_at dksX4_canBe_5 4 rfl rfl)
theorem dX4_canBe_120 : decode cX4_canBe 120 = .ok (.iconst 0, 1) := dk_3 (dk_at dksX4_canBe_5 7 rfl rfl)
theorem dX4_canBe_121 : decode cX4_canBe 121 = .ok (.ireturn, 1) := dk_172 (dk_at dksX4_canBe_5 8 rfl rfl)
theorem dX4_canBe_122 : decode cX4_canBe 122 = .ok (.aload_n 0, 1) := dk_42 (dk_at dksX4_canBe_5 9 rfl rfl)
theorem dX4_canBe_123 : decode cX4_canBe 123 = .ok (.getfield 26, 3) := dk_180 0 26 (dk_at dksX4_canBe_5 10 rfl rfl)
theorem dX4_canBe_126 : decode cX4_canBe 126 = .ok (.getfield 107, 3) := dk_180 0 107 (dk_at dksX4_canBe_5 13 rfl rfl)
theorem dX4_canBe_129 : decode cX4_canBe 129 = .ok (.bipush 6, 2) := dk_16 6 (dk_at dksX4_canBe_5 16 rfl rfl)
theorem dX4_canBe_131 : decode cX4_canBe 131 = .ok (.if_icmp .ge 7, 3) := dk_162 0 7 (dk_at dksX4_canBe_5 18 rfl rfl)
theorem dX4_canBe_134 : decode cX4_canBe 134 = .ok (.iconst 1, 1) := dk_4 (dk_at dksX4_canBe_5 21 rfl rfl)
theorem dX4_canBe_135 : decode cX4_canBe 135 = .ok (.goto 4, 3) := dk_167 0 4 (dk_at dksX4_canBe_6 0 rfl rfl)
theorem dX4_canBe_138 : decode cX4_canBe 138 = .ok (.iconst 0, 1) := dk_3 (dk_at dksX4_canBe_6 3 rfl rfl)
theorem dX4_canBe_139 : decode cX4_canBe 139 = .ok (.ireturn, 1) := dk_172 (dk_at dksX4_canBe_6 4 rfl rfl)
theorem dX4_canBe_140 : decode cX4_canBe 140 = .ok (.iconst 1, 1) := dk_4 (dk_at dksX4_canBe_6 5 rfl rfl)
theorem dX4_canBe_141 : decode cX4_canBe 141 = .ok (.ireturn, 1) := dk_172 (dk_at dksX4_canBe_6 6 rfl rfl)
abbrev cX4_line : ByteArray := prog_13_method_19_code
def yX4_line : MethodName := ⟨RX4, "line", "(I)V"⟩
def dkwX4_line_4 : List UInt8 := [182, 0, 162, 177]
abbrev dktX4_line_4 : List UInt8 := dkwX4_line_4 ++ []
def dkwX4_line_3 : List UInt8 := [182, 0, 114, 181, 0, 150, 177, 42, 182, 0, 153, 177, 42, 182, 0, 156, 177, 42, 182, 0, 159, 177, 42]
abbrev dktX4_line_3 : List UInt8 := dkwX4_line_3 ++ dktX4_line_4
def dkwX4_line_2 : List UInt8 := [42, 180, 0, 26, 42, 5, 16, 99, 182, 0, 114, 181, 0, 93, 42, 180, 0, 26, 42, 3, 16, 99]
abbrev dktX4_line_2 : List UInt8 := dkwX4_line_2 ++ dktX4_line_3
def dkwX4_line_1 : List UInt8 := [170, 0, 0, 0, 0, 0, 75, 0, 0, 0, 0, 0, 0, 0, 3, 0, 0, 0, 31, 0, 0, 0, 60, 0, 0, 0, 65, 0, 0, 0, 70]
abbrev dktX4_line_1 : List UInt8 := dkwX4_line_1 ++ dktX4_line_2
def dkwX4_line_0 : List UInt8 := [27]
abbrev dktX4_line_0 : List UInt8 := dkwX4_line_0 ++ dktX4_line_1
theorem dksX4_line_0 : cX4_line.data.toList.drop 0 = dktX4_line_0 := by decide +kernel
theorem dksX4_line_1 : cX4_line.data.toList.drop 1 = dktX4_line_1 := dk_seg dksX4_line_0 1 rfl rfl
theorem dksX4_line_2 : cX4_line.data.toList.drop 32 = dktX4_line_2 := dk_seg dksX4_line_1 31 rfl rfl
theorem dksX4_line_3 : cX4_line.data.toList.drop 54 = dktX4_line_3 := dk_seg dksX4_line_2 22 rfl rfl
theorem dksX4_line_4 : cX4_line.data.toList.drop 77 = dktX4_line_4 := dk_seg dksX4_line_3 23 rfl rfl
theorem dX4_line_0 : decode cX4_line 0 = .ok (.iload_n 1, 1) := dk_27 (dk_at dksX4_line_0 0 rfl rfl)
theorem dX4_line_1 : decode cX4_line 1 = .ok (.tableswitch 75 0 3 #[31, 60, 65, 70], 31) := by decide +kernel
theorem dX4_line_32 : decode cX4_line 32 = .ok (.aload_n 0, 1) := dk_42 (dk_at dksX4_line_2 0 rfl rfl)
theorem dX4_line_33 : decode cX4_line 33 = .ok (.getfield 26, 3) := dk_180 0 26 (dk_at dksX4_line_2 1 rfl rfl)
theorem dX4_line_36 : decode cX4_line 36 = .ok (.aload_n 0, 1) := dk_42 (dk_at dksX4_line_2 4 rfl rfl)
theorem dX4_line_37 : decode cX4_line 37 = .ok (.iconst 2, 1) := dk_5 (dk_at dksX4_line_2 5 rfl rfl)
theorem dX4_line_38 : decode cX4_line 38 = .ok (.bipush 99, 2) := dk_16 99 (dk_at dksX4_line_2 6 rfl rfl)
theorem dX4_line_40 : decode cX4_line 40 = .ok (.invokevirtual 114, 3) := dk_182 0 114 (dk_at dksX4_line_2 8 rfl rfl)
theorem dX4_line_43 : decode cX4_line 43 = .ok (.putfield 93, 3) := dk_181 0 93 (dk_at dksX4_line_2 11 rfl rfl)
theorem dX4_line_46 : decode cX4_line 46 = .ok (.aload_n 0, 1) := dk_42 (dk_at dksX4_line_2 14 rfl rfl)
theorem dX4_line_47 : decode cX4_line 47 = .ok (.getfield 26, 3) := dk_180 0 26 (dk_at dksX4_line_2 15 rfl rfl)
theorem dX4_line_50 : decode cX4_line 50 = .ok (.aload_n 0, 1) := dk_42 (dk_at dksX4_line_2 18 rfl rfl)
theorem dX4_line_51 : decode cX4_line 51 = .ok (.iconst 0, 1) := dk_3 (dk_at dksX4_line_2 19 rfl rfl)
theorem dX4_line_52 : decode cX4_line 52 = .ok (.bipush 99, 2) := dk_16 99 (dk_at dksX4_line_2 20 rfl rfl)
theorem dX4_line_54 : decode cX4_line 54 = .ok (.invokevirtual 114, 3) := dk_182 0 114 (dk_at dksX4_line_3 0 rfl rfl)
theorem dX4_line_57 : decode cX4_line 57 = .ok (.putfield 150, 3) := dk_181 0 150 (dk_at dksX4_line_3 3 rfl rfl)
theorem dX4_line_60 : decode cX4_line 60 = .ok (.return_, 1) := dk_177 (dk_at dksX4_line_3 6 rfl rfl)
theorem dX4_line_61 : decode cX4_line 61 = .ok (.aload_n 0, 1) := dk_42 (dk_at dksX4_line_3 7 rfl rfl)
theorem dX4_line_62 : decode cX4_line 62 = .ok (.invokevirtual 153, 3) := dk_182 0 153 (dk_at dksX4_line_3 8 rfl rfl)
theorem dX4_line_65 : decode cX4_line 65 = .ok (.return_, 1) := dk_177 (dk_at dksX4_line_3 11 rfl rfl)
theorem dX4_line_66 : decode cX4_line 66 = .ok (.aload_n 0, 1) := dk_42 (dk_at dksX4_line_3 12 rfl rfl)
theorem dX4_line_67 : decode cX4_line 67 = .ok (.invokevirtual 156, 3) := dk_182 0 156 (dk_at dksX4_line_3 13 rfl rfl)
theorem dX4_line_70 : decode cX4_line 70 = .ok (.return_, 1) := dk_177 (dk_at dksX4_line_3 16 rfl rfl)
theorem dX4_line_71 : decode cX4_line 71 = .ok (.aload_n 0, 1) := dk_42 (dk_at dksX4_line_3 17 rfl rfl)
theorem dX4_line_72 : decode cX4_line 72 = .ok (.invokevirtual 159, 3) := dk_182 0 159 (dk_at dksX4_line_3 18 rfl rfl)
theorem dX4_line_75 : decode cX4_line 75 = .ok (.return_, 1) := dk_177 (dk_at dksX4_line_3 21 rfl rfl)
theorem dX4_line_76 : decode cX4_line 76 = .ok (.aload_n 0, 1) := dk_42 (dk_at dksX4_line_3 22 rfl rfl)
theorem dX4_line_77 : decode cX4_line 77 = .ok (.invokevirtual 162, 3) := dk_182 0 162 (dk_at dksX4_line_4 0 rfl rfl)
theorem dX4_line_80 : decode cX4_line 80 = .ok (.return_, 1) := dk_177 (dk_at dksX4_line_4 3 rfl rfl)
abbrev cX4_number : ByteArray := prog_13_method_10_code
def yX4_number : MethodName := ⟨RX4, "number", "(II)I"⟩
def dkwX4_number_4 : List UInt8 := [133, 27, 133, 28, 133, 184, 0, 80, 153, 0, 7, 4, 167, 0, 4, 3, 4, 29, 182, 0, 76, 21, 4, 172]
abbrev dktX4_number_4 : List UInt8 := dkwX4_number_4 ++ []
def dkwX4_number_3 : List UInt8 := [180, 0, 42, 4, 96, 181, 0, 42, 167, 255, 202, 42, 42, 180, 0, 42, 29, 100, 8, 163, 0, 20, 21, 4]
abbrev dktX4_number_3 : List UInt8 := dkwX4_number_3 ++ dktX4_number_4
def dkwX4_number_2 : List UInt8 := [21, 4, 104, 42, 180, 0, 3, 180, 0, 48, 42, 180, 0, 42, 51, 96, 16, 48, 100, 54, 4, 42, 89]
abbrev dktX4_number_2 : List UInt8 := dkwX4_number_2 ++ dktX4_number_3
def dkwX4_number_1 : List UInt8 := [42, 42, 180, 0, 42, 182, 0, 72, 153, 0, 49, 42, 180, 0, 42, 29, 100, 8, 162, 0, 26, 16, 10]
abbrev dktX4_number_1 : List UInt8 := dkwX4_number_1 ++ dktX4_number_2
def dkwX4_number_0 : List UInt8 := [42, 182, 0, 52, 87, 42, 180, 0, 42, 62, 42, 42, 29, 182, 0, 72, 3, 29, 182, 0, 76, 3, 54, 4]
abbrev dktX4_number_0 : List UInt8 := dkwX4_number_0 ++ dktX4_number_1
theorem dksX4_number_0 : cX4_number.data.toList.drop 0 = dktX4_number_0 := by decide +kernel
theorem dksX4_number_1 : cX4_number.data.toList.drop 24 = dktX4_number_1 := dk_seg dksX4_number_0 24 rfl rfl
theorem dksX4_number_2 : cX4_number.data.toList.drop 47 = dktX4_number_2 := dk_seg dksX4_number_1 23 rfl rfl
theorem dksX4_number_3 : cX4_number.data.toList.drop 70 = dktX4_number_3 := dk_seg dksX4_number_2 23 rfl rfl
theorem dksX4_number_4 : cX4_number.data.toList.drop 94 = dktX4_number_4 := dk_seg dksX4_number_3 24 rfl rfl
theorem dX4_number_0 : decode cX4_number 0 = .ok (.aload_n 0, 1) := dk_42 (dk_at dksX4_number_0 0 rfl rfl)
theorem dX4_number_1 : decode cX4_number 1 = .ok (.invokevirtual 52, 3) := dk_182 0 52 (dk_at dksX4_number_0 1 rfl rfl)
theorem dX4_number_4 : decode cX4_number 4 = .ok (.pop, 1) := dk_87 (dk_at dksX4_number_0 4 rfl rfl)
theorem dX4_number_5 : decode cX4_number 5 = .ok (.aload_n 0, 1) := dk_42 (dk_at dksX4_number_0 5 rfl rfl)
theorem dX4_number_6 : decode cX4_number 6 = .ok (.getfield 42, 3) := dk_180 0 42 (dk_at dksX4_number_0 6 rfl rfl)
theorem dX4_number_9 : decode cX4_number 9 = .ok (.istore_n 3, 1) := dk_62 (dk_at dksX4_number_0 9 rfl rfl)
theorem dX4_number_10 : decode cX4_number 10 = .ok (.aload_n 0, 1) := dk_42 (dk_at dksX4_number_0 10 rfl rfl)
theorem dX4_number_11 : decode cX4_number 11 = .ok (.aload_n 0, 1) := dk_42 (dk_at dksX4_number_0 11 rfl rfl)
theorem dX4_number_12 : decode cX4_number 12 = .ok (.iload_n 3, 1) := dk_29 (dk_at dksX4_number_0 12 rfl rfl)
theorem dX4_number_13 : decode cX4_number 13 = .ok (.invokevirtual 72, 3) := dk_182 0 72 (dk_at dksX4_number_0 13 rfl rfl)
theorem dX4_number_16 : decode cX4_number 16 = .ok (.iconst 0, 1) := dk_3 (dk_at dksX4_number_0 16 rfl rfl)
theorem dX4_number_17 : decode cX4_number 17 = .ok (.iload_n 3, 1) := dk_29 (dk_at dksX4_number_0 17 rfl rfl)
theorem dX4_number_18 : decode cX4_number 18 = .ok (.invokevirtual 76, 3) := dk_182 0 76 (dk_at dksX4_number_0 18 rfl rfl)
theorem dX4_number_21 : decode cX4_number 21 = .ok (.iconst 0, 1) := dk_3 (dk_at dksX4_number_0 21 rfl rfl)
theorem dX4_number_22 : decode cX4_number 22 = .ok (.istore 4, 2) := dk_54 4 (dk_at dksX4_number_0 22 rfl rfl)
theorem dX4_number_24 : decode cX4_number 24 = .ok (.aload_n 0, 1) := dk_42 (dk_at dksX4_number_1 0 rfl rfl)
theorem dX4_number_25 : decode cX4_number 25 = .ok (.aload_n 0, 1) := dk_42 (dk_at dksX4_number_1 1 rfl rfl)
theorem dX4_number_26 : decode cX4_number 26 = .ok (.getfield 42, 3) := dk_180 0 42 (dk_at dksX4_number_1 2 rfl rfl)
theorem dX4_number_29 : decode cX4_number 29 = .ok (.invokevirtual 72, 3) := dk_182 0 72 (dk_at dksX4_number_1 5 rfl rfl)
theorem dX4_number_32 : decode cX4_number 32 = .ok (.ifCond .eq 49, 3) := dk_153 0 49 (dk_at dksX4_number_1 8 rfl rfl)
theorem dX4_number_35 : decode cX4_number 35 = .ok (.aload_n 0, 1) := dk_42 (dk_at dksX4_number_1 11 rfl rfl)
theorem dX4_number_36 : decode cX4_number 36 = .ok (.getfield 42, 3) := dk_180 0 42 (dk_at dksX4_number_1 12 rfl rfl)
theorem dX4_number_39 : decode cX4_number 39 = .ok (.iload_n 3, 1) := dk_29 (dk_at dksX4_number_1 15 rfl rfl)
theorem dX4_number_40 : decode cX4_number 40 = .ok (.isub, 1) := dk_100 (dk_at dksX4_number_1 16 rfl rfl)
theorem dX4_number_41 : decode cX4_number 41 = .ok (.iconst 5, 1) := dk_8 (dk_at dksX4_number_1 17 rfl rfl)
theorem dX4_number_42 : decode cX4_number 42 = .ok (.if_icmp .ge 26, 3) := dk_162 0 26 (dk_at dksX4_number_1 18 rfl rfl)
theorem dX4_number_45 : decode cX4_number 45 = .ok (.bipush 10, 2) := dk_16 10 (dk_at dksX4_number_1 21 rfl rfl)
theorem dX4_number_47 : decode cX4_number 47 = .ok (.iload 4, 2) := dk_21 4 (dk_at dksX4_number_2 0 rfl rfl)
theorem dX4_number_49 : decode cX4_number 49 = .ok (.imul, 1) := dk_104 (dk_at dksX4_number_2 2 rfl rfl)
theorem dX4_number_50 : decode cX4_number 50 = .ok (.aload_n 0, 1) := dk_42 (dk_at dksX4_number_2 3 rfl rfl)
theorem dX4_number_51 : decode cX4_number 51 = .ok (.getfield 3, 3) := dk_180 0 3 (dk_at dksX4_number_2 4 rfl rfl)
theorem dX4_number_54 : decode cX4_number 54 = .ok (.getfield 48, 3) := dk_180 0 48 (dk_at dksX4_number_2 7 rfl rfl)
theorem dX4_number_57 : decode cX4_number 57 = .ok (.aload_n 0, 1) := dk_42 (dk_at dksX4_number_2 10 rfl rfl)
theorem dX4_number_58 : decode cX4_number 58 = .ok (.getfield 42, 3) := dk_180 0 42 (dk_at dksX4_number_2 11 rfl rfl)
theorem dX4_number_61 : decode cX4_number 61 = .ok (.baload, 1) := dk_51 (dk_at dksX4_number_2 14 rfl rfl)
theorem dX4_number_62 : decode cX4_number 62 = .ok (.iadd, 1) := dk_96 (dk_at dksX4_number_2 15 rfl rfl)
theorem dX4_number_63 : decode cX4_number 63 = .ok (.bipush 48, 2) := dk_16 48 (dk_at dksX4_number_2 16 rfl rfl)
theorem dX4_number_65 : decode cX4_number 65 = .ok (.isub, 1) := dk_100 (dk_at dksX4_number_2 18 rfl rfl)
theorem dX4_number_66 : decode cX4_number 66 = .ok (.istore 4, 2) := dk_54 4 (dk_at dksX4_number_2 19 rfl rfl)
theorem dX4_number_68 : decode cX4_number 68 = .ok (.aload_n 0, 1) := dk_42 (dk_at dksX4_number_2 21 rfl rfl)
theorem dX4_number_69 : decode cX4_number 69 = .ok (.dup, 1) := dk_89 (dk_at dksX4_number_2 22 rfl rfl)
theorem dX4_number_70 : decode cX4_number 70 = .ok (.getfield 42, 3) := dk_180 0 42 (dk_at dksX4_number_3 0 rfl rfl)
theorem dX4_number_73 : decode cX4_number 73 = .ok (.iconst 1, 1) := dk_4 (dk_at dksX4_number_3 3 rfl rfl)
theorem dX4_number_74 : decode cX4_number 74 = .ok (.iadd, 1) := dk_96 (dk_at dksX4_number_3 4 rfl rfl)
theorem dX4_number_75 : decode cX4_number 75 = .ok (.putfield 42, 3) := dk_181 0 42 (dk_at dksX4_number_3 5 rfl rfl)
theorem dX4_number_78 : decode cX4_number 78 = .ok (.goto (-54), 3) := dk_167 255 202 (dk_at dksX4_number_3 8 rfl rfl)
theorem dX4_number_81 : decode cX4_number 81 = .ok (.aload_n 0, 1) := dk_42 (dk_at dksX4_number_3 11 rfl rfl)
theorem dX4_number_82 : decode cX4_number 82 = .ok (.aload_n 0, 1) := dk_42 (dk_at dksX4_number_3 12 rfl rfl)
theorem dX4_number_83 : decode cX4_number 83 = .ok (.getfield 42, 3) := dk_180 0 42 (dk_at dksX4_number_3 13 rfl rfl)
theorem dX4_number_86 : decode cX4_number 86 = .ok (.iload_n 3, 1) := dk_29 (dk_at dksX4_number_3 16 rfl rfl)
theorem dX4_number_87 : decode cX4_number 87 = .ok (.isub, 1) := dk_100 (dk_at dksX4_number_3 17 rfl rfl)
theorem dX4_number_88 : decode cX4_number 88 = .ok (.iconst 5, 1) := dk_8 (dk_at dksX4_number_3 18 rfl rfl)
theorem dX4_number_89 : decode cX4_number 89 = .ok (.if_icmp .gt 20, 3) := dk_163 0 20 (dk_at dksX4_number_3 19 rfl rfl)
theorem dX4_number_92 : decode cX4_number 92 = .ok (.iload 4, 2) := dk_21 4 (dk_at dksX4_number_3 22 rfl rfl)
theorem dX4_number_94 : decode cX4_number 94 = .ok (.i2l, 1) := dk_133 (dk_at dksX4_number_4 0 rfl rfl)
theorem dX4_number_95 : decode cX4_number 95 = .ok (.iload_n 1, 1) := dk_27 (dk_at dksX4_number_4 1 rfl rfl)
theorem dX4_number_96 : decode cX4_number 96 = .ok (.i2l, 1) := dk_133 (dk_at dksX4_number_4 2 rfl rfl)
theorem dX4_number_97 : decode cX4_number 97 = .ok (.iload_n 2, 1) := dk_28 (dk_at dksX4_number_4 3 rfl rfl)
theorem dX4_number_98 : decode cX4_number 98 = .ok (.i2l, 1) := dk_133 (dk_at dksX4_number_4 4 rfl rfl)
theorem dX4_number_99 : decode cX4_number 99 = .ok (.invokestatic 80, 3) := dk_184 0 80 (dk_at dksX4_number_4 5 rfl rfl)
theorem dX4_number_102 : decode cX4_number 102 = .ok (.ifCond .eq 7, 3) := dk_153 0 7 (dk_at dksX4_number_4 8 rfl rfl)
theorem dX4_number_105 : decode cX4_number 105 = .ok (.iconst 1, 1) := dk_4 (dk_at dksX4_number_4 11 rfl rfl)
theorem dX4_number_106 : decode cX4_number 106 = .ok (.goto 4, 3) := dk_167 0 4 (dk_at dksX4_number_4 12 rfl rfl)
theorem dX4_number_109 : decode cX4_number 109 = .ok (.iconst 0, 1) := dk_3 (dk_at dksX4_number_4 15 rfl rfl)
theorem dX4_number_110 : decode cX4_number 110 = .ok (.iconst 1, 1) := dk_4 (dk_at dksX4_number_4 16 rfl rfl)
theorem dX4_number_111 : decode cX4_number 111 = .ok (.iload_n 3, 1) := dk_29 (dk_at dksX4_number_4 17 rfl rfl)
theorem dX4_number_112 : decode cX4_number 112 = .ok (.invokevirtual 76, 3) := dk_182 0 76 (dk_at dksX4_number_4 18 rfl rfl)
theorem dX4_number_115 : decode cX4_number 115 = .ok (.iload 4, 2) := dk_21 4 (dk_at dksX4_number_4 21 rfl rfl)
theorem dX4_number_117 : decode cX4_number 117 = .ok (.ireturn, 1) := dk_172 (dk_at dksX4_number_4 23 rfl rfl)
abbrev cX4_isDigit : ByteArray := prog_13_method_9_code
def yX4_isDigit : MethodName := ⟨RX4, "isDigit", "(I)Z"⟩
def dkwX4_isDigit_1 : List UInt8 := [161, 0, 21, 42, 180, 0, 3, 180, 0, 48, 27, 51, 16, 57, 163, 0, 7, 4, 167, 0, 4, 3, 172]
abbrev dktX4_isDigit_1 : List UInt8 := dkwX4_isDigit_1 ++ []
def dkwX4_isDigit_0 : List UInt8 := [27, 42, 180, 0, 3, 180, 0, 45, 162, 0, 35, 42, 180, 0, 3, 180, 0, 48, 27, 51, 16, 48]
abbrev dktX4_isDigit_0 : List UInt8 := dkwX4_isDigit_0 ++ dktX4_isDigit_1
theorem dksX4_isDigit_0 : cX4_isDigit.data.toList.drop 0 = dktX4_isDigit_0 := by decide +kernel
theorem dksX4_isDigit_1 : cX4_isDigit.data.toList.drop 22 = dktX4_isDigit_1 := dk_seg dksX4_isDigit_0 22 rfl rfl
theorem dX4_isDigit_0 : decode cX4_isDigit 0 = .ok (.iload_n 1, 1) := dk_27 (dk_at dksX4_isDigit_0 0 rfl rfl)
theorem dX4_isDigit_1 : decode cX4_isDigit 1 = .ok (.aload_n 0, 1) := dk_42 (dk_at dksX4_isDigit_0 1 rfl rfl)
theorem dX4_isDigit_2 : decode cX4_isDigit 2 = .ok (.getfield 3, 3) := dk_180 0 3 (dk_at dksX4_isDigit_0 2 rfl rfl)
theorem dX4_isDigit_5 : decode cX4_isDigit 5 = .ok (.getfield 45, 3) := dk_180 0 45 (dk_at dksX4_isDigit_0 5 rfl rfl)
theorem dX4_isDigit_8 : decode cX4_isDigit 8 = .ok (.if_icmp .ge 35, 3) := dk_162 0 35 (dk_at dksX4_isDigit_0 8 rfl rfl)
theorem dX4_isDigit_11 : decode cX4_isDigit 11 = .ok (.aload_n 0, 1) := dk_42 (dk_at dksX4_isDigit_0 11 rfl rfl)
theorem dX4_isDigit_12 : decode cX4_isDigit 12 = .ok (.getfield 3, 3) := dk_180 0 3 (dk_at dksX4_isDigit_0 12 rfl rfl)
theorem dX4_isDigit_15 : decode cX4_isDigit 15 = .ok (.getfield 48, 3) := dk_180 0 48 (dk_at dksX4_isDigit_0 15 rfl rfl)
theorem dX4_isDigit_18 : decode cX4_isDigit 18 = .ok (.iload_n 1, 1) := dk_27 (dk_at dksX4_isDigit_0 18 rfl rfl)
theorem dX4_isDigit_19 : decode cX4_isDigit 19 = .ok (.baload, 1) := dk_51 (dk_at dksX4_isDigit_0 19 rfl rfl)
theorem dX4_isDigit_20 : decode cX4_isDigit 20 = .ok (.bipush 48, 2) := dk_16 48 (dk_at dksX4_isDigit_0 20 rfl rfl)
theorem dX4_isDigit_22 : decode cX4_isDigit 22 = .ok (.if_icmp .lt 21, 3) := dk_161 0 21 (dk_at dksX4_isDigit_1 0 rfl rfl)
theorem dX4_isDigit_25 : decode cX4_isDigit 25 = .ok (.aload_n 0, 1) := dk_42 (dk_at dksX4_isDigit_1 3 rfl rfl)
theorem dX4_isDigit_26 : decode cX4_isDigit 26 = .ok (.getfield 3, 3) := dk_180 0 3 (dk_at dksX4_isDigit_1 4 rfl rfl)
theorem dX4_isDigit_29 : decode cX4_isDigit 29 = .ok (.getfield 48, 3) := dk_180 0 48 (dk_at dksX4_isDigit_1 7 rfl rfl)
theorem dX4_isDigit_32 : decode cX4_isDigit 32 = .ok (.iload_n 1, 1) := dk_27 (dk_at dksX4_isDigit_1 10 rfl rfl)
theorem dX4_isDigit_33 : decode cX4_isDigit 33 = .ok (.baload, 1) := dk_51 (dk_at dksX4_isDigit_1 11 rfl rfl)
theorem dX4_isDigit_34 : decode cX4_isDigit 34 = .ok (.bipush 57, 2) := dk_16 57 (dk_at dksX4_isDigit_1 12 rfl rfl)
theorem dX4_isDigit_36 : decode cX4_isDigit 36 = .ok (.if_icmp .gt 7, 3) := dk_163 0 7 (dk_at dksX4_isDigit_1 14 rfl rfl)
theorem dX4_isDigit_39 : decode cX4_isDigit 39 = .ok (.iconst 1, 1) := dk_4 (dk_at dksX4_isDigit_1 17 rfl rfl)
theorem dX4_isDigit_40 : decode cX4_isDigit 40 = .ok (.goto 4, 3) := dk_167 0 4 (dk_at dksX4_isDigit_1 18 rfl rfl)
theorem dX4_isDigit_43 : decode cX4_isDigit 43 = .ok (.iconst 0, 1) := dk_3 (dk_at dksX4_isDigit_1 21 rfl rfl)
theorem dX4_isDigit_44 : decode cX4_isDigit 44 = .ok (.ireturn, 1) := dk_172 (dk_at dksX4_isDigit_1 22 rfl rfl)
abbrev cX4_ownerHere : ByteArray := prog_13_method_15_code
def yX4_ownerHere : MethodName := ⟨RX4, "ownerHere", "()V"⟩
def dkwX4_ownerHere_2 : List UInt8 := [180, 0, 26, 89, 180, 0, 98, 4, 96, 181, 0, 98, 177]
abbrev dktX4_ownerHere_2 : List UInt8 := dkwX4_ownerHere_2 ++ []
def dkwX4_ownerHere_1 : List UInt8 := [180, 0, 93, 182, 0, 114, 79, 42, 180, 0, 26, 180, 0, 118, 27, 42, 3, 16, 20, 182, 0, 114, 79, 42]
abbrev dktX4_ownerHere_1 : List UInt8 := dkwX4_ownerHere_1 ++ dktX4_ownerHere_2
def dkwX4_ownerHere_0 : List UInt8 := [42, 180, 0, 26, 180, 0, 98, 60, 42, 180, 0, 26, 180, 0, 110, 27, 42, 4, 42, 180, 0, 26]
abbrev dktX4_ownerHere_0 : List UInt8 := dkwX4_ownerHere_0 ++ dktX4_ownerHere_1
theorem dksX4_ownerHere_0 : cX4_ownerHere.data.toList.drop 0 = dktX4_ownerHere_0 := by decide +kernel
theorem dksX4_ownerHere_1 : cX4_ownerHere.data.toList.drop 22 = dktX4_ownerHere_1 := dk_seg dksX4_ownerHere_0 22 rfl rfl
theorem dksX4_ownerHere_2 : cX4_ownerHere.data.toList.drop 46 = dktX4_ownerHere_2 := dk_seg dksX4_ownerHere_1 24 rfl rfl
theorem dX4_ownerHere_0 : decode cX4_ownerHere 0 = .ok (.aload_n 0, 1) := dk_42 (dk_at dksX4_ownerHere_0 0 rfl rfl)
theorem dX4_ownerHere_1 : decode cX4_ownerHere 1 = .ok (.getfield 26, 3) := dk_180 0 26 (dk_at dksX4_ownerHere_0 1 rfl rfl)
theorem dX4_ownerHere_4 : decode cX4_ownerHere 4 = .ok (.getfield 98, 3) := dk_180 0 98 (dk_at dksX4_ownerHere_0 4 rfl rfl)
theorem dX4_ownerHere_7 : decode cX4_ownerHere 7 = .ok (.istore_n 1, 1) := dk_60 (dk_at dksX4_ownerHere_0 7 rfl rfl)
theorem dX4_ownerHere_8 : decode cX4_ownerHere 8 = .ok (.aload_n 0, 1) := dk_42 (dk_at dksX4_ownerHere_0 8 rfl rfl)
theorem dX4_ownerHere_9 : decode cX4_ownerHere 9 = .ok (.getfield 26, 3) := dk_180 0 26 (dk_at dksX4_ownerHere_0 9 rfl rfl)
theorem dX4_ownerHere_12 : decode cX4_ownerHere 12 = .ok (.getfield 110, 3) := dk_180 0 110 (dk_at dksX4_ownerHere_0 12 rfl rfl)
theorem dX4_ownerHere_15 : decode cX4_ownerHere 15 = .ok (.iload_n 1, 1) := dk_27 (dk_at dksX4_ownerHere_0 15 rfl rfl)
theorem dX4_ownerHere_16 : decode cX4_ownerHere 16 = .ok (.aload_n 0, 1) := dk_42 (dk_at dksX4_ownerHere_0 16 rfl rfl)
theorem dX4_ownerHere_17 : decode cX4_ownerHere 17 = .ok (.iconst 1, 1) := dk_4 (dk_at dksX4_ownerHere_0 17 rfl rfl)
theorem dX4_ownerHere_18 : decode cX4_ownerHere 18 = .ok (.aload_n 0, 1) := dk_42 (dk_at dksX4_ownerHere_0 18 rfl rfl)
theorem dX4_ownerHere_19 : decode cX4_ownerHere 19 = .ok (.getfield 26, 3) := dk_180 0 26 (dk_at dksX4_ownerHere_0 19 rfl rfl)
theorem dX4_ownerHere_22 : decode cX4_ownerHere 22 = .ok (.getfield 93, 3) := dk_180 0 93 (dk_at dksX4_ownerHere_1 0 rfl rfl)
theorem dX4_ownerHere_25 : decode cX4_ownerHere 25 = .ok (.invokevirtual 114, 3) := dk_182 0 114 (dk_at dksX4_ownerHere_1 3 rfl rfl)
theorem dX4_ownerHere_28 : decode cX4_ownerHere 28 = .ok (.iastore, 1) := dk_79 (dk_at dksX4_ownerHere_1 6 rfl rfl)
theorem dX4_ownerHere_29 : decode cX4_ownerHere 29 = .ok (.aload_n 0, 1) := dk_42 (dk_at dksX4_ownerHere_1 7 rfl rfl)
theorem dX4_ownerHere_30 : decode cX4_ownerHere 30 = .ok (.getfield 26, 3) := dk_180 0 26 (dk_at dksX4_ownerHere_1 8 rfl rfl)
theorem dX4_ownerHere_33 : decode cX4_ownerHere 33 = .ok (.getfield 118, 3) := dk_180 0 118 (dk_at dksX4_ownerHere_1 11 rfl rfl)
theorem dX4_ownerHere_36 : decode cX4_ownerHere 36 = .ok (.iload_n 1, 1) := dk_27 (dk_at dksX4_ownerHere_1 14 rfl rfl)
theorem dX4_ownerHere_37 : decode cX4_ownerHere 37 = .ok (.aload_n 0, 1) := dk_42 (dk_at dksX4_ownerHere_1 15 rfl rfl)
theorem dX4_ownerHere_38 : decode cX4_ownerHere 38 = .ok (.iconst 0, 1) := dk_3 (dk_at dksX4_ownerHere_1 16 rfl rfl)
theorem dX4_ownerHere_39 : decode cX4_ownerHere 39 = .ok (.bipush 20, 2) := dk_16 20 (dk_at dksX4_ownerHere_1 17 rfl rfl)
theorem dX4_ownerHere_41 : decode cX4_ownerHere 41 = .ok (.invokevirtual 114, 3) := dk_182 0 114 (dk_at dksX4_ownerHere_1 19 rfl rfl)
theorem dX4_ownerHere_44 : decode cX4_ownerHere 44 = .ok (.iastore, 1) := dk_79 (dk_at dksX4_ownerHere_1 22 rfl rfl)
theorem dX4_ownerHere_45 : decode cX4_ownerHere 45 = .ok (.aload_n 0, 1) := dk_42 (dk_at dksX4_ownerHere_1 23 rfl rfl)
theorem dX4_ownerHere_46 : decode cX4_ownerHere 46 = .ok (.getfield 26, 3) := dk_180 0 26 (dk_at dksX4_ownerHere_2 0 rfl rfl)
theorem dX4_ownerHere_49 : decode cX4_ownerHere 49 = .ok (.dup, 1) := dk_89 (dk_at dksX4_ownerHere_2 3 rfl rfl)
theorem dX4_ownerHere_50 : decode cX4_ownerHere 50 = .ok (.getfield 98, 3) := dk_180 0 98 (dk_at dksX4_ownerHere_2 4 rfl rfl)
theorem dX4_ownerHere_53 : decode cX4_ownerHere 53 = .ok (.iconst 1, 1) := dk_4 (dk_at dksX4_ownerHere_2 7 rfl rfl)
theorem dX4_ownerHere_54 : decode cX4_ownerHere 54 = .ok (.iadd, 1) := dk_96 (dk_at dksX4_ownerHere_2 8 rfl rfl)
theorem dX4_ownerHere_55 : decode cX4_ownerHere 55 = .ok (.putfield 98, 3) := dk_181 0 98 (dk_at dksX4_ownerHere_2 9 rfl rfl)
theorem dX4_ownerHere_58 : decode cX4_ownerHere 58 = .ok (.return_, 1) := dk_177 (dk_at dksX4_ownerHere_2 12 rfl rfl)
abbrev cX4_thingHere : ByteArray := prog_13_method_16_code
def yX4_thingHere : MethodName := ⟨RX4, "thingHere", "()V"⟩
def dkwX4_thingHere_3 : List UInt8 := [27, 42, 3, 16, 9, 182, 0, 114, 79, 42, 180, 0, 26, 89, 180, 0, 101, 4, 96, 181, 0, 101, 177]
abbrev dktX4_thingHere_3 : List UInt8 := dkwX4_thingHere_3 ++ []
def dkwX4_thingHere_2 : List UInt8 := [79, 42, 180, 0, 26, 180, 0, 127, 27, 42, 3, 16, 99, 182, 0, 114, 79, 42, 180, 0, 26, 180, 0, 130]
abbrev dktX4_thingHere_2 : List UInt8 := dkwX4_thingHere_2 ++ dktX4_thingHere_3
def dkwX4_thingHere_1 : List UInt8 := [180, 0, 98, 4, 100, 182, 0, 114, 79, 42, 180, 0, 26, 180, 0, 124, 27, 42, 3, 16, 50, 182, 0, 114]
abbrev dktX4_thingHere_1 : List UInt8 := dkwX4_thingHere_1 ++ dktX4_thingHere_2
def dkwX4_thingHere_0 : List UInt8 := [42, 180, 0, 26, 180, 0, 101, 60, 42, 180, 0, 26, 180, 0, 121, 27, 42, 3, 42, 180, 0, 26]
abbrev dktX4_thingHere_0 : List UInt8 := dkwX4_thingHere_0 ++ dktX4_thingHere_1
theorem dksX4_thingHere_0 : cX4_thingHere.data.toList.drop 0 = dktX4_thingHere_0 := by decide +kernel
theorem dksX4_thingHere_1 : cX4_thingHere.data.toList.drop 22 = dktX4_thingHere_1 := dk_seg dksX4_thingHere_0 22 rfl rfl
theorem dksX4_thingHere_2 : cX4_thingHere.data.toList.drop 46 = dktX4_thingHere_2 := dk_seg dksX4_thingHere_1 24 rfl rfl
theorem dksX4_thingHere_3 : cX4_thingHere.data.toList.drop 70 = dktX4_thingHere_3 := dk_seg dksX4_thingHere_2 24 rfl rfl
theorem dX4_thingHere_0 : decode cX4_thingHere 0 = .ok (.aload_n 0, 1) := dk_42 (dk_at dksX4_thingHere_0 0 rfl rfl)
theorem dX4_thingHere_1 : decode cX4_thingHere 1 = .ok (.getfield 26, 3) := dk_180 0 26 (dk_at dksX4_thingHere_0 1 rfl rfl)
theorem dX4_thingHere_4 : decode cX4_thingHere 4 = .ok (.getfield 101, 3) := dk_180 0 101 (dk_at dksX4_thingHere_0 4 rfl rfl)
theorem dX4_thingHere_7 : decode cX4_thingHere 7 = .ok (.istore_n 1, 1) := dk_60 (dk_at dksX4_thingHere_0 7 rfl rfl)
theorem dX4_thingHere_8 : decode cX4_thingHere 8 = .ok (.aload_n 0, 1) := dk_42 (dk_at dksX4_thingHere_0 8 rfl rfl)
theorem dX4_thingHere_9 : decode cX4_thingHere 9 = .ok (.getfield 26, 3) := dk_180 0 26 (dk_at dksX4_thingHere_0 9 rfl rfl)
theorem dX4_thingHere_12 : decode cX4_thingHere 12 = .ok (.getfield 121, 3) := dk_180 0 121 (dk_at dksX4_thingHere_0 12 rfl rfl)
theorem dX4_thingHere_15 : decode cX4_thingHere 15 = .ok (.iload_n 1, 1) := dk_27 (dk_at dksX4_thingHere_0 15 rfl rfl)
theorem dX4_thingHere_16 : decode cX4_thingHere 16 = .ok (.aload_n 0, 1) := dk_42 (dk_at dksX4_thingHere_0 16 rfl rfl)
theorem dX4_thingHere_17 : decode cX4_thingHere 17 = .ok (.iconst 0, 1) := dk_3 (dk_at dksX4_thingHere_0 17 rfl rfl)
theorem dX4_thingHere_18 : decode cX4_thingHere 18 = .ok (.aload_n 0, 1) := dk_42 (dk_at dksX4_thingHere_0 18 rfl rfl)
theorem dX4_thingHere_19 : decode cX4_thingHere 19 = .ok (.getfield 26, 3) := dk_180 0 26 (dk_at dksX4_thingHere_0 19 rfl rfl)
theorem dX4_thingHere_22 : decode cX4_thingHere 22 = .ok (.getfield 98, 3) := dk_180 0 98 (dk_at dksX4_thingHere_1 0 rfl rfl)
theorem dX4_thingHere_25 : decode cX4_thingHere 25 = .ok (.iconst 1, 1) := dk_4 (dk_at dksX4_thingHere_1 3 rfl rfl)
theorem dX4_thingHere_26 : decode cX4_thingHere 26 = .ok (.isub, 1) := dk_100 (dk_at dksX4_thingHere_1 4 rfl rfl)
theorem dX4_thingHere_27 : decode cX4_thingHere 27 = .ok (.invokevirtual 114, 3) := dk_182 0 114 (dk_at dksX4_thingHere_1 5 rfl rfl)
theorem dX4_thingHere_30 : decode cX4_thingHere 30 = .ok (.iastore, 1) := dk_79 (dk_at dksX4_thingHere_1 8 rfl rfl)
theorem dX4_thingHere_31 : decode cX4_thingHere 31 = .ok (.aload_n 0, 1) := dk_42 (dk_at dksX4_thingHere_1 9 rfl rfl)
theorem dX4_thingHere_32 : decode cX4_thingHere 32 = .ok (.getfield 26, 3) := dk_180 0 26 (dk_at dksX4_thingHere_1 10 rfl rfl)
theorem dX4_thingHere_35 : decode cX4_thingHere 35 = .ok (.getfield 124, 3) := dk_180 0 124 (dk_at dksX4_thingHere_1 13 rfl rfl)
theorem dX4_thingHere_38 : decode cX4_thingHere 38 = .ok (.iload_n 1, 1) := dk_27 (dk_at dksX4_thingHere_1 16 rfl rfl)
theorem dX4_thingHere_39 : decode cX4_thingHere 39 = .ok (.aload_n 0, 1) := dk_42 (dk_at dksX4_thingHere_1 17 rfl rfl)
theorem dX4_thingHere_40 : decode cX4_thingHere 40 = .ok (.iconst 0, 1) := dk_3 (dk_at dksX4_thingHere_1 18 rfl rfl)
theorem dX4_thingHere_41 : decode cX4_thingHere 41 = .ok (.bipush 50, 2) := dk_16 50 (dk_at dksX4_thingHere_1 19 rfl rfl)
theorem dX4_thingHere_43 : decode cX4_thingHere 43 = .ok (.invokevirtual 114, 3) := dk_182 0 114 (dk_at dksX4_thingHere_1 21 rfl rfl)
theorem dX4_thingHere_46 : decode cX4_thingHere 46 = .ok (.iastore, 1) := dk_79 (dk_at dksX4_thingHere_2 0 rfl rfl)
theorem dX4_thingHere_47 : decode cX4_thingHere 47 = .ok (.aload_n 0, 1) := dk_42 (dk_at dksX4_thingHere_2 1 rfl rfl)
theorem dX4_thingHere_48 : decode cX4_thingHere 48 = .ok (.getfield 26, 3) := dk_180 0 26 (dk_at dksX4_thingHere_2 2 rfl rfl)
theorem dX4_thingHere_51 : decode cX4_thingHere 51 = .ok (.getfield 127, 3) := dk_180 0 127 (dk_at dksX4_thingHere_2 5 rfl rfl)
theorem dX4_thingHere_54 : decode cX4_thingHere 54 = .ok (.iload_n 1, 1) := dk_27 (dk_at dksX4_thingHere_2 8 rfl rfl)
theorem dX4_thingHere_55 : decode cX4_thingHere 55 = .ok (.aload_n 0, 1) := dk_42 (dk_at dksX4_thingHere_2 9 rfl rfl)
theorem dX4_thingHere_56 : decode cX4_thingHere 56 = .ok (.iconst 0, 1) := dk_3 (dk_at dksX4_thingHere_2 10 rfl rfl)
theorem dX4_thingHere_57 : decode cX4_thingHere 57 = .ok (.bipush 99, 2) := dk_16 99 (dk_at dksX4_thingHere_2 11 rfl rfl)
theorem dX4_thingHere_59 : decode cX4_thingHere 59 = .ok (.invokevirtual 114, 3) := dk_182 0 114 (dk_at dksX4_thingHere_2 13 rfl rfl)
theorem dX4_thingHere_62 : decode cX4_thingHere 62 = .ok (.iastore, 1) := dk_79 (dk_at dksX4_thingHere_2 16 rfl rfl)
theorem dX4_thingHere_63 : decode cX4_thingHere 63 = .ok (.aload_n 0, 1) := dk_42 (dk_at dksX4_thingHere_2 17 rfl rfl)
theorem dX4_thingHere_64 : decode cX4_thingHere 64 = .ok (.getfield 26, 3) := dk_180 0 26 (dk_at dksX4_thingHere_2 18 rfl rfl)
theorem dX4_thingHere_67 : decode cX4_thingHere 67 = .ok (.getfield 130, 3) := dk_180 0 130 (dk_at dksX4_thingHere_2 21 rfl rfl)
theorem dX4_thingHere_70 : decode cX4_thingHere 70 = .ok (.iload_n 1, 1) := dk_27 (dk_at dksX4_thingHere_3 0 rfl rfl)
theorem dX4_thingHere_71 : decode cX4_thingHere 71 = .ok (.aload_n 0, 1) := dk_42 (dk_at dksX4_thingHere_3 1 rfl rfl)
theorem dX4_thingHere_72 : decode cX4_thingHere 72 = .ok (.iconst 0, 1) := dk_3 (dk_at dksX4_thingHere_3 2 rfl rfl)
theorem dX4_thingHere_73 : decode cX4_thingHere 73 = .ok (.bipush 9, 2) := dk_16 9 (dk_at dksX4_thingHere_3 3 rfl rfl)
theorem dX4_thingHere_75 : decode cX4_thingHere 75 = .ok (.invokevirtual 114, 3) := dk_182 0 114 (dk_at dksX4_thingHere_3 5 rfl rfl)
theorem dX4_thingHere_78 : decode cX4_thingHere 78 = .ok (.iastore, 1) := dk_79 (dk_at dksX4_thingHere_3 8 rfl rfl)
theorem dX4_thingHere_79 : decode cX4_thingHere 79 = .ok (.aload_n 0, 1) := dk_42 (dk_at dksX4_thingHere_3 9 rfl rfl)
theorem dX4_thingHere_80 : decode cX4_thingHere 80 = .ok (.getfield 26, 3) := dk_180 0 26 (dk_at dksX4_thingHere_3 10 rfl rfl)
theorem dX4_thingHere_83 : decode cX4_thingHere 83 = .ok (.dup, 1) := dk_89 (dk_at dksX4_thingHere_3 13 rfl rfl)
theorem dX4_thingHere_84 : decode cX4_thingHere 84 = .ok (.getfield 101, 3) := dk_180 0 101 (dk_at dksX4_thingHere_3 14 rfl rfl)
theorem dX4_thingHere_87 : decode cX4_thingHere 87 = .ok (.iconst 1, 1) := dk_4 (dk_at dksX4_thingHere_3 17 rfl rfl)
theorem dX4_thingHere_88 : decode cX4_thingHere 88 = .ok (.iadd, 1) := dk_96 (dk_at dksX4_thingHere_3 18 rfl rfl)
theorem dX4_thingHere_89 : decode cX4_thingHere 89 = .ok (.putfield 101, 3) := dk_181 0 101 (dk_at dksX4_thingHere_3 19 rfl rfl)
theorem dX4_thingHere_92 : decode cX4_thingHere 92 = .ok (.return_, 1) := dk_177 (dk_at dksX4_thingHere_3 22 rfl rfl)
abbrev cX4_boundHere : ByteArray := prog_13_method_17_code
def yX4_boundHere : MethodName := ⟨RX4, "boundHere", "()V"⟩
def dkwX4_boundHere_3 : List UInt8 := [180, 0, 26, 27, 29, 42, 4, 16, 9, 182, 0, 114, 182, 0, 136, 177]
abbrev dktX4_boundHere_3 : List UInt8 := dkwX4_boundHere_3 ++ []
def dkwX4_boundHere_2 : List UInt8 := [180, 0, 26, 27, 29, 182, 0, 133, 2, 160, 0, 7, 4, 167, 0, 4, 3, 4, 28, 182, 0, 76, 42]
abbrev dktX4_boundHere_2 : List UInt8 := dkwX4_boundHere_2 ++ dktX4_boundHere_3
def dkwX4_boundHere_1 : List UInt8 := [61, 42, 3, 42, 180, 0, 26, 180, 0, 101, 4, 100, 182, 0, 114, 62, 42, 27, 29, 159, 0, 20, 42]
abbrev dktX4_boundHere_1 : List UInt8 := dkwX4_boundHere_1 ++ dktX4_boundHere_2
def dkwX4_boundHere_0 : List UInt8 := [42, 3, 42, 180, 0, 26, 180, 0, 101, 4, 100, 182, 0, 114, 60, 42, 182, 0, 52, 87, 42, 180, 0, 42]
abbrev dktX4_boundHere_0 : List UInt8 := dkwX4_boundHere_0 ++ dktX4_boundHere_1
theorem dksX4_boundHere_0 : cX4_boundHere.data.toList.drop 0 = dktX4_boundHere_0 := by decide +kernel
theorem dksX4_boundHere_1 : cX4_boundHere.data.toList.drop 24 = dktX4_boundHere_1 := dk_seg dksX4_boundHere_0 24 rfl rfl
theorem dksX4_boundHere_2 : cX4_boundHere.data.toList.drop 47 = dktX4_boundHere_2 := dk_seg dksX4_boundHere_1 23 rfl rfl
theorem dksX4_boundHere_3 : cX4_boundHere.data.toList.drop 70 = dktX4_boundHere_3 := dk_seg dksX4_boundHere_2 23 rfl rfl
theorem dX4_boundHere_0 : decode cX4_boundHere 0 = .ok (.aload_n 0, 1) := dk_42 (dk_at dksX4_boundHere_0 0 rfl rfl)
theorem dX4_boundHere_1 : decode cX4_boundHere 1 = .ok (.iconst 0, 1) := dk_3 (dk_at dksX4_boundHere_0 1 rfl rfl)
theorem dX4_boundHere_2 : decode cX4_boundHere 2 = .ok (.aload_n 0, 1) := dk_42 (dk_at dksX4_boundHere_0 2 rfl rfl)
theorem dX4_boundHere_3 : decode cX4_boundHere 3 = .ok (.getfield 26, 3) := dk_180 0 26 (dk_at dksX4_boundHere_0 3 rfl rfl)
theorem dX4_boundHere_6 : decode cX4_boundHere 6 = .ok (.getfield 101, 3) := dk_180 0 101 (dk_at dksX4_boundHere_0 6 rfl rfl)
theorem dX4_boundHere_9 : decode cX4_boundHere 9 = .ok (.iconst 1, 1) := dk_4 (dk_at dksX4_boundHere_0 9 rfl rfl)
theorem dX4_boundHere_10 : decode cX4_boundHere 10 = .ok (.isub, 1) := dk_100 (dk_at dksX4_boundHere_0 10 rfl rfl)
theorem dX4_boundHere_11 : decode cX4_boundHere 11 = .ok (.invokevirtual 114, 3) := dk_182 0 114 (dk_at dksX4_boundHere_0 11 rfl rfl)
theorem dX4_boundHere_14 : decode cX4_boundHere 14 = .ok (.istore_n 1, 1) := dk_60 (dk_at dksX4_boundHere_0 14 rfl rfl)
theorem dX4_boundHere_15 : decode cX4_boundHere 15 = .ok (.aload_n 0, 1) := dk_42 (dk_at dksX4_boundHere_0 15 rfl rfl)
theorem dX4_boundHere_16 : decode cX4_boundHere 16 = .ok (.invokevirtual 52, 3) := dk_182 0 52 (dk_at dksX4_boundHere_0 16 rfl rfl)
theorem dX4_boundHere_19 : decode cX4_boundHere 19 = .ok (.pop, 1) := dk_87 (dk_at dksX4_boundHere_0 19 rfl rfl)
theorem dX4_boundHere_20 : decode cX4_boundHere 20 = .ok (.aload_n 0, 1) := dk_42 (dk_at dksX4_boundHere_0 20 rfl rfl)
theorem dX4_boundHere_21 : decode cX4_boundHere 21 = .ok (.getfield 42, 3) := dk_180 0 42 (dk_at dksX4_boundHere_0 21 rfl rfl)
theorem dX4_boundHere_24 : decode cX4_boundHere 24 = .ok (.istore_n 2, 1) := dk_61 (dk_at dksX4_boundHere_1 0 rfl rfl)
theorem dX4_boundHere_25 : decode cX4_boundHere 25 = .ok (.aload_n 0, 1) := dk_42 (dk_at dksX4_boundHere_1 1 rfl rfl)
theorem dX4_boundHere_26 : decode cX4_boundHere 26 = .ok (.iconst 0, 1) := dk_3 (dk_at dksX4_boundHere_1 2 rfl rfl)
theorem dX4_boundHere_27 : decode cX4_boundHere 27 = .ok (.aload_n 0, 1) := dk_42 (dk_at dksX4_boundHere_1 3 rfl rfl)
theorem dX4_boundHere_28 : decode cX4_boundHere 28 = .ok (.getfield 26, 3) := dk_180 0 26 (dk_at dksX4_boundHere_1 4 rfl rfl)
theorem dX4_boundHere_31 : decode cX4_boundHere 31 = .ok (.getfield 101, 3) := dk_180 0 101 (dk_at dksX4_boundHere_1 7 rfl rfl)
theorem dX4_boundHere_34 : decode cX4_boundHere 34 = .ok (.iconst 1, 1) := dk_4 (dk_at dksX4_boundHere_1 10 rfl rfl)
theorem dX4_boundHere_35 : decode cX4_boundHere 35 = .ok (.isub, 1) := dk_100 (dk_at dksX4_boundHere_1 11 rfl rfl)
theorem dX4_boundHere_36 : decode cX4_boundHere 36 = .ok (.invokevirtual 114, 3) := dk_182 0 114 (dk_at dksX4_boundHere_1 12 rfl rfl)
theorem dX4_boundHere_39 : decode cX4_boundHere 39 = .ok (.istore_n 3, 1) := dk_62 (dk_at dksX4_boundHere_1 15 rfl rfl)
theorem dX4_boundHere_40 : decode cX4_boundHere 40 = .ok (.aload_n 0, 1) := dk_42 (dk_at dksX4_boundHere_1 16 rfl rfl)
theorem dX4_boundHere_41 : decode cX4_boundHere 41 = .ok (.iload_n 1, 1) := dk_27 (dk_at dksX4_boundHere_1 17 rfl rfl)
theorem dX4_boundHere_42 : decode cX4_boundHere 42 = .ok (.iload_n 3, 1) := dk_29 (dk_at dksX4_boundHere_1 18 rfl rfl)
theorem dX4_boundHere_43 : decode cX4_boundHere 43 = .ok (.if_icmp .eq 20, 3) := dk_159 0 20 (dk_at dksX4_boundHere_1 19 rfl rfl)
theorem dX4_boundHere_46 : decode cX4_boundHere 46 = .ok (.aload_n 0, 1) := dk_42 (dk_at dksX4_boundHere_1 22 rfl rfl)
theorem dX4_boundHere_47 : decode cX4_boundHere 47 = .ok (.getfield 26, 3) := dk_180 0 26 (dk_at dksX4_boundHere_2 0 rfl rfl)
theorem dX4_boundHere_50 : decode cX4_boundHere 50 = .ok (.iload_n 1, 1) := dk_27 (dk_at dksX4_boundHere_2 3 rfl rfl)
theorem dX4_boundHere_51 : decode cX4_boundHere 51 = .ok (.iload_n 3, 1) := dk_29 (dk_at dksX4_boundHere_2 4 rfl rfl)
theorem dX4_boundHere_52 : decode cX4_boundHere 52 = .ok (.invokevirtual 133, 3) := dk_182 0 133 (dk_at dksX4_boundHere_2 5 rfl rfl)
theorem dX4_boundHere_55 : decode cX4_boundHere 55 = .ok (.iconst (-1), 1) := dk_2 (dk_at dksX4_boundHere_2 8 rfl rfl)
theorem dX4_boundHere_56 : decode cX4_boundHere 56 = .ok (.if_icmp .ne 7, 3) := dk_160 0 7 (dk_at dksX4_boundHere_2 9 rfl rfl)
theorem dX4_boundHere_59 : decode cX4_boundHere 59 = .ok (.iconst 1, 1) := dk_4 (dk_at dksX4_boundHere_2 12 rfl rfl)
theorem dX4_boundHere_60 : decode cX4_boundHere 60 = .ok (.goto 4, 3) := dk_167 0 4 (dk_at dksX4_boundHere_2 13 rfl rfl)
theorem dX4_boundHere_63 : decode cX4_boundHere 63 = .ok (.iconst 0, 1) := dk_3 (dk_at dksX4_boundHere_2 16 rfl rfl)
theorem dX4_boundHere_64 : decode cX4_boundHere 64 = .ok (.iconst 1, 1) := dk_4 (dk_at dksX4_boundHere_2 17 rfl rfl)
theorem dX4_boundHere_65 : decode cX4_boundHere 65 = .ok (.iload_n 2, 1) := dk_28 (dk_at dksX4_boundHere_2 18 rfl rfl)
theorem dX4_boundHere_66 : decode cX4_boundHere 66 = .ok (.invokevirtual 76, 3) := dk_182 0 76 (dk_at dksX4_boundHere_2 19 rfl rfl)
theorem dX4_boundHere_69 : decode cX4_boundHere 69 = .ok (.aload_n 0, 1) := dk_42 (dk_at dksX4_boundHere_2 22 rfl rfl)
theorem dX4_boundHere_70 : decode cX4_boundHere 70 = .ok (.getfield 26, 3) := dk_180 0 26 (dk_at dksX4_boundHere_3 0 rfl rfl)
theorem dX4_boundHere_73 : decode cX4_boundHere 73 = .ok (.iload_n 1, 1) := dk_27 (dk_at dksX4_boundHere_3 3 rfl rfl)
theorem dX4_boundHere_74 : decode cX4_boundHere 74 = .ok (.iload_n 3, 1) := dk_29 (dk_at dksX4_boundHere_3 4 rfl rfl)
theorem dX4_boundHere_75 : decode cX4_boundHere 75 = .ok (.aload_n 0, 1) := dk_42 (dk_at dksX4_boundHere_3 5 rfl rfl)
theorem dX4_boundHere_76 : decode cX4_boundHere 76 = .ok (.iconst 1, 1) := dk_4 (dk_at dksX4_boundHere_3 6 rfl rfl)
theorem dX4_boundHere_77 : decode cX4_boundHere 77 = .ok (.bipush 9, 2) := dk_16 9 (dk_at dksX4_boundHere_3 7 rfl rfl)
theorem dX4_boundHere_79 : decode cX4_boundHere 79 = .ok (.invokevirtual 114, 3) := dk_182 0 114 (dk_at dksX4_boundHere_3 9 rfl rfl)
theorem dX4_boundHere_82 : decode cX4_boundHere 82 = .ok (.invokevirtual 136, 3) := dk_182 0 136 (dk_at dksX4_boundHere_3 12 rfl rfl)
theorem dX4_boundHere_85 : decode cX4_boundHere 85 = .ok (.return_, 1) := dk_177 (dk_at dksX4_boundHere_3 15 rfl rfl)
abbrev cX4_rapidHere : ByteArray := prog_13_method_18_code
def yX4_rapidHere : MethodName := ⟨RX4, "rapidHere", "()V"⟩
def dkwX4_rapidHere_4 : List UInt8 := [181, 0, 107, 177]
abbrev dktX4_rapidHere_4 : List UInt8 := dkwX4_rapidHere_4 ++ []
def dkwX4_rapidHere_3 : List UInt8 := [180, 0, 26, 180, 0, 107, 42, 4, 16, 9, 182, 0, 114, 79, 42, 180, 0, 26, 89, 180, 0, 107, 4, 96]
abbrev dktX4_rapidHere_3 : List UInt8 := dkwX4_rapidHere_3 ++ dktX4_rapidHere_4
def dkwX4_rapidHere_2 : List UInt8 := [180, 0, 26, 180, 0, 144, 42, 180, 0, 26, 180, 0, 107, 28, 79, 42, 180, 0, 26, 180, 0, 147, 42]
abbrev dktX4_rapidHere_2 : List UInt8 := dkwX4_rapidHere_2 ++ dktX4_rapidHere_3
def dkwX4_rapidHere_1 : List UInt8 := [42, 180, 0, 26, 28, 182, 0, 140, 154, 0, 7, 4, 167, 0, 4, 3, 4, 27, 182, 0, 76, 42]
abbrev dktX4_rapidHere_1 : List UInt8 := dkwX4_rapidHere_1 ++ dktX4_rapidHere_2
def dkwX4_rapidHere_0 : List UInt8 := [42, 182, 0, 52, 87, 42, 180, 0, 42, 60, 42, 4, 42, 180, 0, 26, 180, 0, 93, 182, 0, 114, 61, 42]
abbrev dktX4_rapidHere_0 : List UInt8 := dkwX4_rapidHere_0 ++ dktX4_rapidHere_1
theorem dksX4_rapidHere_0 : cX4_rapidHere.data.toList.drop 0 = dktX4_rapidHere_0 := by decide +kernel
theorem dksX4_rapidHere_1 : cX4_rapidHere.data.toList.drop 24 = dktX4_rapidHere_1 := dk_seg dksX4_rapidHere_0 24 rfl rfl
theorem dksX4_rapidHere_2 : cX4_rapidHere.data.toList.drop 46 = dktX4_rapidHere_2 := dk_seg dksX4_rapidHere_1 22 rfl rfl
theorem dksX4_rapidHere_3 : cX4_rapidHere.data.toList.drop 69 = dktX4_rapidHere_3 := dk_seg dksX4_rapidHere_2 23 rfl rfl
theorem dksX4_rapidHere_4 : cX4_rapidHere.data.toList.drop 93 = dktX4_rapidHere_4 := dk_seg dksX4_rapidHere_3 24 rfl rfl
theorem dX4_rapidHere_0 : decode cX4_rapidHere 0 = .ok (.aload_n 0, 1) := dk_42 (dk_at dksX4_rapidHere_0 0 rfl rfl)
theorem dX4_rapidHere_1 : decode cX4_rapidHere 1 = .ok (.invokevirtual 52, 3) := dk_182 0 52 (dk_at dksX4_rapidHere_0 1 rfl rfl)
theorem dX4_rapidHere_4 : decode cX4_rapidHere 4 = .ok (.pop, 1) := dk_87 (dk_at dksX4_rapidHere_0 4 rfl rfl)
theorem dX4_rapidHere_5 : decode cX4_rapidHere 5 = .ok (.aload_n 0, 1) := dk_42 (dk_at dksX4_rapidHere_0 5 rfl rfl)
theorem dX4_rapidHere_6 : decode cX4_rapidHere 6 = .ok (.getfield 42, 3) := dk_180 0 42 (dk_at dksX4_rapidHere_0 6 rfl rfl)
theorem dX4_rapidHere_9 : decode cX4_rapidHere 9 = .ok (.istore_n 1, 1) := dk_60 (dk_at dksX4_rapidHere_0 9 rfl rfl)
theorem dX4_rapidHere_10 : decode cX4_rapidHere 10 = .ok (.aload_n 0, 1) := dk_42 (dk_at dksX4_rapidHere_0 10 rfl rfl)
theorem dX4_rapidHere_11 : decode cX4_rapidHere 11 = .ok (.iconst 1, 1) := dk_4 (dk_at dksX4_rapidHere_0 11 rfl rfl)
theorem dX4_rapidHere_12 : decode cX4_rapidHere 12 = .ok (.aload_n 0, 1) := dk_42 (dk_at dksX4_rapidHere_0 12 rfl rfl)
theorem dX4_rapidHere_13 : decode cX4_rapidHere 13 = .ok (.getfield 26, 3) := dk_180 0 26 (dk_at dksX4_rapidHere_0 13 rfl rfl)
theorem dX4_rapidHere_16 : decode cX4_rapidHere 16 = .ok (.getfield 93, 3) := dk_180 0 93 (dk_at dksX4_rapidHere_0 16 rfl rfl)
theorem dX4_rapidHere_19 : decode cX4_rapidHere 19 = .ok (.invokevirtual 114, 3) := dk_182 0 114 (dk_at dksX4_rapidHere_0 19 rfl rfl)
theorem dX4_rapidHere_22 : decode cX4_rapidHere 22 = .ok (.istore_n 2, 1) := dk_61 (dk_at dksX4_rapidHere_0 22 rfl rfl)
theorem dX4_rapidHere_23 : decode cX4_rapidHere 23 = .ok (.aload_n 0, 1) := dk_42 (dk_at dksX4_rapidHere_0 23 rfl rfl)
theorem dX4_rapidHere_24 : decode cX4_rapidHere 24 = .ok (.aload_n 0, 1) := dk_42 (dk_at dksX4_rapidHere_1 0 rfl rfl)
theorem dX4_rapidHere_25 : decode cX4_rapidHere 25 = .ok (.getfield 26, 3) := dk_180 0 26 (dk_at dksX4_rapidHere_1 1 rfl rfl)
theorem dX4_rapidHere_28 : decode cX4_rapidHere 28 = .ok (.iload_n 2, 1) := dk_28 (dk_at dksX4_rapidHere_1 4 rfl rfl)
theorem dX4_rapidHere_29 : decode cX4_rapidHere 29 = .ok (.invokevirtual 140, 3) := dk_182 0 140 (dk_at dksX4_rapidHere_1 5 rfl rfl)
theorem dX4_rapidHere_32 : decode cX4_rapidHere 32 = .ok (.ifCond .ne 7, 3) := dk_154 0 7 (dk_at dksX4_rapidHere_1 8 rfl rfl)
theorem dX4_rapidHere_35 : decode cX4_rapidHere 35 = .ok (.iconst 1, 1) := dk_4 (dk_at dksX4_rapidHere_1 11 rfl rfl)
theorem dX4_rapidHere_36 : decode cX4_rapidHere 36 = .ok (.goto 4, 3) := dk_167 0 4 (dk_at dksX4_rapidHere_1 12 rfl rfl)
theorem dX4_rapidHere_39 : decode cX4_rapidHere 39 = .ok (.iconst 0, 1) := dk_3 (dk_at dksX4_rapidHere_1 15 rfl rfl)
theorem dX4_rapidHere_40 : decode cX4_rapidHere 40 = .ok (.iconst 1, 1) := dk_4 (dk_at dksX4_rapidHere_1 16 rfl rfl)
theorem dX4_rapidHere_41 : decode cX4_rapidHere 41 = .ok (.iload_n 1, 1) := dk_27 (dk_at dksX4_rapidHere_1 17 rfl rfl)
theorem dX4_rapidHere_42 : decode cX4_rapidHere 42 = .ok (.invokevirtual 76, 3) := dk_182 0 76 (dk_at dksX4_rapidHere_1 18 rfl rfl)
theorem dX4_rapidHere_45 : decode cX4_rapidHere 45 = .ok (.aload_n 0, 1) := dk_42 (dk_at dksX4_rapidHere_1 21 rfl rfl)
theorem dX4_rapidHere_46 : decode cX4_rapidHere 46 = .ok (.getfield 26, 3) := dk_180 0 26 (dk_at dksX4_rapidHere_2 0 rfl rfl)
theorem dX4_rapidHere_49 : decode cX4_rapidHere 49 = .ok (.getfield 144, 3) := dk_180 0 144 (dk_at dksX4_rapidHere_2 3 rfl rfl)
theorem dX4_rapidHere_52 : decode cX4_rapidHere 52 = .ok (.aload_n 0, 1) := dk_42 (dk_at dksX4_rapidHere_2 6 rfl rfl)
theorem dX4_rapidHere_53 : decode cX4_rapidHere 53 = .ok (.getfield 26, 3) := dk_180 0 26 (dk_at dksX4_rapidHere_2 7 rfl rfl)
theorem dX4_rapidHere_56 : decode cX4_rapidHere 56 = .ok (.getfield 107, 3) := dk_180 0 107 (dk_at dksX4_rapidHere_2 10 rfl rfl)
theorem dX4_rapidHere_59 : decode cX4_rapidHere 59 = .ok (.iload_n 2, 1) := dk_28 (dk_at dksX4_rapidHere_2 13 rfl rfl)
theorem dX4_rapidHere_60 : decode cX4_rapidHere 60 = .ok (.iastore, 1) := dk_79 (dk_at dksX4_rapidHere_2 14 rfl rfl)
theorem dX4_rapidHere_61 : decode cX4_rapidHere 61 = .ok (.aload_n 0, 1) := dk_42 (dk_at dksX4_rapidHere_2 15 rfl rfl)
theorem dX4_rapidHere_62 : decode cX4_rapidHere 62 = .ok (.getfield 26, 3) := dk_180 0 26 (dk_at dksX4_rapidHere_2 16 rfl rfl)
theorem dX4_rapidHere_65 : decode cX4_rapidHere 65 = .ok (.getfield 147, 3) := dk_180 0 147 (dk_at dksX4_rapidHere_2 19 rfl rfl)
theorem dX4_rapidHere_68 : decode cX4_rapidHere 68 = .ok (.aload_n 0, 1) := dk_42 (dk_at dksX4_rapidHere_2 22 rfl rfl)
theorem dX4_rapidHere_69 : decode cX4_rapidHere 69 = .ok (.getfield 26, 3) := dk_180 0 26 (dk_at dksX4_rapidHere_3 0 rfl rfl)
theorem dX4_rapidHere_72 : decode cX4_rapidHere 72 = .ok (.getfield 107, 3) := dk_180 0 107 (dk_at dksX4_rapidHere_3 3 rfl rfl)
theorem dX4_rapidHere_75 : decode cX4_rapidHere 75 = .ok (.aload_n 0, 1) := dk_42 (dk_at dksX4_rapidHere_3 6 rfl rfl)
theorem dX4_rapidHere_76 : decode cX4_rapidHere 76 = .ok (.iconst 1, 1) := dk_4 (dk_at dksX4_rapidHere_3 7 rfl rfl)
theorem dX4_rapidHere_77 : decode cX4_rapidHere 77 = .ok (.bipush 9, 2) := dk_16 9 (dk_at dksX4_rapidHere_3 8 rfl rfl)
theorem dX4_rapidHere_79 : decode cX4_rapidHere 79 = .ok (.invokevirtual 114, 3) := dk_182 0 114 (dk_at dksX4_rapidHere_3 10 rfl rfl)
theorem dX4_rapidHere_82 : decode cX4_rapidHere 82 = .ok (.iastore, 1) := dk_79 (dk_at dksX4_rapidHere_3 13 rfl rfl)
theorem dX4_rapidHere_83 : decode cX4_rapidHere 83 = .ok (.aload_n 0, 1) := dk_42 (dk_at dksX4_rapidHere_3 14 rfl rfl)
theorem dX4_rapidHere_84 : decode cX4_rapidHere 84 = .ok (.getfield 26, 3) := dk_180 0 26 (dk_at dksX4_rapidHere_3 15 rfl rfl)
theorem dX4_rapidHere_87 : decode cX4_rapidHere 87 = .ok (.dup, 1) := dk_89 (dk_at dksX4_rapidHere_3 18 rfl rfl)
theorem dX4_rapidHere_88 : decode cX4_rapidHere 88 = .ok (.getfield 107, 3) := dk_180 0 107 (dk_at dksX4_rapidHere_3 19 rfl rfl)
theorem dX4_rapidHere_91 : decode cX4_rapidHere 91 = .ok (.iconst 1, 1) := dk_4 (dk_at dksX4_rapidHere_3 22 rfl rfl)
theorem dX4_rapidHere_92 : decode cX4_rapidHere 92 = .ok (.iadd, 1) := dk_96 (dk_at dksX4_rapidHere_3 23 rfl rfl)
theorem dX4_rapidHere_93 : decode cX4_rapidHere 93 = .ok (.putfield 107, 3) := dk_181 0 107 (dk_at dksX4_rapidHere_4 0 rfl rfl)
theorem dX4_rapidHere_96 : decode cX4_rapidHere 96 = .ok (.return_, 1) := dk_177 (dk_at dksX4_rapidHere_4 3 rfl rfl)
abbrev cX4_takesSign : ByteArray := prog_13_method_4_code
def yX4_takesSign : MethodName := ⟨RX4, "takesSign", "(I)Z"⟩
def dkwX4_takesSign_0 : List UInt8 := [42, 182, 0, 52, 27, 159, 0, 5, 3, 172, 42, 89, 180, 0, 42, 4, 96, 181, 0, 42, 4, 172]
abbrev dktX4_takesSign_0 : List UInt8 := dkwX4_takesSign_0 ++ []
theorem dksX4_takesSign_0 : cX4_takesSign.data.toList.drop 0 = dktX4_takesSign_0 := by decide +kernel
theorem dX4_takesSign_0 : decode cX4_takesSign 0 = .ok (.aload_n 0, 1) := dk_42 (dk_at dksX4_takesSign_0 0 rfl rfl)
theorem dX4_takesSign_1 : decode cX4_takesSign 1 = .ok (.invokevirtual 52, 3) := dk_182 0 52 (dk_at dksX4_takesSign_0 1 rfl rfl)
theorem dX4_takesSign_4 : decode cX4_takesSign 4 = .ok (.iload_n 1, 1) := dk_27 (dk_at dksX4_takesSign_0 4 rfl rfl)
theorem dX4_takesSign_5 : decode cX4_takesSign 5 = .ok (.if_icmp .eq 5, 3) := dk_159 0 5 (dk_at dksX4_takesSign_0 5 rfl rfl)
theorem dX4_takesSign_8 : decode cX4_takesSign 8 = .ok (.iconst 0, 1) := dk_3 (dk_at dksX4_takesSign_0 8 rfl rfl)
theorem dX4_takesSign_9 : decode cX4_takesSign 9 = .ok (.ireturn, 1) := dk_172 (dk_at dksX4_takesSign_0 9 rfl rfl)
theorem dX4_takesSign_10 : decode cX4_takesSign 10 = .ok (.aload_n 0, 1) := dk_42 (dk_at dksX4_takesSign_0 10 rfl rfl)
theorem dX4_takesSign_11 : decode cX4_takesSign 11 = .ok (.dup, 1) := dk_89 (dk_at dksX4_takesSign_0 11 rfl rfl)
theorem dX4_takesSign_12 : decode cX4_takesSign 12 = .ok (.getfield 42, 3) := dk_180 0 42 (dk_at dksX4_takesSign_0 12 rfl rfl)
theorem dX4_takesSign_15 : decode cX4_takesSign 15 = .ok (.iconst 1, 1) := dk_4 (dk_at dksX4_takesSign_0 15 rfl rfl)
theorem dX4_takesSign_16 : decode cX4_takesSign 16 = .ok (.iadd, 1) := dk_96 (dk_at dksX4_takesSign_0 16 rfl rfl)
theorem dX4_takesSign_17 : decode cX4_takesSign 17 = .ok (.putfield 42, 3) := dk_181 0 42 (dk_at dksX4_takesSign_0 17 rfl rfl)
theorem dX4_takesSign_20 : decode cX4_takesSign 20 = .ok (.iconst 1, 1) := dk_4 (dk_at dksX4_takesSign_0 20 rfl rfl)
theorem dX4_takesSign_21 : decode cX4_takesSign 21 = .ok (.ireturn, 1) := dk_172 (dk_at dksX4_takesSign_0 21 rfl rfl)
abbrev cX4_ends : ByteArray := prog_13_method_13_code
def yX4_ends : MethodName := ⟨RX4, "ends", "()V"⟩
def dkwX4_ends_0 : List UInt8 := [42, 42, 182, 0, 52, 2, 160, 0, 7, 4, 167, 0, 4, 3, 3, 42, 180, 0, 42, 182, 0, 76, 177]
abbrev dktX4_ends_0 : List UInt8 := dkwX4_ends_0 ++ []
theorem dksX4_ends_0 : cX4_ends.data.toList.drop 0 = dktX4_ends_0 := by decide +kernel
theorem dX4_ends_0 : decode cX4_ends 0 = .ok (.aload_n 0, 1) := dk_42 (dk_at dksX4_ends_0 0 rfl rfl)
theorem dX4_ends_1 : decode cX4_ends 1 = .ok (.aload_n 0, 1) := dk_42 (dk_at dksX4_ends_0 1 rfl rfl)
theorem dX4_ends_2 : decode cX4_ends 2 = .ok (.invokevirtual 52, 3) := dk_182 0 52 (dk_at dksX4_ends_0 2 rfl rfl)
theorem dX4_ends_5 : decode cX4_ends 5 = .ok (.iconst (-1), 1) := dk_2 (dk_at dksX4_ends_0 5 rfl rfl)
theorem dX4_ends_6 : decode cX4_ends 6 = .ok (.if_icmp .ne 7, 3) := dk_160 0 7 (dk_at dksX4_ends_0 6 rfl rfl)
theorem dX4_ends_9 : decode cX4_ends 9 = .ok (.iconst 1, 1) := dk_4 (dk_at dksX4_ends_0 9 rfl rfl)
theorem dX4_ends_10 : decode cX4_ends 10 = .ok (.goto 4, 3) := dk_167 0 4 (dk_at dksX4_ends_0 10 rfl rfl)
theorem dX4_ends_13 : decode cX4_ends 13 = .ok (.iconst 0, 1) := dk_3 (dk_at dksX4_ends_0 13 rfl rfl)
theorem dX4_ends_14 : decode cX4_ends 14 = .ok (.iconst 0, 1) := dk_3 (dk_at dksX4_ends_0 14 rfl rfl)
theorem dX4_ends_15 : decode cX4_ends 15 = .ok (.aload_n 0, 1) := dk_42 (dk_at dksX4_ends_0 15 rfl rfl)
theorem dX4_ends_16 : decode cX4_ends 16 = .ok (.getfield 42, 3) := dk_180 0 42 (dk_at dksX4_ends_0 16 rfl rfl)
theorem dX4_ends_19 : decode cX4_ends 19 = .ok (.invokevirtual 76, 3) := dk_182 0 76 (dk_at dksX4_ends_0 19 rfl rfl)
theorem dX4_ends_22 : decode cX4_ends 22 = .ok (.return_, 1) := dk_177 (dk_at dksX4_ends_0 22 rfl rfl)
abbrev cX4_ruleTold : ByteArray := prog_13_method_22_code
def yX4_ruleTold : MethodName := ⟨RX4, "ruleTold", "()LPartyRaft$Rule;"⟩
def dkwX4_ruleTold_5 : List UInt8 := [182, 0, 189, 43, 176]
abbrev dktX4_ruleTold_5 : List UInt8 := dkwX4_ruleTold_5 ++ []
def dkwX4_ruleTold_4 : List UInt8 := [182, 0, 226, 83, 43, 89, 180, 0, 225, 4, 96, 181, 0, 225, 42, 16, 59, 182, 0, 186, 154, 255, 152, 42]
abbrev dktX4_ruleTold_4 : List UInt8 := dkwX4_ruleTold_4 ++ dktX4_ruleTold_5
def dkwX4_ruleTold_3 : List UInt8 := [181, 0, 90, 42, 89, 180, 0, 42, 6, 96, 181, 0, 42, 43, 180, 0, 221, 43, 180, 0, 225, 42]
abbrev dktX4_ruleTold_3 : List UInt8 := dkwX4_ruleTold_3 ++ dktX4_ruleTold_4
def dkwX4_ruleTold_2 : List UInt8 := [16, 12, 162, 0, 7, 4, 167, 0, 4, 3, 7, 28, 182, 0, 76, 42, 89, 180, 0, 90, 4, 96]
abbrev dktX4_ruleTold_2 : List UInt8 := dkwX4_ruleTold_2 ++ dktX4_ruleTold_3
def dkwX4_ruleTold_1 : List UInt8 := [180, 0, 218, 182, 0, 175, 154, 0, 7, 4, 167, 0, 4, 3, 3, 28, 182, 0, 76, 42, 42, 180, 0, 90]
abbrev dktX4_ruleTold_1 : List UInt8 := dkwX4_ruleTold_1 ++ dktX4_ruleTold_2
def dkwX4_ruleTold_0 : List UInt8 := [187, 0, 215, 89, 183, 0, 217, 76, 42, 182, 0, 52, 87, 42, 180, 0, 42, 61, 42, 42, 42, 180, 0, 3]
abbrev dktX4_ruleTold_0 : List UInt8 := dkwX4_ruleTold_0 ++ dktX4_ruleTold_1
theorem dksX4_ruleTold_0 : cX4_ruleTold.data.toList.drop 0 = dktX4_ruleTold_0 := by decide +kernel
theorem dksX4_ruleTold_1 : cX4_ruleTold.data.toList.drop 24 = dktX4_ruleTold_1 := dk_seg dksX4_ruleTold_0 24 rfl rfl
theorem dksX4_ruleTold_2 : cX4_ruleTold.data.toList.drop 48 = dktX4_ruleTold_2 := dk_seg dksX4_ruleTold_1 24 rfl rfl
theorem dksX4_ruleTold_3 : cX4_ruleTold.data.toList.drop 70 = dktX4_ruleTold_3 := dk_seg dksX4_ruleTold_2 22 rfl rfl
theorem dksX4_ruleTold_4 : cX4_ruleTold.data.toList.drop 92 = dktX4_ruleTold_4 := dk_seg dksX4_ruleTold_3 22 rfl rfl
theorem dksX4_ruleTold_5 : cX4_ruleTold.data.toList.drop 116 = dktX4_ruleTold_5 := dk_seg dksX4_ruleTold_4 24 rfl rfl
theorem dX4_ruleTold_0 : decode cX4_ruleTold 0 = .ok (.new 215, 3) := dk_187 0 215 (dk_at dksX4_ruleTold_0 0 rfl rfl)
theorem dX4_ruleTold_3 : decode cX4_ruleTold 3 = .ok (.dup, 1) := dk_89 (dk_at dksX4_ruleTold_0 3 rfl rfl)
theorem dX4_ruleTold_4 : decode cX4_ruleTold 4 = .ok (.invokespecial 217, 3) := dk_183 0 217 (dk_at dksX4_ruleTold_0 4 rfl rfl)
theorem dX4_ruleTold_7 : decode cX4_ruleTold 7 = .ok (.astore_n 1, 1) := dk_76 (dk_at dksX4_ruleTold_0 7 rfl rfl)
theorem dX4_ruleTold_8 : decode cX4_ruleTold 8 = .ok (.aload_n 0, 1) := dk_42 (dk_at dksX4_ruleTold_0 8 rfl rfl)
theorem dX4_ruleTold_9 : decode cX4_ruleTold 9 = .ok (.invokevirtual 52, 3) := dk_182 0 52 (dk_at dksX4_ruleTold_0 9 rfl rfl)
theorem dX4_ruleTold_12 : decode cX4_ruleTold 12 = .ok (.pop, 1) := dk_87 (dk_at dksX4_ruleTold_0 12 rfl rfl)
theorem dX4_ruleTold_13 : decode cX4_ruleTold 13 = .ok (.aload_n 0, 1) := dk_42 (dk_at dksX4_ruleTold_0 13 rfl rfl)
theorem dX4_ruleTold_14 : decode cX4_ruleTold 14 = .ok (.getfield 42, 3) := dk_180 0 42 (dk_at dksX4_ruleTold_0 14 rfl rfl)
theorem dX4_ruleTold_17 : decode cX4_ruleTold 17 = .ok (.istore_n 2, 1) := dk_61 (dk_at dksX4_ruleTold_0 17 rfl rfl)
theorem dX4_ruleTold_18 : decode cX4_ruleTold 18 = .ok (.aload_n 0, 1) := dk_42 (dk_at dksX4_ruleTold_0 18 rfl rfl)
theorem dX4_ruleTold_19 : decode cX4_ruleTold 19 = .ok (.aload_n 0, 1) := dk_42 (dk_at dksX4_ruleTold_0 19 rfl rfl)
theorem dX4_ruleTold_20 : decode cX4_ruleTold 20 = .ok (.aload_n 0, 1) := dk_42 (dk_at dksX4_ruleTold_0 20 rfl rfl)
theorem dX4_ruleTold_21 : decode cX4_ruleTold 21 = .ok (.getfield 3, 3) := dk_180 0 3 (dk_at dksX4_ruleTold_0 21 rfl rfl)
theorem dX4_ruleTold_24 : decode cX4_ruleTold 24 = .ok (.getfield 218, 3) := dk_180 0 218 (dk_at dksX4_ruleTold_1 0 rfl rfl)
theorem dX4_ruleTold_27 : decode cX4_ruleTold 27 = .ok (.invokevirtual 175, 3) := dk_182 0 175 (dk_at dksX4_ruleTold_1 3 rfl rfl)
theorem dX4_ruleTold_30 : decode cX4_ruleTold 30 = .ok (.ifCond .ne 7, 3) := dk_154 0 7 (dk_at dksX4_ruleTold_1 6 rfl rfl)
theorem dX4_ruleTold_33 : decode cX4_ruleTold 33 = .ok (.iconst 1, 1) := dk_4 (dk_at dksX4_ruleTold_1 9 rfl rfl)
theorem dX4_ruleTold_34 : decode cX4_ruleTold 34 = .ok (.goto 4, 3) := dk_167 0 4 (dk_at dksX4_ruleTold_1 10 rfl rfl)
theorem dX4_ruleTold_37 : decode cX4_ruleTold 37 = .ok (.iconst 0, 1) := dk_3 (dk_at dksX4_ruleTold_1 13 rfl rfl)
theorem dX4_ruleTold_38 : decode cX4_ruleTold 38 = .ok (.iconst 0, 1) := dk_3 (dk_at dksX4_ruleTold_1 14 rfl rfl)
theorem dX4_ruleTold_39 : decode cX4_ruleTold 39 = .ok (.iload_n 2, 1) := dk_28 (dk_at dksX4_ruleTold_1 15 rfl rfl)
theorem dX4_ruleTold_40 : decode cX4_ruleTold 40 = .ok (.invokevirtual 76, 3) := dk_182 0 76 (dk_at dksX4_ruleTold_1 16 rfl rfl)
theorem dX4_ruleTold_43 : decode cX4_ruleTold 43 = .ok (.aload_n 0, 1) := dk_42 (dk_at dksX4_ruleTold_1 19 rfl rfl)
theorem dX4_ruleTold_44 : decode cX4_ruleTold 44 = .ok (.aload_n 0, 1) := dk_42 (dk_at dksX4_ruleTold_1 20 rfl rfl)
theorem dX4_ruleTold_45 : decode cX4_ruleTold 45 = .ok (.getfield 90, 3) := dk_180 0 90 (dk_at dksX4_ruleTold_1 21 rfl rfl)
theorem dX4_ruleTold_48 : decode cX4_ruleTold 48 = .ok (.bipush 12, 2) := dk_16 12 (dk_at dksX4_ruleTold_2 0 rfl rfl)
theorem dX4_ruleTold_50 : decode cX4_ruleTold 50 = .ok (.if_icmp .ge 7, 3) := dk_162 0 7 (dk_at dksX4_ruleTold_2 2 rfl rfl)
theorem dX4_ruleTold_53 : decode cX4_ruleTold 53 = .ok (.iconst 1, 1) := dk_4 (dk_at dksX4_ruleTold_2 5 rfl rfl)
theorem dX4_ruleTold_54 : decode cX4_ruleTold 54 = .ok (.goto 4, 3) := dk_167 0 4 (dk_at dksX4_ruleTold_2 6 rfl rfl)
theorem dX4_ruleTold_57 : decode cX4_ruleTold 57 = .ok (.iconst 0, 1) := dk_3 (dk_at dksX4_ruleTold_2 9 rfl rfl)
theorem dX4_ruleTold_58 : decode cX4_ruleTold 58 = .ok (.iconst 4, 1) := dk_7 (dk_at dksX4_ruleTold_2 10 rfl rfl)
theorem dX4_ruleTold_59 : decode cX4_ruleTold 59 = .ok (.iload_n 2, 1) := dk_28 (dk_at dksX4_ruleTold_2 11 rfl rfl)
theorem dX4_ruleTold_60 : decode cX4_ruleTold 60 = .ok (.invokevirtual 76, 3) := dk_182 0 76 (dk_at dksX4_ruleTold_2 12 rfl rfl)
theorem dX4_ruleTold_63 : decode cX4_ruleTold 63 = .ok (.aload_n 0, 1) := dk_42 (dk_at dksX4_ruleTold_2 15 rfl rfl)
theorem dX4_ruleTold_64 : decode cX4_ruleTold 64 = .ok (.dup, 1) := dk_89 (dk_at dksX4_ruleTold_2 16 rfl rfl)
theorem dX4_ruleTold_65 : decode cX4_ruleTold 65 = .ok (.getfield 90, 3) := dk_180 0 90 (dk_at dksX4_ruleTold_2 17 rfl rfl)
theorem dX4_ruleTold_68 : decode cX4_ruleTold 68 = .ok (.iconst 1, 1) := dk_4 (dk_at dksX4_ruleTold_2 20 rfl rfl)
theorem dX4_ruleTold_69 : decode cX4_ruleTold 69 = .ok (.iadd, 1) := dk_96 (dk_at dksX4_ruleTold_2 21 rfl rfl)
theorem dX4_ruleTold_70 : decode cX4_ruleTold 70 = .ok (.putfield 90, 3) := dk_181 0 90 (dk_at dksX4_ruleTold_3 0 rfl rfl)
theorem dX4_ruleTold_73 : decode cX4_ruleTold 73 = .ok (.aload_n 0, 1) := dk_42 (dk_at dksX4_ruleTold_3 3 rfl rfl)
theorem dX4_ruleTold_74 : decode cX4_ruleTold 74 = .ok (.dup, 1) := dk_89 (dk_at dksX4_ruleTold_3 4 rfl rfl)
theorem dX4_ruleTold_75 : decode cX4_ruleTold 75 = .ok (.getfield 42, 3) := dk_180 0 42 (dk_at dksX4_ruleTold_3 5 rfl rfl)
theorem dX4_ruleTold_78 : decode cX4_ruleTold 78 = .ok (.iconst 3, 1) := dk_6 (dk_at dksX4_ruleTold_3 8 rfl rfl)
theorem dX4_ruleTold_79 : decode cX4_ruleTold 79 = .ok (.iadd, 1) := dk_96 (dk_at dksX4_ruleTold_3 9 rfl rfl)
theorem dX4_ruleTold_80 : decode cX4_ruleTold 80 = .ok (.putfield 42, 3) := dk_181 0 42 (dk_at dksX4_ruleTold_3 10 rfl rfl)
theorem dX4_ruleTold_83 : decode cX4_ruleTold 83 = .ok (.aload_n 1, 1) := dk_43 (dk_at dksX4_ruleTold_3 13 rfl rfl)
theorem dX4_ruleTold_84 : decode cX4_ruleTold 84 = .ok (.getfield 221, 3) := dk_180 0 221 (dk_at dksX4_ruleTold_3 14 rfl rfl)
theorem dX4_ruleTold_87 : decode cX4_ruleTold 87 = .ok (.aload_n 1, 1) := dk_43 (dk_at dksX4_ruleTold_3 17 rfl rfl)
theorem dX4_ruleTold_88 : decode cX4_ruleTold 88 = .ok (.getfield 225, 3) := dk_180 0 225 (dk_at dksX4_ruleTold_3 18 rfl rfl)
theorem dX4_ruleTold_91 : decode cX4_ruleTold 91 = .ok (.aload_n 0, 1) := dk_42 (dk_at dksX4_ruleTold_3 21 rfl rfl)
theorem dX4_ruleTold_92 : decode cX4_ruleTold 92 = .ok (.invokevirtual 226, 3) := dk_182 0 226 (dk_at dksX4_ruleTold_4 0 rfl rfl)
theorem dX4_ruleTold_95 : decode cX4_ruleTold 95 = .ok (.aastore, 1) := dk_83 (dk_at dksX4_ruleTold_4 3 rfl rfl)
theorem dX4_ruleTold_96 : decode cX4_ruleTold 96 = .ok (.aload_n 1, 1) := dk_43 (dk_at dksX4_ruleTold_4 4 rfl rfl)
theorem dX4_ruleTold_97 : decode cX4_ruleTold 97 = .ok (.dup, 1) := dk_89 (dk_at dksX4_ruleTold_4 5 rfl rfl)
theorem dX4_ruleTold_98 : decode cX4_ruleTold 98 = .ok (.getfield 225, 3) := dk_180 0 225 (dk_at dksX4_ruleTold_4 6 rfl rfl)
theorem dX4_ruleTold_101 : decode cX4_ruleTold 101 = .ok (.iconst 1, 1) := dk_4 (dk_at dksX4_ruleTold_4 9 rfl rfl)
theorem dX4_ruleTold_102 : decode cX4_ruleTold 102 = .ok (.iadd, 1) := dk_96 (dk_at dksX4_ruleTold_4 10 rfl rfl)
theorem dX4_ruleTold_103 : decode cX4_ruleTold 103 = .ok (.putfield 225, 3) := dk_181 0 225 (dk_at dksX4_ruleTold_4 11 rfl rfl)
theorem dX4_ruleTold_106 : decode cX4_ruleTold 106 = .ok (.aload_n 0, 1) := dk_42 (dk_at dksX4_ruleTold_4 14 rfl rfl)
theorem dX4_ruleTold_107 : decode cX4_ruleTold 107 = .ok (.bipush 59, 2) := dk_16 59 (dk_at dksX4_ruleTold_4 15 rfl rfl)
theorem dX4_ruleTold_109 : decode cX4_ruleTold 109 = .ok (.invokevirtual 186, 3) := dk_182 0 186 (dk_at dksX4_ruleTold_4 17 rfl rfl)
theorem dX4_ruleTold_112 : decode cX4_ruleTold 112 = .ok (.ifCond .ne (-104), 3) := dk_154 255 152 (dk_at dksX4_ruleTold_4 20 rfl rfl)
theorem dX4_ruleTold_115 : decode cX4_ruleTold 115 = .ok (.aload_n 0, 1) := dk_42 (dk_at dksX4_ruleTold_4 23 rfl rfl)
theorem dX4_ruleTold_116 : decode cX4_ruleTold 116 = .ok (.invokevirtual 189, 3) := dk_182 0 189 (dk_at dksX4_ruleTold_5 0 rfl rfl)
theorem dX4_ruleTold_119 : decode cX4_ruleTold 119 = .ok (.aload_n 1, 1) := dk_43 (dk_at dksX4_ruleTold_5 3 rfl rfl)
theorem dX4_ruleTold_120 : decode cX4_ruleTold 120 = .ok (.areturn, 1) := dk_176 (dk_at dksX4_ruleTold_5 4 rfl rfl)
abbrev cX4_clauseHere : ByteArray := prog_13_method_21_code
def yX4_clauseHere : MethodName := ⟨RX4, "clauseHere", "()LPartyRaft$Clause;"⟩
def dkwX4_clauseHere_1 : List UInt8 := [153, 0, 10, 42, 182, 0, 207, 167, 0, 4, 1, 181, 0, 211, 43, 176]
abbrev dktX4_clauseHere_1 : List UInt8 := dkwX4_clauseHere_1 ++ []
def dkwX4_clauseHere_0 : List UInt8 := [187, 0, 192, 89, 183, 0, 194, 76, 43, 42, 182, 0, 195, 181, 0, 199, 43, 42, 18, 202, 182, 0, 204]
abbrev dktX4_clauseHere_0 : List UInt8 := dkwX4_clauseHere_0 ++ dktX4_clauseHere_1
theorem dksX4_clauseHere_0 : cX4_clauseHere.data.toList.drop 0 = dktX4_clauseHere_0 := by decide +kernel
theorem dksX4_clauseHere_1 : cX4_clauseHere.data.toList.drop 23 = dktX4_clauseHere_1 := dk_seg dksX4_clauseHere_0 23 rfl rfl
theorem dX4_clauseHere_0 : decode cX4_clauseHere 0 = .ok (.new 192, 3) := dk_187 0 192 (dk_at dksX4_clauseHere_0 0 rfl rfl)
theorem dX4_clauseHere_3 : decode cX4_clauseHere 3 = .ok (.dup, 1) := dk_89 (dk_at dksX4_clauseHere_0 3 rfl rfl)
theorem dX4_clauseHere_4 : decode cX4_clauseHere 4 = .ok (.invokespecial 194, 3) := dk_183 0 194 (dk_at dksX4_clauseHere_0 4 rfl rfl)
theorem dX4_clauseHere_7 : decode cX4_clauseHere 7 = .ok (.astore_n 1, 1) := dk_76 (dk_at dksX4_clauseHere_0 7 rfl rfl)
theorem dX4_clauseHere_8 : decode cX4_clauseHere 8 = .ok (.aload_n 1, 1) := dk_43 (dk_at dksX4_clauseHere_0 8 rfl rfl)
theorem dX4_clauseHere_9 : decode cX4_clauseHere 9 = .ok (.aload_n 0, 1) := dk_42 (dk_at dksX4_clauseHere_0 9 rfl rfl)
theorem dX4_clauseHere_10 : decode cX4_clauseHere 10 = .ok (.invokevirtual 195, 3) := dk_182 0 195 (dk_at dksX4_clauseHere_0 10 rfl rfl)
theorem dX4_clauseHere_13 : decode cX4_clauseHere 13 = .ok (.putfield 199, 3) := dk_181 0 199 (dk_at dksX4_clauseHere_0 13 rfl rfl)
theorem dX4_clauseHere_16 : decode cX4_clauseHere 16 = .ok (.aload_n 1, 1) := dk_43 (dk_at dksX4_clauseHere_0 16 rfl rfl)
theorem dX4_clauseHere_17 : decode cX4_clauseHere 17 = .ok (.aload_n 0, 1) := dk_42 (dk_at dksX4_clauseHere_0 17 rfl rfl)
theorem dX4_clauseHere_18 : decode cX4_clauseHere 18 = .ok (.ldc 202, 2) := dk_18 202 (dk_at dksX4_clauseHere_0 18 rfl rfl)
theorem dX4_clauseHere_20 : decode cX4_clauseHere 20 = .ok (.invokevirtual 204, 3) := dk_182 0 204 (dk_at dksX4_clauseHere_0 20 rfl rfl)
theorem dX4_clauseHere_23 : decode cX4_clauseHere 23 = .ok (.ifCond .eq 10, 3) := dk_153 0 10 (dk_at dksX4_clauseHere_1 0 rfl rfl)
theorem dX4_clauseHere_26 : decode cX4_clauseHere 26 = .ok (.aload_n 0, 1) := dk_42 (dk_at dksX4_clauseHere_1 3 rfl rfl)
theorem dX4_clauseHere_27 : decode cX4_clauseHere 27 = .ok (.invokevirtual 207, 3) := dk_182 0 207 (dk_at dksX4_clauseHere_1 4 rfl rfl)
theorem dX4_clauseHere_30 : decode cX4_clauseHere 30 = .ok (.goto 4, 3) := dk_167 0 4 (dk_at dksX4_clauseHere_1 7 rfl rfl)
theorem dX4_clauseHere_33 : decode cX4_clauseHere 33 = .ok (.aconst_null, 1) := dk_1 (dk_at dksX4_clauseHere_1 10 rfl rfl)
theorem dX4_clauseHere_34 : decode cX4_clauseHere 34 = .ok (.putfield 211, 3) := dk_181 0 211 (dk_at dksX4_clauseHere_1 11 rfl rfl)
theorem dX4_clauseHere_37 : decode cX4_clauseHere 37 = .ok (.aload_n 1, 1) := dk_43 (dk_at dksX4_clauseHere_1 14 rfl rfl)
theorem dX4_clauseHere_38 : decode cX4_clauseHere 38 = .ok (.areturn, 1) := dk_176 (dk_at dksX4_clauseHere_1 15 rfl rfl)
abbrev cX4_sum : ByteArray := prog_13_method_27_code
def yX4_sum : MethodName := ⟨RX4, "sum", "()LPartyRaft$Value;"⟩
def dkwX4_sum_2 : List UInt8 := [187, 1, 13, 89, 43, 28, 42, 182, 1, 10, 183, 1, 15, 76, 167, 255, 201, 43, 176]
abbrev dktX4_sum_2 : List UInt8 := dkwX4_sum_2 ++ []
def dkwX4_sum_1 : List UInt8 := [180, 0, 3, 180, 0, 48, 42, 180, 0, 42, 51, 61, 42, 89, 180, 0, 42, 4, 96, 181, 0, 42]
abbrev dktX4_sum_1 : List UInt8 := dkwX4_sum_1 ++ dktX4_sum_2
def dkwX4_sum_0 : List UInt8 := [42, 182, 1, 10, 76, 42, 182, 0, 52, 16, 43, 159, 0, 12, 42, 182, 0, 52, 16, 45, 160, 0, 43, 42]
abbrev dktX4_sum_0 : List UInt8 := dkwX4_sum_0 ++ dktX4_sum_1
theorem dksX4_sum_0 : cX4_sum.data.toList.drop 0 = dktX4_sum_0 := by decide +kernel
theorem dksX4_sum_1 : cX4_sum.data.toList.drop 24 = dktX4_sum_1 := dk_seg dksX4_sum_0 24 rfl rfl
theorem dksX4_sum_2 : cX4_sum.data.toList.drop 46 = dktX4_sum_2 := dk_seg dksX4_sum_1 22 rfl rfl
theorem dX4_sum_0 : decode cX4_sum 0 = .ok (.aload_n 0, 1) := dk_42 (dk_at dksX4_sum_0 0 rfl rfl)
theorem dX4_sum_1 : decode cX4_sum 1 = .ok (.invokevirtual 266, 3) := dk_182 1 10 (dk_at dksX4_sum_0 1 rfl rfl)
theorem dX4_sum_4 : decode cX4_sum 4 = .ok (.astore_n 1, 1) := dk_76 (dk_at dksX4_sum_0 4 rfl rfl)
theorem dX4_sum_5 : decode cX4_sum 5 = .ok (.aload_n 0, 1) := dk_42 (dk_at dksX4_sum_0 5 rfl rfl)
theorem dX4_sum_6 : decode cX4_sum 6 = .ok (.invokevirtual 52, 3) := dk_182 0 52 (dk_at dksX4_sum_0 6 rfl rfl)
theorem dX4_sum_9 : decode cX4_sum 9 = .ok (.bipush 43, 2) := dk_16 43 (dk_at dksX4_sum_0 9 rfl rfl)
theorem dX4_sum_11 : decode cX4_sum 11 = .ok (.if_icmp .eq 12, 3) := dk_159 0 12 (dk_at dksX4_sum_0 11 rfl rfl)
theorem dX4_sum_14 : decode cX4_sum 14 = .ok (.aload_n 0, 1) := dk_42 (dk_at dksX4_sum_0 14 rfl rfl)
theorem dX4_sum_15 : decode cX4_sum 15 = .ok (.invokevirtual 52, 3) := dk_182 0 52 (dk_at dksX4_sum_0 15 rfl rfl)
theorem dX4_sum_18 : decode cX4_sum 18 = .ok (.bipush 45, 2) := dk_16 45 (dk_at dksX4_sum_0 18 rfl rfl)
theorem dX4_sum_20 : decode cX4_sum 20 = .ok (.if_icmp .ne 43, 3) := dk_160 0 43 (dk_at dksX4_sum_0 20 rfl rfl)
theorem dX4_sum_23 : decode cX4_sum 23 = .ok (.aload_n 0, 1) := dk_42 (dk_at dksX4_sum_0 23 rfl rfl)
theorem dX4_sum_24 : decode cX4_sum 24 = .ok (.getfield 3, 3) := dk_180 0 3 (dk_at dksX4_sum_1 0 rfl rfl)
theorem dX4_sum_27 : decode cX4_sum 27 = .ok (.getfield 48, 3) := dk_180 0 48 (dk_at dksX4_sum_1 3 rfl rfl)
theorem dX4_sum_30 : decode cX4_sum 30 = .ok (.aload_n 0, 1) := dk_42 (dk_at dksX4_sum_1 6 rfl rfl)
theorem dX4_sum_31 : decode cX4_sum 31 = .ok (.getfield 42, 3) := dk_180 0 42 (dk_at dksX4_sum_1 7 rfl rfl)
theorem dX4_sum_34 : decode cX4_sum 34 = .ok (.baload, 1) := dk_51 (dk_at dksX4_sum_1 10 rfl rfl)
theorem dX4_sum_35 : decode cX4_sum 35 = .ok (.istore_n 2, 1) := dk_61 (dk_at dksX4_sum_1 11 rfl rfl)
theorem dX4_sum_36 : decode cX4_sum 36 = .ok (.aload_n 0, 1) := dk_42 (dk_at dksX4_sum_1 12 rfl rfl)
theorem dX4_sum_37 : decode cX4_sum 37 = .ok (.dup, 1) := dk_89 (dk_at dksX4_sum_1 13 rfl rfl)
theorem dX4_sum_38 : decode cX4_sum 38 = .ok (.getfield 42, 3) := dk_180 0 42 (dk_at dksX4_sum_1 14 rfl rfl)
theorem dX4_sum_41 : decode cX4_sum 41 = .ok (.iconst 1, 1) := dk_4 (dk_at dksX4_sum_1 17 rfl rfl)
theorem dX4_sum_42 : decode cX4_sum 42 = .ok (.iadd, 1) := dk_96 (dk_at dksX4_sum_1 18 rfl rfl)
theorem dX4_sum_43 : decode cX4_sum 43 = .ok (.putfield 42, 3) := dk_181 0 42 (dk_at dksX4_sum_1 19 rfl rfl)
theorem dX4_sum_46 : decode cX4_sum 46 = .ok (.new 269, 3) := dk_187 1 13 (dk_at dksX4_sum_2 0 rfl rfl)
theorem dX4_sum_49 : decode cX4_sum 49 = .ok (.dup, 1) := dk_89 (dk_at dksX4_sum_2 3 rfl rfl)
theorem dX4_sum_50 : decode cX4_sum 50 = .ok (.aload_n 1, 1) := dk_43 (dk_at dksX4_sum_2 4 rfl rfl)
theorem dX4_sum_51 : decode cX4_sum 51 = .ok (.iload_n 2, 1) := dk_28 (dk_at dksX4_sum_2 5 rfl rfl)
theorem dX4_sum_52 : decode cX4_sum 52 = .ok (.aload_n 0, 1) := dk_42 (dk_at dksX4_sum_2 6 rfl rfl)
theorem dX4_sum_53 : decode cX4_sum 53 = .ok (.invokevirtual 266, 3) := dk_182 1 10 (dk_at dksX4_sum_2 7 rfl rfl)
theorem dX4_sum_56 : decode cX4_sum 56 = .ok (.invokespecial 271, 3) := dk_183 1 15 (dk_at dksX4_sum_2 10 rfl rfl)
theorem dX4_sum_59 : decode cX4_sum 59 = .ok (.astore_n 1, 1) := dk_76 (dk_at dksX4_sum_2 13 rfl rfl)
theorem dX4_sum_60 : decode cX4_sum 60 = .ok (.goto (-55), 3) := dk_167 255 201 (dk_at dksX4_sum_2 14 rfl rfl)
theorem dX4_sum_63 : decode cX4_sum 63 = .ok (.aload_n 1, 1) := dk_43 (dk_at dksX4_sum_2 17 rfl rfl)
theorem dX4_sum_64 : decode cX4_sum 64 = .ok (.areturn, 1) := dk_176 (dk_at dksX4_sum_2 18 rfl rfl)
abbrev cX4_term : ByteArray := prog_13_method_28_code
def yX4_term : MethodName := ⟨RX4, "term", "()LPartyRaft$Value;"⟩
def dkwX4_term_3 : List UInt8 := [167, 255, 192, 43, 176]
abbrev dktX4_term_3 : List UInt8 := dkwX4_term_3 ++ []
def dkwX4_term_2 : List UInt8 := [180, 0, 42, 4, 96, 181, 0, 42, 187, 1, 13, 89, 43, 28, 42, 182, 1, 16, 183, 1, 15, 76]
abbrev dktX4_term_2 : List UInt8 := dkwX4_term_2 ++ dktX4_term_3
def dkwX4_term_1 : List UInt8 := [182, 0, 52, 16, 37, 160, 0, 43, 42, 180, 0, 3, 180, 0, 48, 42, 180, 0, 42, 51, 61, 42, 89]
abbrev dktX4_term_1 : List UInt8 := dkwX4_term_1 ++ dktX4_term_2
def dkwX4_term_0 : List UInt8 := [42, 182, 1, 16, 76, 42, 182, 0, 52, 16, 42, 159, 0, 21, 42, 182, 0, 52, 16, 47, 159, 0, 12, 42]
abbrev dktX4_term_0 : List UInt8 := dkwX4_term_0 ++ dktX4_term_1
theorem dksX4_term_0 : cX4_term.data.toList.drop 0 = dktX4_term_0 := by decide +kernel
theorem dksX4_term_1 : cX4_term.data.toList.drop 24 = dktX4_term_1 := dk_seg dksX4_term_0 24 rfl rfl
theorem dksX4_term_2 : cX4_term.data.toList.drop 47 = dktX4_term_2 := dk_seg dksX4_term_1 23 rfl rfl
theorem dksX4_term_3 : cX4_term.data.toList.drop 69 = dktX4_term_3 := dk_seg dksX4_term_2 22 rfl rfl
theorem dX4_term_0 : decode cX4_term 0 = .ok (.aload_n 0, 1) := dk_42 (dk_at dksX4_term_0 0 rfl rfl)
theorem dX4_term_1 : decode cX4_term 1 = .ok (.invokevirtual 272, 3) := dk_182 1 16 (dk_at dksX4_term_0 1 rfl rfl)
theorem dX4_term_4 : decode cX4_term 4 = .ok (.astore_n 1, 1) := dk_76 (dk_at dksX4_term_0 4 rfl rfl)
theorem dX4_term_5 : decode cX4_term 5 = .ok (.aload_n 0, 1) := dk_42 (dk_at dksX4_term_0 5 rfl rfl)
theorem dX4_term_6 : decode cX4_term 6 = .ok (.invokevirtual 52, 3) := dk_182 0 52 (dk_at dksX4_term_0 6 rfl rfl)
theorem dX4_term_9 : decode cX4_term 9 = .ok (.bipush 42, 2) := dk_16 42 (dk_at dksX4_term_0 9 rfl rfl)
theorem dX4_term_11 : decode cX4_term 11 = .ok (.if_icmp .eq 21, 3) := dk_159 0 21 (dk_at dksX4_term_0 11 rfl rfl)
theorem dX4_term_14 : decode cX4_term 14 = .ok (.aload_n 0, 1) := dk_42 (dk_at dksX4_term_0 14 rfl rfl)
theorem dX4_term_15 : decode cX4_term 15 = .ok (.invokevirtual 52, 3) := dk_182 0 52 (dk_at dksX4_term_0 15 rfl rfl)
theorem dX4_term_18 : decode cX4_term 18 = .ok (.bipush 47, 2) := dk_16 47 (dk_at dksX4_term_0 18 rfl rfl)
theorem dX4_term_20 : decode cX4_term 20 = .ok (.if_icmp .eq 12, 3) := dk_159 0 12 (dk_at dksX4_term_0 20 rfl rfl)
theorem dX4_term_23 : decode cX4_term 23 = .ok (.aload_n 0, 1) := dk_42 (dk_at dksX4_term_0 23 rfl rfl)
theorem dX4_term_24 : decode cX4_term 24 = .ok (.invokevirtual 52, 3) := dk_182 0 52 (dk_at dksX4_term_1 0 rfl rfl)
theorem dX4_term_27 : decode cX4_term 27 = .ok (.bipush 37, 2) := dk_16 37 (dk_at dksX4_term_1 3 rfl rfl)
theorem dX4_term_29 : decode cX4_term 29 = .ok (.if_icmp .ne 43, 3) := dk_160 0 43 (dk_at dksX4_term_1 5 rfl rfl)
theorem dX4_term_32 : decode cX4_term 32 = .ok (.aload_n 0, 1) := dk_42 (dk_at dksX4_term_1 8 rfl rfl)
theorem dX4_term_33 : decode cX4_term 33 = .ok (.getfield 3, 3) := dk_180 0 3 (dk_at dksX4_term_1 9 rfl rfl)
theorem dX4_term_36 : decode cX4_term 36 = .ok (.getfield 48, 3) := dk_180 0 48 (dk_at dksX4_term_1 12 rfl rfl)
theorem dX4_term_39 : decode cX4_term 39 = .ok (.aload_n 0, 1) := dk_42 (dk_at dksX4_term_1 15 rfl rfl)
theorem dX4_term_40 : decode cX4_term 40 = .ok (.getfield 42, 3) := dk_180 0 42 (dk_at dksX4_term_1 16 rfl rfl)
theorem dX4_term_43 : decode cX4_term 43 = .ok (.baload, 1) := dk_51 (dk_at dksX4_term_1 19 rfl rfl)
theorem dX4_term_44 : decode cX4_term 44 = .ok (.istore_n 2, 1) := dk_61 (dk_at dksX4_term_1 20 rfl rfl)
theorem dX4_term_45 : decode cX4_term 45 = .ok (.aload_n 0, 1) := dk_42 (dk_at dksX4_term_1 21 rfl rfl)
theorem dX4_term_46 : decode cX4_term 46 = .ok (.dup, 1) := dk_89 (dk_at dksX4_term_1 22 rfl rfl)
theorem dX4_term_47 : decode cX4_term 47 = .ok (.getfield 42, 3) := dk_180 0 42 (dk_at dksX4_term_2 0 rfl rfl)
theorem dX4_term_50 : decode cX4_term 50 = .ok (.iconst 1, 1) := dk_4 (dk_at dksX4_term_2 3 rfl rfl)
theorem dX4_term_51 : decode cX4_term 51 = .ok (.iadd, 1) := dk_96 (dk_at dksX4_term_2 4 rfl rfl)
theorem dX4_term_52 : decode cX4_term 52 = .ok (.putfield 42, 3) := dk_181 0 42 (dk_at dksX4_term_2 5 rfl rfl)
theorem dX4_term_55 : decode cX4_term 55 = .ok (.new 269, 3) := dk_187 1 13 (dk_at dksX4_term_2 8 rfl rfl)
theorem dX4_term_58 : decode cX4_term 58 = .ok (.dup, 1) := dk_89 (dk_at dksX4_term_2 11 rfl rfl)
theorem dX4_term_59 : decode cX4_term 59 = .ok (.aload_n 1, 1) := dk_43 (dk_at dksX4_term_2 12 rfl rfl)
theorem dX4_term_60 : decode cX4_term 60 = .ok (.iload_n 2, 1) := dk_28 (dk_at dksX4_term_2 13 rfl rfl)
theorem dX4_term_61 : decode cX4_term 61 = .ok (.aload_n 0, 1) := dk_42 (dk_at dksX4_term_2 14 rfl rfl)
theorem dX4_term_62 : decode cX4_term 62 = .ok (.invokevirtual 272, 3) := dk_182 1 16 (dk_at dksX4_term_2 15 rfl rfl)
theorem dX4_term_65 : decode cX4_term 65 = .ok (.invokespecial 271, 3) := dk_183 1 15 (dk_at dksX4_term_2 18 rfl rfl)
theorem dX4_term_68 : decode cX4_term 68 = .ok (.astore_n 1, 1) := dk_76 (dk_at dksX4_term_2 21 rfl rfl)
theorem dX4_term_69 : decode cX4_term 69 = .ok (.goto (-64), 3) := dk_167 255 192 (dk_at dksX4_term_3 0 rfl rfl)
theorem dX4_term_72 : decode cX4_term 72 = .ok (.aload_n 1, 1) := dk_43 (dk_at dksX4_term_3 3 rfl rfl)
theorem dX4_term_73 : decode cX4_term 73 = .ok (.areturn, 1) := dk_176 (dk_at dksX4_term_3 4 rfl rfl)
abbrev cX4_value : ByteArray := prog_13_method_29_code
def yX4_value : MethodName := ⟨RX4, "value", "()LPartyRaft$Value;"⟩
def dkwX4_value_4 : List UInt8 := [89, 28, 183, 1, 27, 176]
abbrev dktX4_value_4 : List UInt8 := dkwX4_value_4 ++ []
def dkwX4_value_3 : List UInt8 := [182, 1, 2, 42, 89, 180, 0, 42, 42, 180, 0, 19, 28, 50, 182, 0, 59, 96, 181, 0, 42, 187, 1, 25]
abbrev dktX4_value_3 : List UInt8 := dkwX4_value_3 ++ dktX4_value_4
def dkwX4_value_2 : List UInt8 := [182, 0, 175, 61, 42, 28, 2, 159, 0, 7, 4, 167, 0, 4, 3, 3, 27, 182, 0, 76, 42, 27]
abbrev dktX4_value_2 : List UInt8 := dkwX4_value_2 ++ dktX4_value_3
def dkwX4_value_1 : List UInt8 := [182, 0, 114, 61, 42, 27, 182, 1, 2, 187, 1, 20, 89, 28, 133, 183, 1, 22, 176, 42, 42, 180, 0, 19]
abbrev dktX4_value_1 : List UInt8 := dkwX4_value_1 ++ dktX4_value_2
def dkwX4_value_0 : List UInt8 := [42, 182, 0, 52, 87, 42, 180, 0, 42, 60, 42, 27, 182, 0, 72, 153, 0, 27, 42, 3, 19, 1, 19]
abbrev dktX4_value_0 : List UInt8 := dkwX4_value_0 ++ dktX4_value_1
theorem dksX4_value_0 : cX4_value.data.toList.drop 0 = dktX4_value_0 := by decide +kernel
theorem dksX4_value_1 : cX4_value.data.toList.drop 23 = dktX4_value_1 := dk_seg dksX4_value_0 23 rfl rfl
theorem dksX4_value_2 : cX4_value.data.toList.drop 47 = dktX4_value_2 := dk_seg dksX4_value_1 24 rfl rfl
theorem dksX4_value_3 : cX4_value.data.toList.drop 69 = dktX4_value_3 := dk_seg dksX4_value_2 22 rfl rfl
theorem dksX4_value_4 : cX4_value.data.toList.drop 93 = dktX4_value_4 := dk_seg dksX4_value_3 24 rfl rfl
theorem dX4_value_0 : decode cX4_value 0 = .ok (.aload_n 0, 1) := dk_42 (dk_at dksX4_value_0 0 rfl rfl)
theorem dX4_value_1 : decode cX4_value 1 = .ok (.invokevirtual 52, 3) := dk_182 0 52 (dk_at dksX4_value_0 1 rfl rfl)
theorem dX4_value_4 : decode cX4_value 4 = .ok (.pop, 1) := dk_87 (dk_at dksX4_value_0 4 rfl rfl)
theorem dX4_value_5 : decode cX4_value 5 = .ok (.aload_n 0, 1) := dk_42 (dk_at dksX4_value_0 5 rfl rfl)
theorem dX4_value_6 : decode cX4_value 6 = .ok (.getfield 42, 3) := dk_180 0 42 (dk_at dksX4_value_0 6 rfl rfl)
theorem dX4_value_9 : decode cX4_value 9 = .ok (.istore_n 1, 1) := dk_60 (dk_at dksX4_value_0 9 rfl rfl)
theorem dX4_value_10 : decode cX4_value 10 = .ok (.aload_n 0, 1) := dk_42 (dk_at dksX4_value_0 10 rfl rfl)
theorem dX4_value_11 : decode cX4_value 11 = .ok (.iload_n 1, 1) := dk_27 (dk_at dksX4_value_0 11 rfl rfl)
theorem dX4_value_12 : decode cX4_value 12 = .ok (.invokevirtual 72, 3) := dk_182 0 72 (dk_at dksX4_value_0 12 rfl rfl)
theorem dX4_value_15 : decode cX4_value 15 = .ok (.ifCond .eq 27, 3) := dk_153 0 27 (dk_at dksX4_value_0 15 rfl rfl)
theorem dX4_value_18 : decode cX4_value 18 = .ok (.aload_n 0, 1) := dk_42 (dk_at dksX4_value_0 18 rfl rfl)
theorem dX4_value_19 : decode cX4_value 19 = .ok (.iconst 0, 1) := dk_3 (dk_at dksX4_value_0 19 rfl rfl)
theorem dX4_value_20 : decode cX4_value 20 = .ok (.ldc_w 275, 3) := dk_19 1 19 (dk_at dksX4_value_0 20 rfl rfl)
theorem dX4_value_23 : decode cX4_value 23 = .ok (.invokevirtual 114, 3) := dk_182 0 114 (dk_at dksX4_value_1 0 rfl rfl)
theorem dX4_value_26 : decode cX4_value 26 = .ok (.istore_n 2, 1) := dk_61 (dk_at dksX4_value_1 3 rfl rfl)
theorem dX4_value_27 : decode cX4_value 27 = .ok (.aload_n 0, 1) := dk_42 (dk_at dksX4_value_1 4 rfl rfl)
theorem dX4_value_28 : decode cX4_value 28 = .ok (.iload_n 1, 1) := dk_27 (dk_at dksX4_value_1 5 rfl rfl)
theorem dX4_value_29 : decode cX4_value 29 = .ok (.invokevirtual 258, 3) := dk_182 1 2 (dk_at dksX4_value_1 6 rfl rfl)
theorem dX4_value_32 : decode cX4_value 32 = .ok (.new 276, 3) := dk_187 1 20 (dk_at dksX4_value_1 9 rfl rfl)
theorem dX4_value_35 : decode cX4_value 35 = .ok (.dup, 1) := dk_89 (dk_at dksX4_value_1 12 rfl rfl)
theorem dX4_value_36 : decode cX4_value 36 = .ok (.iload_n 2, 1) := dk_28 (dk_at dksX4_value_1 13 rfl rfl)
theorem dX4_value_37 : decode cX4_value 37 = .ok (.i2l, 1) := dk_133 (dk_at dksX4_value_1 14 rfl rfl)
theorem dX4_value_38 : decode cX4_value 38 = .ok (.invokespecial 278, 3) := dk_183 1 22 (dk_at dksX4_value_1 15 rfl rfl)
theorem dX4_value_41 : decode cX4_value 41 = .ok (.areturn, 1) := dk_176 (dk_at dksX4_value_1 18 rfl rfl)
theorem dX4_value_42 : decode cX4_value 42 = .ok (.aload_n 0, 1) := dk_42 (dk_at dksX4_value_1 19 rfl rfl)
theorem dX4_value_43 : decode cX4_value 43 = .ok (.aload_n 0, 1) := dk_42 (dk_at dksX4_value_1 20 rfl rfl)
theorem dX4_value_44 : decode cX4_value 44 = .ok (.getfield 19, 3) := dk_180 0 19 (dk_at dksX4_value_1 21 rfl rfl)
theorem dX4_value_47 : decode cX4_value 47 = .ok (.invokevirtual 175, 3) := dk_182 0 175 (dk_at dksX4_value_2 0 rfl rfl)
theorem dX4_value_50 : decode cX4_value 50 = .ok (.istore_n 2, 1) := dk_61 (dk_at dksX4_value_2 3 rfl rfl)
theorem dX4_value_51 : decode cX4_value 51 = .ok (.aload_n 0, 1) := dk_42 (dk_at dksX4_value_2 4 rfl rfl)
theorem dX4_value_52 : decode cX4_value 52 = .ok (.iload_n 2, 1) := dk_28 (dk_at dksX4_value_2 5 rfl rfl)
theorem dX4_value_53 : decode cX4_value 53 = .ok (.iconst (-1), 1) := dk_2 (dk_at dksX4_value_2 6 rfl rfl)
theorem dX4_value_54 : decode cX4_value 54 = .ok (.if_icmp .eq 7, 3) := dk_159 0 7 (dk_at dksX4_value_2 7 rfl rfl)
theorem dX4_value_57 : decode cX4_value 57 = .ok (.iconst 1, 1) := dk_4 (dk_at dksX4_value_2 10 rfl rfl)
theorem dX4_value_58 : decode cX4_value 58 = .ok (.goto 4, 3) := dk_167 0 4 (dk_at dksX4_value_2 11 rfl rfl)
theorem dX4_value_61 : decode cX4_value 61 = .ok (.iconst 0, 1) := dk_3 (dk_at dksX4_value_2 14 rfl rfl)
theorem dX4_value_62 : decode cX4_value 62 = .ok (.iconst 0, 1) := dk_3 (dk_at dksX4_value_2 15 rfl rfl)
theorem dX4_value_63 : decode cX4_value 63 = .ok (.iload_n 1, 1) := dk_27 (dk_at dksX4_value_2 16 rfl rfl)
theorem dX4_value_64 : decode cX4_value 64 = .ok (.invokevirtual 76, 3) := dk_182 0 76 (dk_at dksX4_value_2 17 rfl rfl)
theorem dX4_value_67 : decode cX4_value 67 = .ok (.aload_n 0, 1) := dk_42 (dk_at dksX4_value_2 20 rfl rfl)
theorem dX4_value_68 : decode cX4_value 68 = .ok (.iload_n 1, 1) := dk_27 (dk_at dksX4_value_2 21 rfl rfl)
theorem dX4_value_69 : decode cX4_value 69 = .ok (.invokevirtual 258, 3) := dk_182 1 2 (dk_at dksX4_value_3 0 rfl rfl)
theorem dX4_value_72 : decode cX4_value 72 = .ok (.aload_n 0, 1) := dk_42 (dk_at dksX4_value_3 3 rfl rfl)
theorem dX4_value_73 : decode cX4_value 73 = .ok (.dup, 1) := dk_89 (dk_at dksX4_value_3 4 rfl rfl)
theorem dX4_value_74 : decode cX4_value 74 = .ok (.getfield 42, 3) := dk_180 0 42 (dk_at dksX4_value_3 5 rfl rfl)
theorem dX4_value_77 : decode cX4_value 77 = .ok (.aload_n 0, 1) := dk_42 (dk_at dksX4_value_3 8 rfl rfl)
theorem dX4_value_78 : decode cX4_value 78 = .ok (.getfield 19, 3) := dk_180 0 19 (dk_at dksX4_value_3 9 rfl rfl)
theorem dX4_value_81 : decode cX4_value 81 = .ok (.iload_n 2, 1) := dk_28 (dk_at dksX4_value_3 12 rfl rfl)
theorem dX4_value_82 : decode cX4_value 82 = .ok (.aaload, 1) := dk_50 (dk_at dksX4_value_3 13 rfl rfl)
theorem dX4_value_83 : decode cX4_value 83 = .ok (.invokevirtual 59, 3) := dk_182 0 59 (dk_at dksX4_value_3 14 rfl rfl)
theorem dX4_value_86 : decode cX4_value 86 = .ok (.iadd, 1) := dk_96 (dk_at dksX4_value_3 17 rfl rfl)
theorem dX4_value_87 : decode cX4_value 87 = .ok (.putfield 42, 3) := dk_181 0 42 (dk_at dksX4_value_3 18 rfl rfl)
theorem dX4_value_90 : decode cX4_value 90 = .ok (.new 281, 3) := dk_187 1 25 (dk_at dksX4_value_3 21 rfl rfl)
theorem dX4_value_93 : decode cX4_value 93 = .ok (.dup, 1) := dk_89 (dk_at dksX4_value_4 0 rfl rfl)
theorem dX4_value_94 : decode cX4_value 94 = .ok (.iload_n 2, 1) := dk_28 (dk_at dksX4_value_4 1 rfl rfl)
theorem dX4_value_95 : decode cX4_value 95 = .ok (.invokespecial 283, 3) := dk_183 1 27 (dk_at dksX4_value_4 2 rfl rfl)
theorem dX4_value_98 : decode cX4_value 98 = .ok (.areturn, 1) := dk_176 (dk_at dksX4_value_4 5 rfl rfl)
abbrev cX4_makes : ByteArray := prog_13_method_11_code
def yX4_makes : MethodName := ⟨RX4, "makes", "(I)V"⟩
def dkwX4_makes_1 : List UInt8 := [180, 0, 84, 4, 96, 181, 0, 84, 177]
abbrev dktX4_makes_1 : List UInt8 := dkwX4_makes_1 ++ []
def dkwX4_makes_0 : List UInt8 := [42, 42, 180, 0, 84, 16, 60, 162, 0, 7, 4, 167, 0, 4, 3, 6, 27, 182, 0, 76, 42, 89]
abbrev dktX4_makes_0 : List UInt8 := dkwX4_makes_0 ++ dktX4_makes_1
theorem dksX4_makes_0 : cX4_makes.data.toList.drop 0 = dktX4_makes_0 := by decide +kernel
theorem dksX4_makes_1 : cX4_makes.data.toList.drop 22 = dktX4_makes_1 := dk_seg dksX4_makes_0 22 rfl rfl
theorem dX4_makes_0 : decode cX4_makes 0 = .ok (.aload_n 0, 1) := dk_42 (dk_at dksX4_makes_0 0 rfl rfl)
theorem dX4_makes_1 : decode cX4_makes 1 = .ok (.aload_n 0, 1) := dk_42 (dk_at dksX4_makes_0 1 rfl rfl)
theorem dX4_makes_2 : decode cX4_makes 2 = .ok (.getfield 84, 3) := dk_180 0 84 (dk_at dksX4_makes_0 2 rfl rfl)
theorem dX4_makes_5 : decode cX4_makes 5 = .ok (.bipush 60, 2) := dk_16 60 (dk_at dksX4_makes_0 5 rfl rfl)
theorem dX4_makes_7 : decode cX4_makes 7 = .ok (.if_icmp .ge 7, 3) := dk_162 0 7 (dk_at dksX4_makes_0 7 rfl rfl)
theorem dX4_makes_10 : decode cX4_makes 10 = .ok (.iconst 1, 1) := dk_4 (dk_at dksX4_makes_0 10 rfl rfl)
theorem dX4_makes_11 : decode cX4_makes 11 = .ok (.goto 4, 3) := dk_167 0 4 (dk_at dksX4_makes_0 11 rfl rfl)
theorem dX4_makes_14 : decode cX4_makes 14 = .ok (.iconst 0, 1) := dk_3 (dk_at dksX4_makes_0 14 rfl rfl)
theorem dX4_makes_15 : decode cX4_makes 15 = .ok (.iconst 3, 1) := dk_6 (dk_at dksX4_makes_0 15 rfl rfl)
theorem dX4_makes_16 : decode cX4_makes 16 = .ok (.iload_n 1, 1) := dk_27 (dk_at dksX4_makes_0 16 rfl rfl)
theorem dX4_makes_17 : decode cX4_makes 17 = .ok (.invokevirtual 76, 3) := dk_182 0 76 (dk_at dksX4_makes_0 17 rfl rfl)
theorem dX4_makes_20 : decode cX4_makes 20 = .ok (.aload_n 0, 1) := dk_42 (dk_at dksX4_makes_0 20 rfl rfl)
theorem dX4_makes_21 : decode cX4_makes 21 = .ok (.dup, 1) := dk_89 (dk_at dksX4_makes_0 21 rfl rfl)
theorem dX4_makes_22 : decode cX4_makes 22 = .ok (.getfield 84, 3) := dk_180 0 84 (dk_at dksX4_makes_1 0 rfl rfl)
theorem dX4_makes_25 : decode cX4_makes 25 = .ok (.iconst 1, 1) := dk_4 (dk_at dksX4_makes_1 3 rfl rfl)
theorem dX4_makes_26 : decode cX4_makes 26 = .ok (.iadd, 1) := dk_96 (dk_at dksX4_makes_1 4 rfl rfl)
theorem dX4_makes_27 : decode cX4_makes 27 = .ok (.putfield 84, 3) := dk_181 0 84 (dk_at dksX4_makes_1 5 rfl rfl)
theorem dX4_makes_30 : decode cX4_makes 30 = .ok (.return_, 1) := dk_177 (dk_at dksX4_makes_1 8 rfl rfl)
abbrev cX4_takesWord : ByteArray := prog_13_method_7_code
def yX4_takesWord : MethodName := ⟨RX4, "takesWord", "(Ljava/lang/String;)Z"⟩
def dkwX4_takesWord_1 : List UInt8 := [172]
abbrev dktX4_takesWord_1 : List UInt8 := dkwX4_takesWord_1 ++ []
def dkwX4_takesWord_0 : List UInt8 := [42, 43, 182, 0, 68, 154, 0, 5, 3, 172, 42, 89, 180, 0, 42, 43, 182, 0, 59, 96, 181, 0, 42, 4]
abbrev dktX4_takesWord_0 : List UInt8 := dkwX4_takesWord_0 ++ dktX4_takesWord_1
theorem dksX4_takesWord_0 : cX4_takesWord.data.toList.drop 0 = dktX4_takesWord_0 := by decide +kernel
theorem dksX4_takesWord_1 : cX4_takesWord.data.toList.drop 24 = dktX4_takesWord_1 := dk_seg dksX4_takesWord_0 24 rfl rfl
theorem dX4_takesWord_0 : decode cX4_takesWord 0 = .ok (.aload_n 0, 1) := dk_42 (dk_at dksX4_takesWord_0 0 rfl rfl)
theorem dX4_takesWord_1 : decode cX4_takesWord 1 = .ok (.aload_n 1, 1) := dk_43 (dk_at dksX4_takesWord_0 1 rfl rfl)
theorem dX4_takesWord_2 : decode cX4_takesWord 2 = .ok (.invokevirtual 68, 3) := dk_182 0 68 (dk_at dksX4_takesWord_0 2 rfl rfl)
theorem dX4_takesWord_5 : decode cX4_takesWord 5 = .ok (.ifCond .ne 5, 3) := dk_154 0 5 (dk_at dksX4_takesWord_0 5 rfl rfl)
theorem dX4_takesWord_8 : decode cX4_takesWord 8 = .ok (.iconst 0, 1) := dk_3 (dk_at dksX4_takesWord_0 8 rfl rfl)
theorem dX4_takesWord_9 : decode cX4_takesWord 9 = .ok (.ireturn, 1) := dk_172 (dk_at dksX4_takesWord_0 9 rfl rfl)
theorem dX4_takesWord_10 : decode cX4_takesWord 10 = .ok (.aload_n 0, 1) := dk_42 (dk_at dksX4_takesWord_0 10 rfl rfl)
theorem dX4_takesWord_11 : decode cX4_takesWord 11 = .ok (.dup, 1) := dk_89 (dk_at dksX4_takesWord_0 11 rfl rfl)
theorem dX4_takesWord_12 : decode cX4_takesWord 12 = .ok (.getfield 42, 3) := dk_180 0 42 (dk_at dksX4_takesWord_0 12 rfl rfl)
theorem dX4_takesWord_15 : decode cX4_takesWord 15 = .ok (.aload_n 1, 1) := dk_43 (dk_at dksX4_takesWord_0 15 rfl rfl)
theorem dX4_takesWord_16 : decode cX4_takesWord 16 = .ok (.invokevirtual 59, 3) := dk_182 0 59 (dk_at dksX4_takesWord_0 16 rfl rfl)
theorem dX4_takesWord_19 : decode cX4_takesWord 19 = .ok (.iadd, 1) := dk_96 (dk_at dksX4_takesWord_0 19 rfl rfl)
theorem dX4_takesWord_20 : decode cX4_takesWord 20 = .ok (.putfield 42, 3) := dk_181 0 42 (dk_at dksX4_takesWord_0 20 rfl rfl)
theorem dX4_takesWord_23 : decode cX4_takesWord 23 = .ok (.iconst 1, 1) := dk_4 (dk_at dksX4_takesWord_0 23 rfl rfl)
theorem dX4_takesWord_24 : decode cX4_takesWord 24 = .ok (.ireturn, 1) := dk_172 (dk_at dksX4_takesWord_1 0 rfl rfl)
abbrev cX4_tested : ByteArray := prog_13_method_23_code
def yX4_tested : MethodName := ⟨RX4, "tested", "()LPartyRaft$Test;"⟩
def dkwX4_tested_1 : List UInt8 := [183, 0, 237, 76, 167, 255, 233, 43, 176]
abbrev dktX4_tested_1 : List UInt8 := dkwX4_tested_1 ++ []
def dkwX4_tested_0 : List UInt8 := [42, 182, 0, 230, 76, 42, 18, 233, 182, 0, 204, 153, 0, 20, 187, 0, 235, 89, 43, 3, 42, 182, 0, 230]
abbrev dktX4_tested_0 : List UInt8 := dkwX4_tested_0 ++ dktX4_tested_1
theorem dksX4_tested_0 : cX4_tested.data.toList.drop 0 = dktX4_tested_0 := by decide +kernel
theorem dksX4_tested_1 : cX4_tested.data.toList.drop 24 = dktX4_tested_1 := dk_seg dksX4_tested_0 24 rfl rfl
theorem dX4_tested_0 : decode cX4_tested 0 = .ok (.aload_n 0, 1) := dk_42 (dk_at dksX4_tested_0 0 rfl rfl)
theorem dX4_tested_1 : decode cX4_tested 1 = .ok (.invokevirtual 230, 3) := dk_182 0 230 (dk_at dksX4_tested_0 1 rfl rfl)
theorem dX4_tested_4 : decode cX4_tested 4 = .ok (.astore_n 1, 1) := dk_76 (dk_at dksX4_tested_0 4 rfl rfl)
theorem dX4_tested_5 : decode cX4_tested 5 = .ok (.aload_n 0, 1) := dk_42 (dk_at dksX4_tested_0 5 rfl rfl)
theorem dX4_tested_6 : decode cX4_tested 6 = .ok (.ldc 233, 2) := dk_18 233 (dk_at dksX4_tested_0 6 rfl rfl)
theorem dX4_tested_8 : decode cX4_tested 8 = .ok (.invokevirtual 204, 3) := dk_182 0 204 (dk_at dksX4_tested_0 8 rfl rfl)
theorem dX4_tested_11 : decode cX4_tested 11 = .ok (.ifCond .eq 20, 3) := dk_153 0 20 (dk_at dksX4_tested_0 11 rfl rfl)
theorem dX4_tested_14 : decode cX4_tested 14 = .ok (.new 235, 3) := dk_187 0 235 (dk_at dksX4_tested_0 14 rfl rfl)
theorem dX4_tested_17 : decode cX4_tested 17 = .ok (.dup, 1) := dk_89 (dk_at dksX4_tested_0 17 rfl rfl)
theorem dX4_tested_18 : decode cX4_tested 18 = .ok (.aload_n 1, 1) := dk_43 (dk_at dksX4_tested_0 18 rfl rfl)
theorem dX4_tested_19 : decode cX4_tested 19 = .ok (.iconst 0, 1) := dk_3 (dk_at dksX4_tested_0 19 rfl rfl)
theorem dX4_tested_20 : decode cX4_tested 20 = .ok (.aload_n 0, 1) := dk_42 (dk_at dksX4_tested_0 20 rfl rfl)
theorem dX4_tested_21 : decode cX4_tested 21 = .ok (.invokevirtual 230, 3) := dk_182 0 230 (dk_at dksX4_tested_0 21 rfl rfl)
theorem dX4_tested_24 : decode cX4_tested 24 = .ok (.invokespecial 237, 3) := dk_183 0 237 (dk_at dksX4_tested_1 0 rfl rfl)
theorem dX4_tested_27 : decode cX4_tested 27 = .ok (.astore_n 1, 1) := dk_76 (dk_at dksX4_tested_1 3 rfl rfl)
theorem dX4_tested_28 : decode cX4_tested 28 = .ok (.goto (-23), 3) := dk_167 255 233 (dk_at dksX4_tested_1 4 rfl rfl)
theorem dX4_tested_31 : decode cX4_tested 31 = .ok (.aload_n 1, 1) := dk_43 (dk_at dksX4_tested_1 7 rfl rfl)
theorem dX4_tested_32 : decode cX4_tested 32 = .ok (.areturn, 1) := dk_176 (dk_at dksX4_tested_1 8 rfl rfl)
abbrev cX4_parted : ByteArray := prog_13_method_24_code
def yX4_parted : MethodName := ⟨RX4, "parted", "()LPartyRaft$Test;"⟩
def dkwX4_parted_1 : List UInt8 := [183, 0, 237, 76, 167, 255, 233, 43, 176]
abbrev dktX4_parted_1 : List UInt8 := dkwX4_parted_1 ++ []
def dkwX4_parted_0 : List UInt8 := [42, 182, 0, 240, 76, 42, 18, 243, 182, 0, 204, 153, 0, 20, 187, 0, 235, 89, 43, 4, 42, 182, 0, 240]
abbrev dktX4_parted_0 : List UInt8 := dkwX4_parted_0 ++ dktX4_parted_1
theorem dksX4_parted_0 : cX4_parted.data.toList.drop 0 = dktX4_parted_0 := by decide +kernel
theorem dksX4_parted_1 : cX4_parted.data.toList.drop 24 = dktX4_parted_1 := dk_seg dksX4_parted_0 24 rfl rfl
theorem dX4_parted_0 : decode cX4_parted 0 = .ok (.aload_n 0, 1) := dk_42 (dk_at dksX4_parted_0 0 rfl rfl)
theorem dX4_parted_1 : decode cX4_parted 1 = .ok (.invokevirtual 240, 3) := dk_182 0 240 (dk_at dksX4_parted_0 1 rfl rfl)
theorem dX4_parted_4 : decode cX4_parted 4 = .ok (.astore_n 1, 1) := dk_76 (dk_at dksX4_parted_0 4 rfl rfl)
theorem dX4_parted_5 : decode cX4_parted 5 = .ok (.aload_n 0, 1) := dk_42 (dk_at dksX4_parted_0 5 rfl rfl)
theorem dX4_parted_6 : decode cX4_parted 6 = .ok (.ldc 243, 2) := dk_18 243 (dk_at dksX4_parted_0 6 rfl rfl)
theorem dX4_parted_8 : decode cX4_parted 8 = .ok (.invokevirtual 204, 3) := dk_182 0 204 (dk_at dksX4_parted_0 8 rfl rfl)
theorem dX4_parted_11 : decode cX4_parted 11 = .ok (.ifCond .eq 20, 3) := dk_153 0 20 (dk_at dksX4_parted_0 11 rfl rfl)
theorem dX4_parted_14 : decode cX4_parted 14 = .ok (.new 235, 3) := dk_187 0 235 (dk_at dksX4_parted_0 14 rfl rfl)
theorem dX4_parted_17 : decode cX4_parted 17 = .ok (.dup, 1) := dk_89 (dk_at dksX4_parted_0 17 rfl rfl)
theorem dX4_parted_18 : decode cX4_parted 18 = .ok (.aload_n 1, 1) := dk_43 (dk_at dksX4_parted_0 18 rfl rfl)
theorem dX4_parted_19 : decode cX4_parted 19 = .ok (.iconst 1, 1) := dk_4 (dk_at dksX4_parted_0 19 rfl rfl)
theorem dX4_parted_20 : decode cX4_parted 20 = .ok (.aload_n 0, 1) := dk_42 (dk_at dksX4_parted_0 20 rfl rfl)
theorem dX4_parted_21 : decode cX4_parted 21 = .ok (.invokevirtual 240, 3) := dk_182 0 240 (dk_at dksX4_parted_0 21 rfl rfl)
theorem dX4_parted_24 : decode cX4_parted 24 = .ok (.invokespecial 237, 3) := dk_183 0 237 (dk_at dksX4_parted_1 0 rfl rfl)
theorem dX4_parted_27 : decode cX4_parted 27 = .ok (.astore_n 1, 1) := dk_76 (dk_at dksX4_parted_1 3 rfl rfl)
theorem dX4_parted_28 : decode cX4_parted 28 = .ok (.goto (-23), 3) := dk_167 255 233 (dk_at dksX4_parted_1 4 rfl rfl)
theorem dX4_parted_31 : decode cX4_parted 31 = .ok (.aload_n 1, 1) := dk_43 (dk_at dksX4_parted_1 7 rfl rfl)
theorem dX4_parted_32 : decode cX4_parted 32 = .ok (.areturn, 1) := dk_176 (dk_at dksX4_parted_1 8 rfl rfl)
abbrev cX4_fact : ByteArray := prog_13_method_25_code
def yX4_fact : MethodName := ⟨RX4, "fact", "()LPartyRaft$Test;"⟩
def dkwX4_fact_6 : List UInt8 := [187, 1, 5, 89, 45, 21, 5, 42, 182, 0, 195, 183, 1, 7, 176]
abbrev dktX4_fact_6 : List UInt8 := dkwX4_fact_6 ++ []
def dkwX4_fact_5 : List UInt8 := [182, 0, 52, 87, 42, 180, 0, 42, 54, 4, 42, 182, 0, 255, 54, 5, 42, 21, 4, 182, 1, 2]
abbrev dktX4_fact_5 : List UInt8 := dkwX4_fact_5 ++ dktX4_fact_6
def dkwX4_fact_4 : List UInt8 := [180, 0, 42, 182, 0, 76, 42, 89, 180, 0, 87, 4, 100, 181, 0, 87, 45, 176, 42, 182, 0, 195, 78, 42]
abbrev dktX4_fact_4 : List UInt8 := dkwX4_fact_4 ++ dktX4_fact_5
def dkwX4_fact_3 : List UInt8 := [180, 0, 42, 4, 96, 181, 0, 42, 42, 182, 0, 207, 78, 42, 42, 16, 93, 182, 0, 186, 3, 42]
abbrev dktX4_fact_3 : List UInt8 := dkwX4_fact_3 ++ dktX4_fact_4
def dkwX4_fact_2 : List UInt8 := [180, 0, 87, 4, 100, 181, 0, 87, 45, 176, 27, 16, 91, 160, 0, 50, 42, 28, 182, 0, 247, 42, 89]
abbrev dktX4_fact_2 : List UInt8 := dkwX4_fact_2 ++ dktX4_fact_3
def dkwX4_fact_1 : List UInt8 := [42, 89, 180, 0, 42, 6, 96, 181, 0, 42, 187, 0, 250, 89, 42, 182, 0, 240, 183, 0, 252, 78, 42, 89]
abbrev dktX4_fact_1 : List UInt8 := dkwX4_fact_1 ++ dktX4_fact_2
def dkwX4_fact_0 : List UInt8 := [42, 182, 0, 52, 60, 42, 180, 0, 42, 61, 42, 18, 245, 182, 0, 68, 153, 0, 42, 42, 28, 182, 0, 247]
abbrev dktX4_fact_0 : List UInt8 := dkwX4_fact_0 ++ dktX4_fact_1
theorem dksX4_fact_0 : cX4_fact.data.toList.drop 0 = dktX4_fact_0 := by decide +kernel
theorem dksX4_fact_1 : cX4_fact.data.toList.drop 24 = dktX4_fact_1 := dk_seg dksX4_fact_0 24 rfl rfl
theorem dksX4_fact_2 : cX4_fact.data.toList.drop 48 = dktX4_fact_2 := dk_seg dksX4_fact_1 24 rfl rfl
theorem dksX4_fact_3 : cX4_fact.data.toList.drop 71 = dktX4_fact_3 := dk_seg dksX4_fact_2 23 rfl rfl
theorem dksX4_fact_4 : cX4_fact.data.toList.drop 93 = dktX4_fact_4 := dk_seg dksX4_fact_3 22 rfl rfl
theorem dksX4_fact_5 : cX4_fact.data.toList.drop 117 = dktX4_fact_5 := dk_seg dksX4_fact_4 24 rfl rfl
theorem dksX4_fact_6 : cX4_fact.data.toList.drop 139 = dktX4_fact_6 := dk_seg dksX4_fact_5 22 rfl rfl
theorem dX4_fact_0 : decode cX4_fact 0 = .ok (.aload_n 0, 1) := dk_42 (dk_at dksX4_fact_0 0 rfl rfl)
theorem dX4_fact_1 : decode cX4_fact 1 = .ok (.invokevirtual 52, 3) := dk_182 0 52 (dk_at dksX4_fact_0 1 rfl rfl)
theorem dX4_fact_4 : decode cX4_fact 4 = .ok (.istore_n 1, 1) := dk_60 (dk_at dksX4_fact_0 4 rfl rfl)
theorem dX4_fact_5 : decode cX4_fact 5 = .ok (.aload_n 0, 1) := dk_42 (dk_at dksX4_fact_0 5 rfl rfl)
theorem dX4_fact_6 : decode cX4_fact 6 = .ok (.getfield 42, 3) := dk_180 0 42 (dk_at dksX4_fact_0 6 rfl rfl)
theorem dX4_fact_9 : decode cX4_fact 9 = .ok (.istore_n 2, 1) := dk_61 (dk_at dksX4_fact_0 9 rfl rfl)
theorem dX4_fact_10 : decode cX4_fact 10 = .ok (.aload_n 0, 1) := dk_42 (dk_at dksX4_fact_0 10 rfl rfl)
theorem dX4_fact_11 : decode cX4_fact 11 = .ok (.ldc 245, 2) := dk_18 245 (dk_at dksX4_fact_0 11 rfl rfl)
theorem dX4_fact_13 : decode cX4_fact 13 = .ok (.invokevirtual 68, 3) := dk_182 0 68 (dk_at dksX4_fact_0 13 rfl rfl)
theorem dX4_fact_16 : decode cX4_fact 16 = .ok (.ifCond .eq 42, 3) := dk_153 0 42 (dk_at dksX4_fact_0 16 rfl rfl)
theorem dX4_fact_19 : decode cX4_fact 19 = .ok (.aload_n 0, 1) := dk_42 (dk_at dksX4_fact_0 19 rfl rfl)
theorem dX4_fact_20 : decode cX4_fact 20 = .ok (.iload_n 2, 1) := dk_28 (dk_at dksX4_fact_0 20 rfl rfl)
theorem dX4_fact_21 : decode cX4_fact 21 = .ok (.invokevirtual 247, 3) := dk_182 0 247 (dk_at dksX4_fact_0 21 rfl rfl)
theorem dX4_fact_24 : decode cX4_fact 24 = .ok (.aload_n 0, 1) := dk_42 (dk_at dksX4_fact_1 0 rfl rfl)
theorem dX4_fact_25 : decode cX4_fact 25 = .ok (.dup, 1) := dk_89 (dk_at dksX4_fact_1 1 rfl rfl)
theorem dX4_fact_26 : decode cX4_fact 26 = .ok (.getfield 42, 3) := dk_180 0 42 (dk_at dksX4_fact_1 2 rfl rfl)
theorem dX4_fact_29 : decode cX4_fact 29 = .ok (.iconst 3, 1) := dk_6 (dk_at dksX4_fact_1 5 rfl rfl)
theorem dX4_fact_30 : decode cX4_fact 30 = .ok (.iadd, 1) := dk_96 (dk_at dksX4_fact_1 6 rfl rfl)
theorem dX4_fact_31 : decode cX4_fact 31 = .ok (.putfield 42, 3) := dk_181 0 42 (dk_at dksX4_fact_1 7 rfl rfl)
theorem dX4_fact_34 : decode cX4_fact 34 = .ok (.new 250, 3) := dk_187 0 250 (dk_at dksX4_fact_1 10 rfl rfl)
theorem dX4_fact_37 : decode cX4_fact 37 = .ok (.dup, 1) := dk_89 (dk_at dksX4_fact_1 13 rfl rfl)
theorem dX4_fact_38 : decode cX4_fact 38 = .ok (.aload_n 0, 1) := dk_42 (dk_at dksX4_fact_1 14 rfl rfl)
theorem dX4_fact_39 : decode cX4_fact 39 = .ok (.invokevirtual 240, 3) := dk_182 0 240 (dk_at dksX4_fact_1 15 rfl rfl)
theorem dX4_fact_42 : decode cX4_fact 42 = .ok (.invokespecial 252, 3) := dk_183 0 252 (dk_at dksX4_fact_1 18 rfl rfl)
theorem dX4_fact_45 : decode cX4_fact 45 = .ok (.astore_n 3, 1) := dk_78 (dk_at dksX4_fact_1 21 rfl rfl)
theorem dX4_fact_46 : decode cX4_fact 46 = .ok (.aload_n 0, 1) := dk_42 (dk_at dksX4_fact_1 22 rfl rfl)
theorem dX4_fact_47 : decode cX4_fact 47 = .ok (.dup, 1) := dk_89 (dk_at dksX4_fact_1 23 rfl rfl)
theorem dX4_fact_48 : decode cX4_fact 48 = .ok (.getfield 87, 3) := dk_180 0 87 (dk_at dksX4_fact_2 0 rfl rfl)
theorem dX4_fact_51 : decode cX4_fact 51 = .ok (.iconst 1, 1) := dk_4 (dk_at dksX4_fact_2 3 rfl rfl)
theorem dX4_fact_52 : decode cX4_fact 52 = .ok (.isub, 1) := dk_100 (dk_at dksX4_fact_2 4 rfl rfl)
theorem dX4_fact_53 : decode cX4_fact 53 = .ok (.putfield 87, 3) := dk_181 0 87 (dk_at dksX4_fact_2 5 rfl rfl)
theorem dX4_fact_56 : decode cX4_fact 56 = .ok (.aload_n 3, 1) := dk_45 (dk_at dksX4_fact_2 8 rfl rfl)
theorem dX4_fact_57 : decode cX4_fact 57 = .ok (.areturn, 1) := dk_176 (dk_at dksX4_fact_2 9 rfl rfl)
theorem dX4_fact_58 : decode cX4_fact 58 = .ok (.iload_n 1, 1) := dk_27 (dk_at dksX4_fact_2 10 rfl rfl)
theorem dX4_fact_59 : decode cX4_fact 59 = .ok (.bipush 91, 2) := dk_16 91 (dk_at dksX4_fact_2 11 rfl rfl)
theorem dX4_fact_61 : decode cX4_fact 61 = .ok (.if_icmp .ne 50, 3) := dk_160 0 50 (dk_at dksX4_fact_2 13 rfl rfl)
theorem dX4_fact_64 : decode cX4_fact 64 = .ok (.aload_n 0, 1) := dk_42 (dk_at dksX4_fact_2 16 rfl rfl)
theorem dX4_fact_65 : decode cX4_fact 65 = .ok (.iload_n 2, 1) := dk_28 (dk_at dksX4_fact_2 17 rfl rfl)
theorem dX4_fact_66 : decode cX4_fact 66 = .ok (.invokevirtual 247, 3) := dk_182 0 247 (dk_at dksX4_fact_2 18 rfl rfl)
theorem dX4_fact_69 : decode cX4_fact 69 = .ok (.aload_n 0, 1) := dk_42 (dk_at dksX4_fact_2 21 rfl rfl)
theorem dX4_fact_70 : decode cX4_fact 70 = .ok (.dup, 1) := dk_89 (dk_at dksX4_fact_2 22 rfl rfl)
theorem dX4_fact_71 : decode cX4_fact 71 = .ok (.getfield 42, 3) := dk_180 0 42 (dk_at dksX4_fact_3 0 rfl rfl)
theorem dX4_fact_74 : decode cX4_fact 74 = .ok (.iconst 1, 1) := dk_4 (dk_at dksX4_fact_3 3 rfl rfl)
theorem dX4_fact_75 : decode cX4_fact 75 = .ok (.iadd, 1) := dk_96 (dk_at dksX4_fact_3 4 rfl rfl)
theorem dX4_fact_76 : decode cX4_fact 76 = .ok (.putfield 42, 3) := dk_181 0 42 (dk_at dksX4_fact_3 5 rfl rfl)
theorem dX4_fact_79 : decode cX4_fact 79 = .ok (.aload_n 0, 1) := dk_42 (dk_at dksX4_fact_3 8 rfl rfl)
theorem dX4_fact_80 : decode cX4_fact 80 = .ok (.invokevirtual 207, 3) := dk_182 0 207 (dk_at dksX4_fact_3 9 rfl rfl)
theorem dX4_fact_83 : decode cX4_fact 83 = .ok (.astore_n 3, 1) := dk_78 (dk_at dksX4_fact_3 12 rfl rfl)
theorem dX4_fact_84 : decode cX4_fact 84 = .ok (.aload_n 0, 1) := dk_42 (dk_at dksX4_fact_3 13 rfl rfl)
theorem dX4_fact_85 : decode cX4_fact 85 = .ok (.aload_n 0, 1) := dk_42 (dk_at dksX4_fact_3 14 rfl rfl)
theorem dX4_fact_86 : decode cX4_fact 86 = .ok (.bipush 93, 2) := dk_16 93 (dk_at dksX4_fact_3 15 rfl rfl)
theorem dX4_fact_88 : decode cX4_fact 88 = .ok (.invokevirtual 186, 3) := dk_182 0 186 (dk_at dksX4_fact_3 17 rfl rfl)
theorem dX4_fact_91 : decode cX4_fact 91 = .ok (.iconst 0, 1) := dk_3 (dk_at dksX4_fact_3 20 rfl rfl)
theorem dX4_fact_92 : decode cX4_fact 92 = .ok (.aload_n 0, 1) := dk_42 (dk_at dksX4_fact_3 21 rfl rfl)
theorem dX4_fact_93 : decode cX4_fact 93 = .ok (.getfield 42, 3) := dk_180 0 42 (dk_at dksX4_fact_4 0 rfl rfl)
theorem dX4_fact_96 : decode cX4_fact 96 = .ok (.invokevirtual 76, 3) := dk_182 0 76 (dk_at dksX4_fact_4 3 rfl rfl)
theorem dX4_fact_99 : decode cX4_fact 99 = .ok (.aload_n 0, 1) := dk_42 (dk_at dksX4_fact_4 6 rfl rfl)
theorem dX4_fact_100 : decode cX4_fact 100 = .ok (.dup, 1) := dk_89 (dk_at dksX4_fact_4 7 rfl rfl)
theorem dX4_fact_101 : decode cX4_fact 101 = .ok (.getfield 87, 3) := dk_180 0 87 (dk_at dksX4_fact_4 8 rfl rfl)
theorem dX4_fact_104 : decode cX4_fact 104 = .ok (.iconst 1, 1) := dk_4 (dk_at dksX4_fact_4 11 rfl rfl)
theorem dX4_fact_105 : decode cX4_fact 105 = .ok (.isub, 1) := dk_100 (dk_at dksX4_fact_4 12 rfl rfl)
theorem dX4_fact_106 : decode cX4_fact 106 = .ok (.putfield 87, 3) := dk_181 0 87 (dk_at dksX4_fact_4 13 rfl rfl)
theorem dX4_fact_109 : decode cX4_fact 109 = .ok (.aload_n 3, 1) := dk_45 (dk_at dksX4_fact_4 16 rfl rfl)
theorem dX4_fact_110 : decode cX4_fact 110 = .ok (.areturn, 1) := dk_176 (dk_at dksX4_fact_4 17 rfl rfl)
theorem dX4_fact_111 : decode cX4_fact 111 = .ok (.aload_n 0, 1) := dk_42 (dk_at dksX4_fact_4 18 rfl rfl)
theorem dX4_fact_112 : decode cX4_fact 112 = .ok (.invokevirtual 195, 3) := dk_182 0 195 (dk_at dksX4_fact_4 19 rfl rfl)
theorem dX4_fact_115 : decode cX4_fact 115 = .ok (.astore_n 3, 1) := dk_78 (dk_at dksX4_fact_4 22 rfl rfl)
theorem dX4_fact_116 : decode cX4_fact 116 = .ok (.aload_n 0, 1) := dk_42 (dk_at dksX4_fact_4 23 rfl rfl)
theorem dX4_fact_117 : decode cX4_fact 117 = .ok (.invokevirtual 52, 3) := dk_182 0 52 (dk_at dksX4_fact_5 0 rfl rfl)
theorem dX4_fact_120 : decode cX4_fact 120 = .ok (.pop, 1) := dk_87 (dk_at dksX4_fact_5 3 rfl rfl)
theorem dX4_fact_121 : decode cX4_fact 121 = .ok (.aload_n 0, 1) := dk_42 (dk_at dksX4_fact_5 4 rfl rfl)
theorem dX4_fact_122 : decode cX4_fact 122 = .ok (.getfield 42, 3) := dk_180 0 42 (dk_at dksX4_fact_5 5 rfl rfl)
theorem dX4_fact_125 : decode cX4_fact 125 = .ok (.istore 4, 2) := dk_54 4 (dk_at dksX4_fact_5 8 rfl rfl)
theorem dX4_fact_127 : decode cX4_fact 127 = .ok (.aload_n 0, 1) := dk_42 (dk_at dksX4_fact_5 10 rfl rfl)
theorem dX4_fact_128 : decode cX4_fact 128 = .ok (.invokevirtual 255, 3) := dk_182 0 255 (dk_at dksX4_fact_5 11 rfl rfl)
theorem dX4_fact_131 : decode cX4_fact 131 = .ok (.istore 5, 2) := dk_54 5 (dk_at dksX4_fact_5 14 rfl rfl)
theorem dX4_fact_133 : decode cX4_fact 133 = .ok (.aload_n 0, 1) := dk_42 (dk_at dksX4_fact_5 16 rfl rfl)
theorem dX4_fact_134 : decode cX4_fact 134 = .ok (.iload 4, 2) := dk_21 4 (dk_at dksX4_fact_5 17 rfl rfl)
theorem dX4_fact_136 : decode cX4_fact 136 = .ok (.invokevirtual 258, 3) := dk_182 1 2 (dk_at dksX4_fact_5 19 rfl rfl)
theorem dX4_fact_139 : decode cX4_fact 139 = .ok (.new 261, 3) := dk_187 1 5 (dk_at dksX4_fact_6 0 rfl rfl)
theorem dX4_fact_142 : decode cX4_fact 142 = .ok (.dup, 1) := dk_89 (dk_at dksX4_fact_6 3 rfl rfl)
theorem dX4_fact_143 : decode cX4_fact 143 = .ok (.aload_n 3, 1) := dk_45 (dk_at dksX4_fact_6 4 rfl rfl)
theorem dX4_fact_144 : decode cX4_fact 144 = .ok (.iload 5, 2) := dk_21 5 (dk_at dksX4_fact_6 5 rfl rfl)
theorem dX4_fact_146 : decode cX4_fact 146 = .ok (.aload_n 0, 1) := dk_42 (dk_at dksX4_fact_6 7 rfl rfl)
theorem dX4_fact_147 : decode cX4_fact 147 = .ok (.invokevirtual 195, 3) := dk_182 0 195 (dk_at dksX4_fact_6 8 rfl rfl)
theorem dX4_fact_150 : decode cX4_fact 150 = .ok (.invokespecial 263, 3) := dk_183 1 7 (dk_at dksX4_fact_6 11 rfl rfl)
theorem dX4_fact_153 : decode cX4_fact 153 = .ok (.areturn, 1) := dk_176 (dk_at dksX4_fact_6 14 rfl rfl)
abbrev cX4_opens : ByteArray := prog_13_method_12_code
def yX4_opens : MethodName := ⟨RX4, "opens", "(I)V"⟩
def dkwX4_opens_1 : List UInt8 := [180, 0, 87, 4, 96, 181, 0, 87, 177]
abbrev dktX4_opens_1 : List UInt8 := dkwX4_opens_1 ++ []
def dkwX4_opens_0 : List UInt8 := [42, 42, 180, 0, 87, 16, 10, 162, 0, 7, 4, 167, 0, 4, 3, 5, 27, 182, 0, 76, 42, 89]
abbrev dktX4_opens_0 : List UInt8 := dkwX4_opens_0 ++ dktX4_opens_1
theorem dksX4_opens_0 : cX4_opens.data.toList.drop 0 = dktX4_opens_0 := by decide +kernel
theorem dksX4_opens_1 : cX4_opens.data.toList.drop 22 = dktX4_opens_1 := dk_seg dksX4_opens_0 22 rfl rfl
theorem dX4_opens_0 : decode cX4_opens 0 = .ok (.aload_n 0, 1) := dk_42 (dk_at dksX4_opens_0 0 rfl rfl)
theorem dX4_opens_1 : decode cX4_opens 1 = .ok (.aload_n 0, 1) := dk_42 (dk_at dksX4_opens_0 1 rfl rfl)
theorem dX4_opens_2 : decode cX4_opens 2 = .ok (.getfield 87, 3) := dk_180 0 87 (dk_at dksX4_opens_0 2 rfl rfl)
theorem dX4_opens_5 : decode cX4_opens 5 = .ok (.bipush 10, 2) := dk_16 10 (dk_at dksX4_opens_0 5 rfl rfl)
theorem dX4_opens_7 : decode cX4_opens 7 = .ok (.if_icmp .ge 7, 3) := dk_162 0 7 (dk_at dksX4_opens_0 7 rfl rfl)
theorem dX4_opens_10 : decode cX4_opens 10 = .ok (.iconst 1, 1) := dk_4 (dk_at dksX4_opens_0 10 rfl rfl)
theorem dX4_opens_11 : decode cX4_opens 11 = .ok (.goto 4, 3) := dk_167 0 4 (dk_at dksX4_opens_0 11 rfl rfl)
theorem dX4_opens_14 : decode cX4_opens 14 = .ok (.iconst 0, 1) := dk_3 (dk_at dksX4_opens_0 14 rfl rfl)
theorem dX4_opens_15 : decode cX4_opens 15 = .ok (.iconst 2, 1) := dk_5 (dk_at dksX4_opens_0 15 rfl rfl)
theorem dX4_opens_16 : decode cX4_opens 16 = .ok (.iload_n 1, 1) := dk_27 (dk_at dksX4_opens_0 16 rfl rfl)
theorem dX4_opens_17 : decode cX4_opens 17 = .ok (.invokevirtual 76, 3) := dk_182 0 76 (dk_at dksX4_opens_0 17 rfl rfl)
theorem dX4_opens_20 : decode cX4_opens 20 = .ok (.aload_n 0, 1) := dk_42 (dk_at dksX4_opens_0 20 rfl rfl)
theorem dX4_opens_21 : decode cX4_opens 21 = .ok (.dup, 1) := dk_89 (dk_at dksX4_opens_0 21 rfl rfl)
theorem dX4_opens_22 : decode cX4_opens 22 = .ok (.getfield 87, 3) := dk_180 0 87 (dk_at dksX4_opens_1 0 rfl rfl)
theorem dX4_opens_25 : decode cX4_opens 25 = .ok (.iconst 1, 1) := dk_4 (dk_at dksX4_opens_1 3 rfl rfl)
theorem dX4_opens_26 : decode cX4_opens 26 = .ok (.iadd, 1) := dk_96 (dk_at dksX4_opens_1 4 rfl rfl)
theorem dX4_opens_27 : decode cX4_opens 27 = .ok (.putfield 87, 3) := dk_181 0 87 (dk_at dksX4_opens_1 5 rfl rfl)
theorem dX4_opens_30 : decode cX4_opens 30 = .ok (.return_, 1) := dk_177 (dk_at dksX4_opens_1 8 rfl rfl)
abbrev cX4_sign : ByteArray := prog_13_method_26_code
def yX4_sign : MethodName := ⟨RX4, "sign", "()I"⟩
def dkwX4_sign_5 : List UInt8 := [167, 0, 16, 3, 167, 0, 12, 28, 153, 0, 7, 6, 167, 0, 4, 7, 172]
abbrev dktX4_sign_5 : List UInt8 := dkwX4_sign_5 ++ []
def dkwX4_sign_4 : List UInt8 := [153, 0, 13, 42, 89, 180, 0, 42, 4, 96, 181, 0, 42, 27, 16, 60, 160, 0, 15, 28, 153, 0, 7, 4]
abbrev dktX4_sign_4 : List UInt8 := dkwX4_sign_4 ++ dktX4_sign_5
def dkwX4_sign_3 : List UInt8 := [180, 0, 3, 180, 0, 48, 42, 180, 0, 42, 51, 16, 61, 160, 0, 7, 4, 167, 0, 4, 3, 61, 28]
abbrev dktX4_sign_3 : List UInt8 := dkwX4_sign_3 ++ dktX4_sign_4
def dkwX4_sign_2 : List UInt8 := [16, 61, 160, 0, 5, 5, 172, 42, 180, 0, 42, 42, 180, 0, 3, 180, 0, 45, 162, 0, 24, 42]
abbrev dktX4_sign_2 : List UInt8 := dkwX4_sign_2 ++ dktX4_sign_3
def dkwX4_sign_1 : List UInt8 := [4, 167, 0, 4, 3, 3, 42, 180, 0, 42, 182, 0, 76, 42, 89, 180, 0, 42, 4, 96, 181, 0, 42, 27]
abbrev dktX4_sign_1 : List UInt8 := dkwX4_sign_1 ++ dktX4_sign_2
def dkwX4_sign_0 : List UInt8 := [42, 182, 0, 52, 60, 42, 27, 16, 60, 159, 0, 15, 27, 16, 61, 159, 0, 9, 27, 16, 62, 160, 0, 7]
abbrev dktX4_sign_0 : List UInt8 := dkwX4_sign_0 ++ dktX4_sign_1
theorem dksX4_sign_0 : cX4_sign.data.toList.drop 0 = dktX4_sign_0 := by decide +kernel
theorem dksX4_sign_1 : cX4_sign.data.toList.drop 24 = dktX4_sign_1 := dk_seg dksX4_sign_0 24 rfl rfl
theorem dksX4_sign_2 : cX4_sign.data.toList.drop 48 = dktX4_sign_2 := dk_seg dksX4_sign_1 24 rfl rfl
theorem dksX4_sign_3 : cX4_sign.data.toList.drop 70 = dktX4_sign_3 := dk_seg dksX4_sign_2 22 rfl rfl
theorem dksX4_sign_4 : cX4_sign.data.toList.drop 93 = dktX4_sign_4 := dk_seg dksX4_sign_3 23 rfl rfl
theorem dksX4_sign_5 : cX4_sign.data.toList.drop 117 = dktX4_sign_5 := dk_seg dksX4_sign_4 24 rfl rfl
theorem dX4_sign_0 : decode cX4_sign 0 = .ok (.aload_n 0, 1) := dk_42 (dk_at dksX4_sign_0 0 rfl rfl)
theorem dX4_sign_1 : decode cX4_sign 1 = .ok (.invokevirtual 52, 3) := dk_182 0 52 (dk_at dksX4_sign_0 1 rfl rfl)
theorem dX4_sign_4 : decode cX4_sign 4 = .ok (.istore_n 1, 1) := dk_60 (dk_at dksX4_sign_0 4 rfl rfl)
theorem dX4_sign_5 : decode cX4_sign 5 = .ok (.aload_n 0, 1) := dk_42 (dk_at dksX4_sign_0 5 rfl rfl)
theorem dX4_sign_6 : decode cX4_sign 6 = .ok (.iload_n 1, 1) := dk_27 (dk_at dksX4_sign_0 6 rfl rfl)
theorem dX4_sign_7 : decode cX4_sign 7 = .ok (.bipush 60, 2) := dk_16 60 (dk_at dksX4_sign_0 7 rfl rfl)
theorem dX4_sign_9 : decode cX4_sign 9 = .ok (.if_icmp .eq 15, 3) := dk_159 0 15 (dk_at dksX4_sign_0 9 rfl rfl)
theorem dX4_sign_12 : decode cX4_sign 12 = .ok (.iload_n 1, 1) := dk_27 (dk_at dksX4_sign_0 12 rfl rfl)
theorem dX4_sign_13 : decode cX4_sign 13 = .ok (.bipush 61, 2) := dk_16 61 (dk_at dksX4_sign_0 13 rfl rfl)
theorem dX4_sign_15 : decode cX4_sign 15 = .ok (.if_icmp .eq 9, 3) := dk_159 0 9 (dk_at dksX4_sign_0 15 rfl rfl)
theorem dX4_sign_18 : decode cX4_sign 18 = .ok (.iload_n 1, 1) := dk_27 (dk_at dksX4_sign_0 18 rfl rfl)
theorem dX4_sign_19 : decode cX4_sign 19 = .ok (.bipush 62, 2) := dk_16 62 (dk_at dksX4_sign_0 19 rfl rfl)
theorem dX4_sign_21 : decode cX4_sign 21 = .ok (.if_icmp .ne 7, 3) := dk_160 0 7 (dk_at dksX4_sign_0 21 rfl rfl)
theorem dX4_sign_24 : decode cX4_sign 24 = .ok (.iconst 1, 1) := dk_4 (dk_at dksX4_sign_1 0 rfl rfl)
theorem dX4_sign_25 : decode cX4_sign 25 = .ok (.goto 4, 3) := dk_167 0 4 (dk_at dksX4_sign_1 1 rfl rfl)
theorem dX4_sign_28 : decode cX4_sign 28 = .ok (.iconst 0, 1) := dk_3 (dk_at dksX4_sign_1 4 rfl rfl)
theorem dX4_sign_29 : decode cX4_sign 29 = .ok (.iconst 0, 1) := dk_3 (dk_at dksX4_sign_1 5 rfl rfl)
theorem dX4_sign_30 : decode cX4_sign 30 = .ok (.aload_n 0, 1) := dk_42 (dk_at dksX4_sign_1 6 rfl rfl)
theorem dX4_sign_31 : decode cX4_sign 31 = .ok (.getfield 42, 3) := dk_180 0 42 (dk_at dksX4_sign_1 7 rfl rfl)
theorem dX4_sign_34 : decode cX4_sign 34 = .ok (.invokevirtual 76, 3) := dk_182 0 76 (dk_at dksX4_sign_1 10 rfl rfl)
theorem dX4_sign_37 : decode cX4_sign 37 = .ok (.aload_n 0, 1) := dk_42 (dk_at dksX4_sign_1 13 rfl rfl)
theorem dX4_sign_38 : decode cX4_sign 38 = .ok (.dup, 1) := dk_89 (dk_at dksX4_sign_1 14 rfl rfl)
theorem dX4_sign_39 : decode cX4_sign 39 = .ok (.getfield 42, 3) := dk_180 0 42 (dk_at dksX4_sign_1 15 rfl rfl)
theorem dX4_sign_42 : decode cX4_sign 42 = .ok (.iconst 1, 1) := dk_4 (dk_at dksX4_sign_1 18 rfl rfl)
theorem dX4_sign_43 : decode cX4_sign 43 = .ok (.iadd, 1) := dk_96 (dk_at dksX4_sign_1 19 rfl rfl)
theorem dX4_sign_44 : decode cX4_sign 44 = .ok (.putfield 42, 3) := dk_181 0 42 (dk_at dksX4_sign_1 20 rfl rfl)
theorem dX4_sign_47 : decode cX4_sign 47 = .ok (.iload_n 1, 1) := dk_27 (dk_at dksX4_sign_1 23 rfl rfl)
theorem dX4_sign_48 : decode cX4_sign 48 = .ok (.bipush 61, 2) := dk_16 61 (dk_at dksX4_sign_2 0 rfl rfl)
theorem dX4_sign_50 : decode cX4_sign 50 = .ok (.if_icmp .ne 5, 3) := dk_160 0 5 (dk_at dksX4_sign_2 2 rfl rfl)
theorem dX4_sign_53 : decode cX4_sign 53 = .ok (.iconst 2, 1) := dk_5 (dk_at dksX4_sign_2 5 rfl rfl)
theorem dX4_sign_54 : decode cX4_sign 54 = .ok (.ireturn, 1) := dk_172 (dk_at dksX4_sign_2 6 rfl rfl)
theorem dX4_sign_55 : decode cX4_sign 55 = .ok (.aload_n 0, 1) := dk_42 (dk_at dksX4_sign_2 7 rfl rfl)
theorem dX4_sign_56 : decode cX4_sign 56 = .ok (.getfield 42, 3) := dk_180 0 42 (dk_at dksX4_sign_2 8 rfl rfl)
theorem dX4_sign_59 : decode cX4_sign 59 = .ok (.aload_n 0, 1) := dk_42 (dk_at dksX4_sign_2 11 rfl rfl)
theorem dX4_sign_60 : decode cX4_sign 60 = .ok (.getfield 3, 3) := dk_180 0 3 (dk_at dksX4_sign_2 12 rfl rfl)
theorem dX4_sign_63 : decode cX4_sign 63 = .ok (.getfield 45, 3) := dk_180 0 45 (dk_at dksX4_sign_2 15 rfl rfl)
theorem dX4_sign_66 : decode cX4_sign 66 = .ok (.if_icmp .ge 24, 3) := dk_162 0 24 (dk_at dksX4_sign_2 18 rfl rfl)
theorem dX4_sign_69 : decode cX4_sign 69 = .ok (.aload_n 0, 1) := dk_42 (dk_at dksX4_sign_2 21 rfl rfl)
theorem dX4_sign_70 : decode cX4_sign 70 = .ok (.getfield 3, 3) := dk_180 0 3 (dk_at dksX4_sign_3 0 rfl rfl)
theorem dX4_sign_73 : decode cX4_sign 73 = .ok (.getfield 48, 3) := dk_180 0 48 (dk_at dksX4_sign_3 3 rfl rfl)
theorem dX4_sign_76 : decode cX4_sign 76 = .ok (.aload_n 0, 1) := dk_42 (dk_at dksX4_sign_3 6 rfl rfl)
theorem dX4_sign_77 : decode cX4_sign 77 = .ok (.getfield 42, 3) := dk_180 0 42 (dk_at dksX4_sign_3 7 rfl rfl)
theorem dX4_sign_80 : decode cX4_sign 80 = .ok (.baload, 1) := dk_51 (dk_at dksX4_sign_3 10 rfl rfl)
theorem dX4_sign_81 : decode cX4_sign 81 = .ok (.bipush 61, 2) := dk_16 61 (dk_at dksX4_sign_3 11 rfl rfl)
theorem dX4_sign_83 : decode cX4_sign 83 = .ok (.if_icmp .ne 7, 3) := dk_160 0 7 (dk_at dksX4_sign_3 13 rfl rfl)
theorem dX4_sign_86 : decode cX4_sign 86 = .ok (.iconst 1, 1) := dk_4 (dk_at dksX4_sign_3 16 rfl rfl)
theorem dX4_sign_87 : decode cX4_sign 87 = .ok (.goto 4, 3) := dk_167 0 4 (dk_at dksX4_sign_3 17 rfl rfl)
theorem dX4_sign_90 : decode cX4_sign 90 = .ok (.iconst 0, 1) := dk_3 (dk_at dksX4_sign_3 20 rfl rfl)
theorem dX4_sign_91 : decode cX4_sign 91 = .ok (.istore_n 2, 1) := dk_61 (dk_at dksX4_sign_3 21 rfl rfl)
theorem dX4_sign_92 : decode cX4_sign 92 = .ok (.iload_n 2, 1) := dk_28 (dk_at dksX4_sign_3 22 rfl rfl)
theorem dX4_sign_93 : decode cX4_sign 93 = .ok (.ifCond .eq 13, 3) := dk_153 0 13 (dk_at dksX4_sign_4 0 rfl rfl)
theorem dX4_sign_96 : decode cX4_sign 96 = .ok (.aload_n 0, 1) := dk_42 (dk_at dksX4_sign_4 3 rfl rfl)
theorem dX4_sign_97 : decode cX4_sign 97 = .ok (.dup, 1) := dk_89 (dk_at dksX4_sign_4 4 rfl rfl)
theorem dX4_sign_98 : decode cX4_sign 98 = .ok (.getfield 42, 3) := dk_180 0 42 (dk_at dksX4_sign_4 5 rfl rfl)
theorem dX4_sign_101 : decode cX4_sign 101 = .ok (.iconst 1, 1) := dk_4 (dk_at dksX4_sign_4 8 rfl rfl)
theorem dX4_sign_102 : decode cX4_sign 102 = .ok (.iadd, 1) := dk_96 (dk_at dksX4_sign_4 9 rfl rfl)
theorem dX4_sign_103 : decode cX4_sign 103 = .ok (.putfield 42, 3) := dk_181 0 42 (dk_at dksX4_sign_4 10 rfl rfl)
theorem dX4_sign_106 : decode cX4_sign 106 = .ok (.iload_n 1, 1) := dk_27 (dk_at dksX4_sign_4 13 rfl rfl)
theorem dX4_sign_107 : decode cX4_sign 107 = .ok (.bipush 60, 2) := dk_16 60 (dk_at dksX4_sign_4 14 rfl rfl)
theorem dX4_sign_109 : decode cX4_sign 109 = .ok (.if_icmp .ne 15, 3) := dk_160 0 15 (dk_at dksX4_sign_4 16 rfl rfl)
theorem dX4_sign_112 : decode cX4_sign 112 = .ok (.iload_n 2, 1) := dk_28 (dk_at dksX4_sign_4 19 rfl rfl)
theorem dX4_sign_113 : decode cX4_sign 113 = .ok (.ifCond .eq 7, 3) := dk_153 0 7 (dk_at dksX4_sign_4 20 rfl rfl)
theorem dX4_sign_116 : decode cX4_sign 116 = .ok (.iconst 1, 1) := dk_4 (dk_at dksX4_sign_4 23 rfl rfl)
theorem dX4_sign_117 : decode cX4_sign 117 = .ok (.goto 16, 3) := dk_167 0 16 (dk_at dksX4_sign_5 0 rfl rfl)
theorem dX4_sign_120 : decode cX4_sign 120 = .ok (.iconst 0, 1) := dk_3 (dk_at dksX4_sign_5 3 rfl rfl)
theorem dX4_sign_121 : decode cX4_sign 121 = .ok (.goto 12, 3) := dk_167 0 12 (dk_at dksX4_sign_5 4 rfl rfl)
theorem dX4_sign_124 : decode cX4_sign 124 = .ok (.iload_n 2, 1) := dk_28 (dk_at dksX4_sign_5 7 rfl rfl)
theorem dX4_sign_125 : decode cX4_sign 125 = .ok (.ifCond .eq 7, 3) := dk_153 0 7 (dk_at dksX4_sign_5 8 rfl rfl)
theorem dX4_sign_128 : decode cX4_sign 128 = .ok (.iconst 3, 1) := dk_6 (dk_at dksX4_sign_5 11 rfl rfl)
theorem dX4_sign_129 : decode cX4_sign 129 = .ok (.goto 4, 3) := dk_167 0 4 (dk_at dksX4_sign_5 12 rfl rfl)
theorem dX4_sign_132 : decode cX4_sign 132 = .ok (.iconst 4, 1) := dk_7 (dk_at dksX4_sign_5 15 rfl rfl)
theorem dX4_sign_133 : decode cX4_sign 133 = .ok (.ireturn, 1) := dk_172 (dk_at dksX4_sign_5 16 rfl rfl)
theorem q145 : (Jvm.Cond.initialized "PartyRaft$Text") ∈ lw_all := lw_g (lw_at lw_m1 8 rfl) rfl
theorem q179 : (Jvm.Cond.fieldLinkNest "PartyRaft$Text" (93 : Nat) "PartyRaft$Flow" "miles" "I" "PartyRaft") ∈ lw_tbl := lw_at lw_m1 42 rfl
theorem q183 : (Jvm.Cond.fieldLinkNest "PartyRaft$Text" (98 : Nat) "PartyRaft$Flow" "ownerMany" "I" "PartyRaft") ∈ lw_tbl := lw_at lw_m1 46 rfl
theorem q186 : (Jvm.Cond.fieldLinkNest "PartyRaft$Text" (101 : Nat) "PartyRaft$Flow" "thingMany" "I" "PartyRaft") ∈ lw_tbl := lw_at lw_m1 49 rfl
theorem q188 : (Jvm.Cond.fieldLinkNest "PartyRaft$Text" (107 : Nat) "PartyRaft$Flow" "rapidMany" "I" "PartyRaft") ∈ lw_tbl := lw_at lw_m1 51 rfl
theorem q191 : (Jvm.Cond.fieldLinkNest "PartyRaft$Text" (150 : Nat) "PartyRaft$Flow" "store" "I" "PartyRaft") ∈ lw_tbl := lw_at lw_m1 54 rfl
theorem q194 : (Jvm.Cond.fieldLinkNest "PartyRaft$Text" (104 : Nat) "PartyRaft$Flow" "ropeMany" "I" "PartyRaft") ∈ lw_tbl := lw_at lw_m1 57 rfl
theorem q204 : (Jvm.Cond.fieldLinkNest "PartyRaft$Text" (110 : Nat) "PartyRaft$Flow" "landing" "[I" "PartyRaft") ∈ lw_tbl := lw_at lw_m1 67 rfl
theorem q207 : (Jvm.Cond.fieldLinkNest "PartyRaft$Text" (118 : Nat) "PartyRaft$Flow" "mass" "[I" "PartyRaft") ∈ lw_tbl := lw_at lw_m1 70 rfl
theorem q212 : (Jvm.Cond.fieldLinkNest "PartyRaft$Text" (121 : Nat) "PartyRaft$Flow" "owner" "[I" "PartyRaft") ∈ lw_tbl := lw_at lw_m1 75 rfl
theorem q215 : (Jvm.Cond.fieldLinkNest "PartyRaft$Text" (124 : Nat) "PartyRaft$Flow" "weight" "[I" "PartyRaft") ∈ lw_tbl := lw_at lw_m1 78 rfl
theorem q218 : (Jvm.Cond.fieldLinkNest "PartyRaft$Text" (127 : Nat) "PartyRaft$Flow" "bears" "[I" "PartyRaft") ∈ lw_tbl := lw_at lw_m1 81 rfl
theorem q221 : (Jvm.Cond.fieldLinkNest "PartyRaft$Text" (130 : Nat) "PartyRaft$Flow" "soak" "[I" "PartyRaft") ∈ lw_tbl := lw_at lw_m1 84 rfl
theorem q233 : (Jvm.Cond.fieldLinkNest "PartyRaft$Text" (144 : Nat) "PartyRaft$Flow" "rapidMile" "[I" "PartyRaft") ∈ lw_tbl := lw_at lw_m1 96 rfl
theorem q235 : (Jvm.Cond.fieldLinkNest "PartyRaft$Text" (147 : Nat) "PartyRaft$Flow" "force" "[I" "PartyRaft") ∈ lw_tbl := lw_at lw_m1 98 rfl
theorem q359 : (Jvm.Cond.fieldLinkNest "PartyRaft$Text" (33 : Nat) "PartyRaft$Fault" "kind" "I" "PartyRaft") ∈ lw_tbl := lw_at lw_m1 222 rfl
theorem q361 : (Jvm.Cond.fieldLinkNest "PartyRaft$Text" (39 : Nat) "PartyRaft$Fault" "place" "I" "PartyRaft") ∈ lw_tbl := lw_at lw_m1 224 rfl
theorem q408 : (Jvm.Cond.fieldLinkNest "PartyRaft$Text" (22 : Nat) "PartyRaft" "reading" "LPartyRaft$Flow;" "PartyRaft") ∈ lw_tbl := lw_at lw_m2 31 rfl
theorem q411 : (Jvm.Cond.fieldLinkNest "PartyRaft$Text" (165 : Nat) "PartyRaft" "blank" "LPartyRaft$Flow;" "PartyRaft") ∈ lw_tbl := lw_at lw_m2 34 rfl
theorem q413 : (Jvm.Cond.fieldLinkNest "PartyRaft$Text" (29 : Nat) "PartyRaft" "fault" "LPartyRaft$Fault;" "PartyRaft") ∈ lw_tbl := lw_at lw_m2 36 rfl
theorem q415 : (Jvm.Cond.fieldLinkNest "PartyRaft$Text" (48 : Nat) "PartyRaft" "tape" "[B" "PartyRaft") ∈ lw_tbl := lw_at lw_m2 38 rfl
theorem q417 : (Jvm.Cond.fieldLinkNest "PartyRaft$Text" (45 : Nat) "PartyRaft" "taped" "I" "PartyRaft") ∈ lw_tbl := lw_at lw_m2 40 rfl
theorem q420 : (Jvm.Cond.fieldLinkNest "PartyRaft$Text" (172 : Nat) "PartyRaft" "lineWords" "[Ljava/lang/String;" "PartyRaft") ∈ lw_tbl := lw_at lw_m2 43 rfl
theorem q422 : (Jvm.Cond.fieldLinkNest "PartyRaft$Text" (218 : Nat) "PartyRaft" "clauseWords" "[Ljava/lang/String;" "PartyRaft") ∈ lw_tbl := lw_at lw_m2 45 rfl
theorem q423 : (Jvm.Cond.fieldLinkNest "PartyRaft$Text" (15 : Nat) "PartyRaft" "wordNames" "[Ljava/lang/String;" "PartyRaft") ∈ lw_tbl := lw_at lw_m2 46 rfl
theorem q520 : (Jvm.Cond.instantiable "PartyRaft$Text" (7 : Nat)) ∈ lw_all := lw_g (lw_at lw_m2 143 rfl) rfl
theorem q522 : (Jvm.Cond.instanceMethod ({ cls := "PartyRaft$Text", name := "<init>", desc := "(LPartyRaft;)V" } : Jvm.MethodName)) ∈ lw_all := lw_g (lw_at lw_m2 145 rfl) rfl
theorem q523 : (Jvm.Cond.code ({ cls := "PartyRaft$Text", name := "<init>", desc := "(LPartyRaft;)V" } : Jvm.MethodName) prog_13_method_1_code (2 : Nat) (Option.none : Option Jvm.ClassFile.FieldType)) ∈ lw_all := lw_g (lw_at lw_m2 146 rfl) rfl
theorem q524 : (Jvm.Cond.methodLink "PartyRaft$Text" (9 : Nat) ({ cls := "java/lang/Object", name := "<init>", desc := "()V" } : Jvm.MethodName)) ∈ lw_all := lw_g (lw_at lw_m2 147 rfl) rfl
theorem q525 : (Jvm.Cond.fieldLink "PartyRaft$Text" (19 : Nat) "PartyRaft$Text" "words" "[Ljava/lang/String;") ∈ lw_all := lw_g (lw_at lw_m2 148 rfl) rfl
theorem q526 : (Jvm.Cond.fieldLink "PartyRaft$Text" (26 : Nat) "PartyRaft$Text" "read" "LPartyRaft$Flow;") ∈ lw_all := lw_g (lw_at lw_m2 149 rfl) rfl
theorem q527 : (Jvm.Cond.fieldLink "PartyRaft$Text" (42 : Nat) "PartyRaft$Text" "next" "I") ∈ lw_all := lw_g (lw_at lw_m2 150 rfl) rfl
theorem q528 : (Jvm.Cond.fieldLink "PartyRaft$Text" (87 : Nat) "PartyRaft$Text" "deep" "I") ∈ lw_all := lw_g (lw_at lw_m2 151 rfl) rfl
theorem q529 : (Jvm.Cond.fieldLink "PartyRaft$Text" (84 : Nat) "PartyRaft$Text" "made" "I") ∈ lw_all := lw_g (lw_at lw_m2 152 rfl) rfl
theorem q530 : (Jvm.Cond.fieldLink "PartyRaft$Text" (90 : Nat) "PartyRaft$Text" "many" "I") ∈ lw_all := lw_g (lw_at lw_m2 153 rfl) rfl
theorem q531 : (Jvm.Cond.fieldLink "PartyRaft$Text" (3 : Nat) "PartyRaft$Text" "this$0" "LPartyRaft;") ∈ lw_all := lw_g (lw_at lw_m2 154 rfl) rfl
theorem q532 : (Jvm.Cond.laysFinal "PartyRaft$Text" "PartyRaft$Text" "words" "[Ljava/lang/String;") ∈ lw_all := lw_g (lw_at lw_m2 155 rfl) rfl
theorem q533 : (Jvm.Cond.soleField "PartyRaft$Text" "words") ∈ lw_all := lw_g (lw_at lw_m2 156 rfl) rfl
theorem q534 : (Jvm.Cond.laysFinal "PartyRaft$Text" "PartyRaft$Text" "read" "LPartyRaft$Flow;") ∈ lw_all := lw_g (lw_at lw_m2 157 rfl) rfl
theorem q535 : (Jvm.Cond.soleField "PartyRaft$Text" "read") ∈ lw_all := lw_g (lw_at lw_m2 158 rfl) rfl
theorem q536 : (Jvm.Cond.lays "PartyRaft$Text" "PartyRaft$Text" "next" "I") ∈ lw_all := lw_g (lw_at lw_m2 159 rfl) rfl
theorem q537 : (Jvm.Cond.soleField "PartyRaft$Text" "next") ∈ lw_all := lw_g (lw_at lw_m2 160 rfl) rfl
theorem q538 : (Jvm.Cond.lays "PartyRaft$Text" "PartyRaft$Text" "deep" "I") ∈ lw_all := lw_g (lw_at lw_m2 161 rfl) rfl
theorem q539 : (Jvm.Cond.soleField "PartyRaft$Text" "deep") ∈ lw_all := lw_g (lw_at lw_m2 162 rfl) rfl
theorem q540 : (Jvm.Cond.lays "PartyRaft$Text" "PartyRaft$Text" "made" "I") ∈ lw_all := lw_g (lw_at lw_m2 163 rfl) rfl
theorem q541 : (Jvm.Cond.soleField "PartyRaft$Text" "made") ∈ lw_all := lw_g (lw_at lw_m2 164 rfl) rfl
theorem q542 : (Jvm.Cond.lays "PartyRaft$Text" "PartyRaft$Text" "many" "I") ∈ lw_all := lw_g (lw_at lw_m2 165 rfl) rfl
theorem q543 : (Jvm.Cond.soleField "PartyRaft$Text" "many") ∈ lw_all := lw_g (lw_at lw_m2 166 rfl) rfl
theorem q544 : (Jvm.Cond.laysFinal "PartyRaft$Text" "PartyRaft$Text" "this$0" "LPartyRaft;") ∈ lw_all := lw_g (lw_at lw_m2 167 rfl) rfl
theorem q545 : (Jvm.Cond.soleField "PartyRaft$Text" "this$0") ∈ lw_all := lw_g (lw_at lw_m2 168 rfl) rfl
theorem q546 : (Jvm.Cond.superclass "PartyRaft$Text" "java/lang/Object") ∈ lw_all := lw_g (lw_at lw_m2 169 rfl) rfl
theorem q548 : (Jvm.Cond.instanceMethod ({ cls := "PartyRaft$Text", name := "riverTold", desc := "()LPartyRaft$Flow;" } : Jvm.MethodName)) ∈ lw_all := lw_g (lw_at lw_m2 171 rfl) rfl
theorem q549 : (Jvm.Cond.selects "PartyRaft$Text" ({ cls := "PartyRaft$Text", name := "riverTold", desc := "()LPartyRaft$Flow;" } : Jvm.MethodName) ({ cls := "PartyRaft$Text", name := "riverTold", desc := "()LPartyRaft$Flow;" } : Jvm.MethodName)) ∈ lw_all := lw_g (lw_at lw_m2 172 rfl) rfl
theorem q550 : (Jvm.Cond.code ({ cls := "PartyRaft$Text", name := "riverTold", desc := "()LPartyRaft$Flow;" } : Jvm.MethodName) prog_13_method_20_code (3 : Nat) (Option.some (Jvm.ClassFile.FieldType.object "PartyRaft$Flow"))) ∈ lw_all := lw_g (lw_at lw_m2 173 rfl) rfl
theorem q551 : (Jvm.Cond.methodLink "PartyRaft$Text" (168 : Nat) ({ cls := "PartyRaft$Flow", name := "copies", desc := "(LPartyRaft$Flow;)LPartyRaft$Flow;" } : Jvm.MethodName)) ∈ lw_all := lw_g (lw_at lw_m2 174 rfl) rfl
theorem q562 : (Jvm.Cond.methodLink "PartyRaft$Text" (52 : Nat) ({ cls := "PartyRaft$Text", name := "see", desc := "()I" } : Jvm.MethodName)) ∈ lw_all := lw_g (lw_at lw_m2 185 rfl) rfl
theorem q563 : (Jvm.Cond.privateMethod ({ cls := "PartyRaft$Text", name := "see", desc := "()I" } : Jvm.MethodName)) ∈ lw_tbl := lw_at lw_m2 186 rfl
theorem q564 : (Jvm.Cond.instanceMethod ({ cls := "PartyRaft$Text", name := "see", desc := "()I" } : Jvm.MethodName)) ∈ lw_all := lw_g (lw_at lw_m2 187 rfl) rfl
theorem q565 : (Jvm.Cond.code ({ cls := "PartyRaft$Text", name := "see", desc := "()I" } : Jvm.MethodName) prog_13_method_3_code (1 : Nat) (Option.some Jvm.ClassFile.FieldType.int)) ∈ lw_all := lw_g (lw_at lw_m2 188 rfl) rfl
theorem q566 : (Jvm.Cond.methodLink "PartyRaft$Text" (175 : Nat) ({ cls := "PartyRaft$Text", name := "oneOf", desc := "([Ljava/lang/String;)I" } : Jvm.MethodName)) ∈ lw_all := lw_g (lw_at lw_m2 189 rfl) rfl
theorem q567 : (Jvm.Cond.privateMethod ({ cls := "PartyRaft$Text", name := "oneOf", desc := "([Ljava/lang/String;)I" } : Jvm.MethodName)) ∈ lw_tbl := lw_at lw_m2 190 rfl
theorem q568 : (Jvm.Cond.instanceMethod ({ cls := "PartyRaft$Text", name := "oneOf", desc := "([Ljava/lang/String;)I" } : Jvm.MethodName)) ∈ lw_all := lw_g (lw_at lw_m2 191 rfl) rfl
theorem q569 : (Jvm.Cond.code ({ cls := "PartyRaft$Text", name := "oneOf", desc := "([Ljava/lang/String;)I" } : Jvm.MethodName) prog_13_method_8_code (3 : Nat) (Option.some Jvm.ClassFile.FieldType.int)) ∈ lw_all := lw_g (lw_at lw_m2 192 rfl) rfl
theorem q570 : (Jvm.Cond.methodLink "PartyRaft$Text" (68 : Nat) ({ cls := "PartyRaft$Text", name := "isWord", desc := "(Ljava/lang/String;)Z" } : Jvm.MethodName)) ∈ lw_all := lw_g (lw_at lw_m2 193 rfl) rfl
theorem q571 : (Jvm.Cond.privateMethod ({ cls := "PartyRaft$Text", name := "isWord", desc := "(Ljava/lang/String;)Z" } : Jvm.MethodName)) ∈ lw_tbl := lw_at lw_m2 194 rfl
theorem q572 : (Jvm.Cond.instanceMethod ({ cls := "PartyRaft$Text", name := "isWord", desc := "(Ljava/lang/String;)Z" } : Jvm.MethodName)) ∈ lw_all := lw_g (lw_at lw_m2 195 rfl) rfl
theorem q573 : (Jvm.Cond.code ({ cls := "PartyRaft$Text", name := "isWord", desc := "(Ljava/lang/String;)Z" } : Jvm.MethodName) prog_13_method_6_code (5 : Nat) (Option.some Jvm.ClassFile.FieldType.boolean)) ∈ lw_all := lw_g (lw_at lw_m2 196 rfl) rfl
theorem q574 : (Jvm.Cond.methodLink "PartyRaft$Text" (56 : Nat) ({ cls := "PartyRaft$Text", name := "letters", desc := "()I" } : Jvm.MethodName)) ∈ lw_all := lw_g (lw_at lw_m2 197 rfl) rfl
theorem q575 : (Jvm.Cond.privateMethod ({ cls := "PartyRaft$Text", name := "letters", desc := "()I" } : Jvm.MethodName)) ∈ lw_tbl := lw_at lw_m2 198 rfl
theorem q576 : (Jvm.Cond.instanceMethod ({ cls := "PartyRaft$Text", name := "letters", desc := "()I" } : Jvm.MethodName)) ∈ lw_all := lw_g (lw_at lw_m2 199 rfl) rfl
theorem q577 : (Jvm.Cond.code ({ cls := "PartyRaft$Text", name := "letters", desc := "()I" } : Jvm.MethodName) prog_13_method_5_code (2 : Nat) (Option.some Jvm.ClassFile.FieldType.int)) ∈ lw_all := lw_g (lw_at lw_m2 200 rfl) rfl
theorem q578 : (Jvm.Cond.methodLink "PartyRaft$Text" (59 : Nat) ({ cls := "java/lang/String", name := "length", desc := "()I" } : Jvm.MethodName)) ∈ lw_all := lw_g (lw_at lw_m2 201 rfl) rfl
theorem q588 : (Jvm.Cond.methodLink "PartyRaft$Text" (64 : Nat) ({ cls := "java/lang/String", name := "charAt", desc := "(I)C" } : Jvm.MethodName)) ∈ lw_all := lw_g (lw_at lw_m2 211 rfl) rfl
theorem q626 : (Jvm.Cond.methodLink "PartyRaft$Text" (76 : Nat) ({ cls := "PartyRaft$Text", name := "demand", desc := "(ZII)V" } : Jvm.MethodName)) ∈ lw_all := lw_g (lw_at lw_m3 9 rfl) rfl
theorem q627 : (Jvm.Cond.privateMethod ({ cls := "PartyRaft$Text", name := "demand", desc := "(ZII)V" } : Jvm.MethodName)) ∈ lw_tbl := lw_at lw_m3 10 rfl
theorem q628 : (Jvm.Cond.instanceMethod ({ cls := "PartyRaft$Text", name := "demand", desc := "(ZII)V" } : Jvm.MethodName)) ∈ lw_all := lw_g (lw_at lw_m3 11 rfl) rfl
theorem q629 : (Jvm.Cond.code ({ cls := "PartyRaft$Text", name := "demand", desc := "(ZII)V" } : Jvm.MethodName) prog_13_method_2_code (4 : Nat) (Option.none : Option Jvm.ClassFile.FieldType)) ∈ lw_all := lw_g (lw_at lw_m3 12 rfl) rfl
theorem q630 : (Jvm.Cond.methodLink "PartyRaft$Text" (179 : Nat) ({ cls := "PartyRaft$Text", name := "canBe", desc := "(I)Z" } : Jvm.MethodName)) ∈ lw_all := lw_g (lw_at lw_m3 13 rfl) rfl
theorem q631 : (Jvm.Cond.privateMethod ({ cls := "PartyRaft$Text", name := "canBe", desc := "(I)Z" } : Jvm.MethodName)) ∈ lw_tbl := lw_at lw_m3 14 rfl
theorem q632 : (Jvm.Cond.instanceMethod ({ cls := "PartyRaft$Text", name := "canBe", desc := "(I)Z" } : Jvm.MethodName)) ∈ lw_all := lw_g (lw_at lw_m3 15 rfl) rfl
theorem q633 : (Jvm.Cond.code ({ cls := "PartyRaft$Text", name := "canBe", desc := "(I)Z" } : Jvm.MethodName) prog_13_method_14_code (2 : Nat) (Option.some Jvm.ClassFile.FieldType.boolean)) ∈ lw_all := lw_g (lw_at lw_m3 16 rfl) rfl
theorem q634 : (Jvm.Cond.methodLink "PartyRaft$Text" (182 : Nat) ({ cls := "PartyRaft$Text", name := "line", desc := "(I)V" } : Jvm.MethodName)) ∈ lw_all := lw_g (lw_at lw_m3 17 rfl) rfl
theorem q635 : (Jvm.Cond.privateMethod ({ cls := "PartyRaft$Text", name := "line", desc := "(I)V" } : Jvm.MethodName)) ∈ lw_tbl := lw_at lw_m3 18 rfl
theorem q636 : (Jvm.Cond.instanceMethod ({ cls := "PartyRaft$Text", name := "line", desc := "(I)V" } : Jvm.MethodName)) ∈ lw_all := lw_g (lw_at lw_m3 19 rfl) rfl
theorem q637 : (Jvm.Cond.code ({ cls := "PartyRaft$Text", name := "line", desc := "(I)V" } : Jvm.MethodName) prog_13_method_19_code (2 : Nat) (Option.none : Option Jvm.ClassFile.FieldType)) ∈ lw_all := lw_g (lw_at lw_m3 20 rfl) rfl
theorem q638 : (Jvm.Cond.methodLink "PartyRaft$Text" (114 : Nat) ({ cls := "PartyRaft$Text", name := "number", desc := "(II)I" } : Jvm.MethodName)) ∈ lw_all := lw_g (lw_at lw_m3 21 rfl) rfl
theorem q639 : (Jvm.Cond.privateMethod ({ cls := "PartyRaft$Text", name := "number", desc := "(II)I" } : Jvm.MethodName)) ∈ lw_tbl := lw_at lw_m3 22 rfl
theorem q640 : (Jvm.Cond.instanceMethod ({ cls := "PartyRaft$Text", name := "number", desc := "(II)I" } : Jvm.MethodName)) ∈ lw_all := lw_g (lw_at lw_m3 23 rfl) rfl
theorem q641 : (Jvm.Cond.code ({ cls := "PartyRaft$Text", name := "number", desc := "(II)I" } : Jvm.MethodName) prog_13_method_10_code (5 : Nat) (Option.some Jvm.ClassFile.FieldType.int)) ∈ lw_all := lw_g (lw_at lw_m3 24 rfl) rfl
theorem q642 : (Jvm.Cond.methodLink "PartyRaft$Text" (72 : Nat) ({ cls := "PartyRaft$Text", name := "isDigit", desc := "(I)Z" } : Jvm.MethodName)) ∈ lw_all := lw_g (lw_at lw_m3 25 rfl) rfl
theorem q643 : (Jvm.Cond.privateMethod ({ cls := "PartyRaft$Text", name := "isDigit", desc := "(I)Z" } : Jvm.MethodName)) ∈ lw_tbl := lw_at lw_m3 26 rfl
theorem q644 : (Jvm.Cond.instanceMethod ({ cls := "PartyRaft$Text", name := "isDigit", desc := "(I)Z" } : Jvm.MethodName)) ∈ lw_all := lw_g (lw_at lw_m3 27 rfl) rfl
theorem q645 : (Jvm.Cond.code ({ cls := "PartyRaft$Text", name := "isDigit", desc := "(I)Z" } : Jvm.MethodName) prog_13_method_9_code (2 : Nat) (Option.some Jvm.ClassFile.FieldType.boolean)) ∈ lw_all := lw_g (lw_at lw_m3 28 rfl) rfl
theorem q646 : (Jvm.Cond.methodLinkNest "PartyRaft$Text" (80 : Nat) ({ cls := "PartyRaft", name := "in", desc := "(JJJ)Z" } : Jvm.MethodName) "PartyRaft") ∈ lw_tbl := lw_at lw_m3 29 rfl
theorem q649 : (Jvm.Cond.methodLink "PartyRaft$Text" (153 : Nat) ({ cls := "PartyRaft$Text", name := "ownerHere", desc := "()V" } : Jvm.MethodName)) ∈ lw_all := lw_g (lw_at lw_m3 32 rfl) rfl
theorem q650 : (Jvm.Cond.privateMethod ({ cls := "PartyRaft$Text", name := "ownerHere", desc := "()V" } : Jvm.MethodName)) ∈ lw_tbl := lw_at lw_m3 33 rfl
theorem q651 : (Jvm.Cond.instanceMethod ({ cls := "PartyRaft$Text", name := "ownerHere", desc := "()V" } : Jvm.MethodName)) ∈ lw_all := lw_g (lw_at lw_m3 34 rfl) rfl
theorem q652 : (Jvm.Cond.code ({ cls := "PartyRaft$Text", name := "ownerHere", desc := "()V" } : Jvm.MethodName) prog_13_method_15_code (2 : Nat) (Option.none : Option Jvm.ClassFile.FieldType)) ∈ lw_all := lw_g (lw_at lw_m3 35 rfl) rfl
theorem q653 : (Jvm.Cond.methodLink "PartyRaft$Text" (156 : Nat) ({ cls := "PartyRaft$Text", name := "thingHere", desc := "()V" } : Jvm.MethodName)) ∈ lw_all := lw_g (lw_at lw_m3 36 rfl) rfl
theorem q654 : (Jvm.Cond.privateMethod ({ cls := "PartyRaft$Text", name := "thingHere", desc := "()V" } : Jvm.MethodName)) ∈ lw_tbl := lw_at lw_m3 37 rfl
theorem q655 : (Jvm.Cond.instanceMethod ({ cls := "PartyRaft$Text", name := "thingHere", desc := "()V" } : Jvm.MethodName)) ∈ lw_all := lw_g (lw_at lw_m3 38 rfl) rfl
theorem q656 : (Jvm.Cond.code ({ cls := "PartyRaft$Text", name := "thingHere", desc := "()V" } : Jvm.MethodName) prog_13_method_16_code (2 : Nat) (Option.none : Option Jvm.ClassFile.FieldType)) ∈ lw_all := lw_g (lw_at lw_m3 39 rfl) rfl
theorem q657 : (Jvm.Cond.methodLink "PartyRaft$Text" (159 : Nat) ({ cls := "PartyRaft$Text", name := "boundHere", desc := "()V" } : Jvm.MethodName)) ∈ lw_all := lw_g (lw_at lw_m3 40 rfl) rfl
theorem q658 : (Jvm.Cond.privateMethod ({ cls := "PartyRaft$Text", name := "boundHere", desc := "()V" } : Jvm.MethodName)) ∈ lw_tbl := lw_at lw_m3 41 rfl
theorem q659 : (Jvm.Cond.instanceMethod ({ cls := "PartyRaft$Text", name := "boundHere", desc := "()V" } : Jvm.MethodName)) ∈ lw_all := lw_g (lw_at lw_m3 42 rfl) rfl
theorem q660 : (Jvm.Cond.code ({ cls := "PartyRaft$Text", name := "boundHere", desc := "()V" } : Jvm.MethodName) prog_13_method_17_code (4 : Nat) (Option.none : Option Jvm.ClassFile.FieldType)) ∈ lw_all := lw_g (lw_at lw_m3 43 rfl) rfl
theorem q661 : (Jvm.Cond.methodLink "PartyRaft$Text" (133 : Nat) ({ cls := "PartyRaft$Flow", name := "ropeOf", desc := "(II)I" } : Jvm.MethodName)) ∈ lw_all := lw_g (lw_at lw_m3 44 rfl) rfl
theorem q671 : (Jvm.Cond.methodLink "PartyRaft$Text" (136 : Nat) ({ cls := "PartyRaft$Flow", name := "binds", desc := "(III)V" } : Jvm.MethodName)) ∈ lw_all := lw_g (lw_at lw_m3 54 rfl) rfl
theorem q675 : (Jvm.Cond.methodLink "PartyRaft$Text" (162 : Nat) ({ cls := "PartyRaft$Text", name := "rapidHere", desc := "()V" } : Jvm.MethodName)) ∈ lw_all := lw_g (lw_at lw_m3 58 rfl) rfl
theorem q676 : (Jvm.Cond.privateMethod ({ cls := "PartyRaft$Text", name := "rapidHere", desc := "()V" } : Jvm.MethodName)) ∈ lw_tbl := lw_at lw_m3 59 rfl
theorem q677 : (Jvm.Cond.instanceMethod ({ cls := "PartyRaft$Text", name := "rapidHere", desc := "()V" } : Jvm.MethodName)) ∈ lw_all := lw_g (lw_at lw_m3 60 rfl) rfl
theorem q678 : (Jvm.Cond.code ({ cls := "PartyRaft$Text", name := "rapidHere", desc := "()V" } : Jvm.MethodName) prog_13_method_18_code (3 : Nat) (Option.none : Option Jvm.ClassFile.FieldType)) ∈ lw_all := lw_g (lw_at lw_m3 61 rfl) rfl
theorem q679 : (Jvm.Cond.methodLink "PartyRaft$Text" (140 : Nat) ({ cls := "PartyRaft$Flow", name := "forceAt", desc := "(I)I" } : Jvm.MethodName)) ∈ lw_all := lw_g (lw_at lw_m3 62 rfl) rfl
theorem q683 : (Jvm.Cond.methodLink "PartyRaft$Text" (186 : Nat) ({ cls := "PartyRaft$Text", name := "takesSign", desc := "(I)Z" } : Jvm.MethodName)) ∈ lw_all := lw_g (lw_at lw_m3 66 rfl) rfl
theorem q684 : (Jvm.Cond.privateMethod ({ cls := "PartyRaft$Text", name := "takesSign", desc := "(I)Z" } : Jvm.MethodName)) ∈ lw_tbl := lw_at lw_m3 67 rfl
theorem q685 : (Jvm.Cond.instanceMethod ({ cls := "PartyRaft$Text", name := "takesSign", desc := "(I)Z" } : Jvm.MethodName)) ∈ lw_all := lw_g (lw_at lw_m3 68 rfl) rfl
theorem q686 : (Jvm.Cond.code ({ cls := "PartyRaft$Text", name := "takesSign", desc := "(I)Z" } : Jvm.MethodName) prog_13_method_4_code (2 : Nat) (Option.some Jvm.ClassFile.FieldType.boolean)) ∈ lw_all := lw_g (lw_at lw_m3 69 rfl) rfl
theorem q687 : (Jvm.Cond.methodLink "PartyRaft$Text" (189 : Nat) ({ cls := "PartyRaft$Text", name := "ends", desc := "()V" } : Jvm.MethodName)) ∈ lw_all := lw_g (lw_at lw_m3 70 rfl) rfl
theorem q688 : (Jvm.Cond.privateMethod ({ cls := "PartyRaft$Text", name := "ends", desc := "()V" } : Jvm.MethodName)) ∈ lw_tbl := lw_at lw_m3 71 rfl
theorem q689 : (Jvm.Cond.instanceMethod ({ cls := "PartyRaft$Text", name := "ends", desc := "()V" } : Jvm.MethodName)) ∈ lw_all := lw_g (lw_at lw_m3 72 rfl) rfl
theorem q690 : (Jvm.Cond.code ({ cls := "PartyRaft$Text", name := "ends", desc := "()V" } : Jvm.MethodName) prog_13_method_13_code (1 : Nat) (Option.none : Option Jvm.ClassFile.FieldType)) ∈ lw_all := lw_g (lw_at lw_m3 73 rfl) rfl
theorem q701 : (Jvm.Cond.instanceMethod ({ cls := "PartyRaft$Text", name := "ruleTold", desc := "()LPartyRaft$Rule;" } : Jvm.MethodName)) ∈ lw_all := lw_g (lw_at lw_m3 84 rfl) rfl
theorem q702 : (Jvm.Cond.selects "PartyRaft$Text" ({ cls := "PartyRaft$Text", name := "ruleTold", desc := "()LPartyRaft$Rule;" } : Jvm.MethodName) ({ cls := "PartyRaft$Text", name := "ruleTold", desc := "()LPartyRaft$Rule;" } : Jvm.MethodName)) ∈ lw_all := lw_g (lw_at lw_m3 85 rfl) rfl
theorem q703 : (Jvm.Cond.code ({ cls := "PartyRaft$Text", name := "ruleTold", desc := "()LPartyRaft$Rule;" } : Jvm.MethodName) prog_13_method_22_code (3 : Nat) (Option.some (Jvm.ClassFile.FieldType.object "PartyRaft$Rule"))) ∈ lw_all := lw_g (lw_at lw_m3 86 rfl) rfl
theorem q704 : (Jvm.Cond.classLink "PartyRaft$Text" (215 : Nat) "PartyRaft$Rule") ∈ lw_all := lw_g (lw_at lw_m3 87 rfl) rfl
theorem q706 : (Jvm.Cond.methodLinkNest "PartyRaft$Text" (217 : Nat) ({ cls := "PartyRaft$Rule", name := "<init>", desc := "()V" } : Jvm.MethodName) "PartyRaft") ∈ lw_tbl := lw_at lw_m3 89 rfl
theorem q713 : (Jvm.Cond.fieldLinkNest "PartyRaft$Text" (221 : Nat) "PartyRaft$Rule" "clauses" "[LPartyRaft$Clause;" "PartyRaft") ∈ lw_tbl := lw_at lw_m3 96 rfl
theorem q715 : (Jvm.Cond.fieldLinkNest "PartyRaft$Text" (225 : Nat) "PartyRaft$Rule" "many" "I" "PartyRaft") ∈ lw_tbl := lw_at lw_m3 98 rfl
theorem q721 : (Jvm.Cond.methodLink "PartyRaft$Text" (226 : Nat) ({ cls := "PartyRaft$Text", name := "clauseHere", desc := "()LPartyRaft$Clause;" } : Jvm.MethodName)) ∈ lw_all := lw_g (lw_at lw_m3 104 rfl) rfl
theorem q722 : (Jvm.Cond.privateMethod ({ cls := "PartyRaft$Text", name := "clauseHere", desc := "()LPartyRaft$Clause;" } : Jvm.MethodName)) ∈ lw_tbl := lw_at lw_m3 105 rfl
theorem q723 : (Jvm.Cond.instanceMethod ({ cls := "PartyRaft$Text", name := "clauseHere", desc := "()LPartyRaft$Clause;" } : Jvm.MethodName)) ∈ lw_all := lw_g (lw_at lw_m3 106 rfl) rfl
theorem q724 : (Jvm.Cond.code ({ cls := "PartyRaft$Text", name := "clauseHere", desc := "()LPartyRaft$Clause;" } : Jvm.MethodName) prog_13_method_21_code (2 : Nat) (Option.some (Jvm.ClassFile.FieldType.object "PartyRaft$Clause"))) ∈ lw_all := lw_g (lw_at lw_m3 107 rfl) rfl
theorem q725 : (Jvm.Cond.classLink "PartyRaft$Text" (192 : Nat) "PartyRaft$Clause") ∈ lw_all := lw_g (lw_at lw_m3 108 rfl) rfl
theorem q727 : (Jvm.Cond.methodLinkNest "PartyRaft$Text" (194 : Nat) ({ cls := "PartyRaft$Clause", name := "<init>", desc := "()V" } : Jvm.MethodName) "PartyRaft") ∈ lw_tbl := lw_at lw_m3 110 rfl
theorem q732 : (Jvm.Cond.fieldLinkNest "PartyRaft$Text" (199 : Nat) "PartyRaft$Clause" "sum" "LPartyRaft$Value;" "PartyRaft") ∈ lw_tbl := lw_at lw_m3 115 rfl
theorem q734 : (Jvm.Cond.fieldLinkNest "PartyRaft$Text" (211 : Nat) "PartyRaft$Clause" "test" "LPartyRaft$Test;" "PartyRaft") ∈ lw_tbl := lw_at lw_m3 117 rfl
theorem q740 : (Jvm.Cond.methodLink "PartyRaft$Text" (195 : Nat) ({ cls := "PartyRaft$Text", name := "sum", desc := "()LPartyRaft$Value;" } : Jvm.MethodName)) ∈ lw_all := lw_g (lw_at lw_m3 123 rfl) rfl
theorem q741 : (Jvm.Cond.privateMethod ({ cls := "PartyRaft$Text", name := "sum", desc := "()LPartyRaft$Value;" } : Jvm.MethodName)) ∈ lw_tbl := lw_at lw_m3 124 rfl
theorem q742 : (Jvm.Cond.instanceMethod ({ cls := "PartyRaft$Text", name := "sum", desc := "()LPartyRaft$Value;" } : Jvm.MethodName)) ∈ lw_all := lw_g (lw_at lw_m3 125 rfl) rfl
theorem q743 : (Jvm.Cond.code ({ cls := "PartyRaft$Text", name := "sum", desc := "()LPartyRaft$Value;" } : Jvm.MethodName) prog_13_method_27_code (3 : Nat) (Option.some (Jvm.ClassFile.FieldType.object "PartyRaft$Value"))) ∈ lw_all := lw_g (lw_at lw_m3 126 rfl) rfl
theorem q744 : (Jvm.Cond.methodLink "PartyRaft$Text" (266 : Nat) ({ cls := "PartyRaft$Text", name := "term", desc := "()LPartyRaft$Value;" } : Jvm.MethodName)) ∈ lw_all := lw_g (lw_at lw_m3 127 rfl) rfl
theorem q745 : (Jvm.Cond.privateMethod ({ cls := "PartyRaft$Text", name := "term", desc := "()LPartyRaft$Value;" } : Jvm.MethodName)) ∈ lw_tbl := lw_at lw_m3 128 rfl
theorem q746 : (Jvm.Cond.instanceMethod ({ cls := "PartyRaft$Text", name := "term", desc := "()LPartyRaft$Value;" } : Jvm.MethodName)) ∈ lw_all := lw_g (lw_at lw_m3 129 rfl) rfl
theorem q747 : (Jvm.Cond.code ({ cls := "PartyRaft$Text", name := "term", desc := "()LPartyRaft$Value;" } : Jvm.MethodName) prog_13_method_28_code (3 : Nat) (Option.some (Jvm.ClassFile.FieldType.object "PartyRaft$Value"))) ∈ lw_all := lw_g (lw_at lw_m3 130 rfl) rfl
theorem q748 : (Jvm.Cond.methodLink "PartyRaft$Text" (272 : Nat) ({ cls := "PartyRaft$Text", name := "value", desc := "()LPartyRaft$Value;" } : Jvm.MethodName)) ∈ lw_all := lw_g (lw_at lw_m3 131 rfl) rfl
theorem q749 : (Jvm.Cond.privateMethod ({ cls := "PartyRaft$Text", name := "value", desc := "()LPartyRaft$Value;" } : Jvm.MethodName)) ∈ lw_tbl := lw_at lw_m3 132 rfl
theorem q750 : (Jvm.Cond.instanceMethod ({ cls := "PartyRaft$Text", name := "value", desc := "()LPartyRaft$Value;" } : Jvm.MethodName)) ∈ lw_all := lw_g (lw_at lw_m3 133 rfl) rfl
theorem q751 : (Jvm.Cond.code ({ cls := "PartyRaft$Text", name := "value", desc := "()LPartyRaft$Value;" } : Jvm.MethodName) prog_13_method_29_code (3 : Nat) (Option.some (Jvm.ClassFile.FieldType.object "PartyRaft$Value"))) ∈ lw_all := lw_g (lw_at lw_m3 134 rfl) rfl
theorem q752 : (Jvm.Cond.constant "PartyRaft$Text" (275 : Nat) (99999 : Int32)) ∈ lw_all := lw_g (lw_at lw_m3 135 rfl) rfl
theorem q753 : (Jvm.Cond.methodLink "PartyRaft$Text" (258 : Nat) ({ cls := "PartyRaft$Text", name := "makes", desc := "(I)V" } : Jvm.MethodName)) ∈ lw_all := lw_g (lw_at lw_m3 136 rfl) rfl
theorem q754 : (Jvm.Cond.privateMethod ({ cls := "PartyRaft$Text", name := "makes", desc := "(I)V" } : Jvm.MethodName)) ∈ lw_tbl := lw_at lw_m3 137 rfl
theorem q755 : (Jvm.Cond.instanceMethod ({ cls := "PartyRaft$Text", name := "makes", desc := "(I)V" } : Jvm.MethodName)) ∈ lw_all := lw_g (lw_at lw_m3 138 rfl) rfl
theorem q756 : (Jvm.Cond.code ({ cls := "PartyRaft$Text", name := "makes", desc := "(I)V" } : Jvm.MethodName) prog_13_method_11_code (2 : Nat) (Option.none : Option Jvm.ClassFile.FieldType)) ∈ lw_all := lw_g (lw_at lw_m3 139 rfl) rfl
theorem q757 : (Jvm.Cond.classLink "PartyRaft$Text" (276 : Nat) "PartyRaft$Number") ∈ lw_all := lw_g (lw_at lw_m3 140 rfl) rfl
theorem q759 : (Jvm.Cond.methodLink "PartyRaft$Text" (278 : Nat) ({ cls := "PartyRaft$Number", name := "<init>", desc := "(J)V" } : Jvm.MethodName)) ∈ lw_all := lw_g (lw_at lw_m3 142 rfl) rfl
theorem q770 : (Jvm.Cond.classLink "PartyRaft$Text" (281 : Nat) "PartyRaft$Word") ∈ lw_all := lw_g (lw_at lw_m3 153 rfl) rfl
theorem q772 : (Jvm.Cond.methodLink "PartyRaft$Text" (283 : Nat) ({ cls := "PartyRaft$Word", name := "<init>", desc := "(I)V" } : Jvm.MethodName)) ∈ lw_all := lw_g (lw_at lw_m3 155 rfl) rfl
theorem q780 : (Jvm.Cond.classLink "PartyRaft$Text" (269 : Nat) "PartyRaft$Pair") ∈ lw_all := lw_g (lw_at lw_m3 163 rfl) rfl
theorem q782 : (Jvm.Cond.methodLink "PartyRaft$Text" (271 : Nat) ({ cls := "PartyRaft$Pair", name := "<init>", desc := "(LPartyRaft$Value;ILPartyRaft$Value;)V" } : Jvm.MethodName)) ∈ lw_all := lw_g (lw_at lw_m3 165 rfl) rfl
theorem q796 : (Jvm.Cond.stringRef "PartyRaft$Text" (202 : Nat) "if") ∈ lw_tbl := lw_at lw_m3 179 rfl
theorem q797 : (Jvm.Cond.methodLink "PartyRaft$Text" (204 : Nat) ({ cls := "PartyRaft$Text", name := "takesWord", desc := "(Ljava/lang/String;)Z" } : Jvm.MethodName)) ∈ lw_all := lw_g (lw_at lw_m3 180 rfl) rfl
theorem q798 : (Jvm.Cond.privateMethod ({ cls := "PartyRaft$Text", name := "takesWord", desc := "(Ljava/lang/String;)Z" } : Jvm.MethodName)) ∈ lw_tbl := lw_at lw_m3 181 rfl
theorem q799 : (Jvm.Cond.instanceMethod ({ cls := "PartyRaft$Text", name := "takesWord", desc := "(Ljava/lang/String;)Z" } : Jvm.MethodName)) ∈ lw_all := lw_g (lw_at lw_m3 182 rfl) rfl
theorem q800 : (Jvm.Cond.code ({ cls := "PartyRaft$Text", name := "takesWord", desc := "(Ljava/lang/String;)Z" } : Jvm.MethodName) prog_13_method_7_code (2 : Nat) (Option.some Jvm.ClassFile.FieldType.boolean)) ∈ lw_all := lw_g (lw_at lw_m3 183 rfl) rfl
theorem q801 : (Jvm.Cond.methodLink "PartyRaft$Text" (207 : Nat) ({ cls := "PartyRaft$Text", name := "tested", desc := "()LPartyRaft$Test;" } : Jvm.MethodName)) ∈ lw_all := lw_g (lw_at lw_m3 184 rfl) rfl
theorem q802 : (Jvm.Cond.privateMethod ({ cls := "PartyRaft$Text", name := "tested", desc := "()LPartyRaft$Test;" } : Jvm.MethodName)) ∈ lw_tbl := lw_at lw_m3 185 rfl
theorem q803 : (Jvm.Cond.instanceMethod ({ cls := "PartyRaft$Text", name := "tested", desc := "()LPartyRaft$Test;" } : Jvm.MethodName)) ∈ lw_all := lw_g (lw_at lw_m3 186 rfl) rfl
theorem q804 : (Jvm.Cond.code ({ cls := "PartyRaft$Text", name := "tested", desc := "()LPartyRaft$Test;" } : Jvm.MethodName) prog_13_method_23_code (2 : Nat) (Option.some (Jvm.ClassFile.FieldType.object "PartyRaft$Test"))) ∈ lw_all := lw_g (lw_at lw_m3 187 rfl) rfl
theorem q805 : (Jvm.Cond.methodLink "PartyRaft$Text" (230 : Nat) ({ cls := "PartyRaft$Text", name := "parted", desc := "()LPartyRaft$Test;" } : Jvm.MethodName)) ∈ lw_all := lw_g (lw_at lw_m3 188 rfl) rfl
theorem q806 : (Jvm.Cond.privateMethod ({ cls := "PartyRaft$Text", name := "parted", desc := "()LPartyRaft$Test;" } : Jvm.MethodName)) ∈ lw_tbl := lw_at lw_m3 189 rfl
theorem q807 : (Jvm.Cond.instanceMethod ({ cls := "PartyRaft$Text", name := "parted", desc := "()LPartyRaft$Test;" } : Jvm.MethodName)) ∈ lw_all := lw_g (lw_at lw_m3 190 rfl) rfl
theorem q808 : (Jvm.Cond.code ({ cls := "PartyRaft$Text", name := "parted", desc := "()LPartyRaft$Test;" } : Jvm.MethodName) prog_13_method_24_code (2 : Nat) (Option.some (Jvm.ClassFile.FieldType.object "PartyRaft$Test"))) ∈ lw_all := lw_g (lw_at lw_m3 191 rfl) rfl
theorem q809 : (Jvm.Cond.methodLink "PartyRaft$Text" (240 : Nat) ({ cls := "PartyRaft$Text", name := "fact", desc := "()LPartyRaft$Test;" } : Jvm.MethodName)) ∈ lw_all := lw_g (lw_at lw_m3 192 rfl) rfl
theorem q810 : (Jvm.Cond.privateMethod ({ cls := "PartyRaft$Text", name := "fact", desc := "()LPartyRaft$Test;" } : Jvm.MethodName)) ∈ lw_tbl := lw_at lw_m3 193 rfl
theorem q811 : (Jvm.Cond.instanceMethod ({ cls := "PartyRaft$Text", name := "fact", desc := "()LPartyRaft$Test;" } : Jvm.MethodName)) ∈ lw_all := lw_g (lw_at lw_m3 194 rfl) rfl
theorem q812 : (Jvm.Cond.code ({ cls := "PartyRaft$Text", name := "fact", desc := "()LPartyRaft$Test;" } : Jvm.MethodName) prog_13_method_25_code (6 : Nat) (Option.some (Jvm.ClassFile.FieldType.object "PartyRaft$Test"))) ∈ lw_all := lw_g (lw_at lw_m3 195 rfl) rfl
theorem q813 : (Jvm.Cond.stringRef "PartyRaft$Text" (245 : Nat) "not") ∈ lw_tbl := lw_at lw_m3 196 rfl
theorem q814 : (Jvm.Cond.methodLink "PartyRaft$Text" (247 : Nat) ({ cls := "PartyRaft$Text", name := "opens", desc := "(I)V" } : Jvm.MethodName)) ∈ lw_all := lw_g (lw_at lw_m3 197 rfl) rfl
theorem q815 : (Jvm.Cond.privateMethod ({ cls := "PartyRaft$Text", name := "opens", desc := "(I)V" } : Jvm.MethodName)) ∈ lw_tbl := lw_at lw_m3 198 rfl
theorem q816 : (Jvm.Cond.instanceMethod ({ cls := "PartyRaft$Text", name := "opens", desc := "(I)V" } : Jvm.MethodName)) ∈ lw_all := lw_g (lw_at lw_m3 199 rfl) rfl
theorem q817 : (Jvm.Cond.code ({ cls := "PartyRaft$Text", name := "opens", desc := "(I)V" } : Jvm.MethodName) prog_13_method_12_code (2 : Nat) (Option.none : Option Jvm.ClassFile.FieldType)) ∈ lw_all := lw_g (lw_at lw_m3 200 rfl) rfl
theorem q818 : (Jvm.Cond.classLink "PartyRaft$Text" (250 : Nat) "PartyRaft$Not") ∈ lw_all := lw_g (lw_at lw_m3 201 rfl) rfl
theorem q820 : (Jvm.Cond.methodLink "PartyRaft$Text" (252 : Nat) ({ cls := "PartyRaft$Not", name := "<init>", desc := "(LPartyRaft$Test;)V" } : Jvm.MethodName)) ∈ lw_all := lw_g (lw_at lw_m3 203 rfl) rfl
theorem q831 : (Jvm.Cond.methodLink "PartyRaft$Text" (255 : Nat) ({ cls := "PartyRaft$Text", name := "sign", desc := "()I" } : Jvm.MethodName)) ∈ lw_all := lw_g (lw_at lw_m3 214 rfl) rfl
theorem q832 : (Jvm.Cond.privateMethod ({ cls := "PartyRaft$Text", name := "sign", desc := "()I" } : Jvm.MethodName)) ∈ lw_tbl := lw_at lw_m3 215 rfl
theorem q833 : (Jvm.Cond.instanceMethod ({ cls := "PartyRaft$Text", name := "sign", desc := "()I" } : Jvm.MethodName)) ∈ lw_all := lw_g (lw_at lw_m3 216 rfl) rfl
theorem q834 : (Jvm.Cond.code ({ cls := "PartyRaft$Text", name := "sign", desc := "()I" } : Jvm.MethodName) prog_13_method_26_code (3 : Nat) (Option.some Jvm.ClassFile.FieldType.int)) ∈ lw_all := lw_g (lw_at lw_m3 217 rfl) rfl
theorem q835 : (Jvm.Cond.classLink "PartyRaft$Text" (261 : Nat) "PartyRaft$Compare") ∈ lw_all := lw_g (lw_at lw_m3 218 rfl) rfl
theorem q837 : (Jvm.Cond.methodLink "PartyRaft$Text" (263 : Nat) ({ cls := "PartyRaft$Compare", name := "<init>", desc := "(LPartyRaft$Value;ILPartyRaft$Value;)V" } : Jvm.MethodName)) ∈ lw_all := lw_g (lw_at lw_m3 220 rfl) rfl
theorem q851 : (Jvm.Cond.stringRef "PartyRaft$Text" (243 : Nat) "and") ∈ lw_tbl := lw_at lw_m3 234 rfl
theorem q852 : (Jvm.Cond.classLink "PartyRaft$Text" (235 : Nat) "PartyRaft$Both") ∈ lw_all := lw_g (lw_at lw_m3 235 rfl) rfl
theorem q854 : (Jvm.Cond.methodLink "PartyRaft$Text" (237 : Nat) ({ cls := "PartyRaft$Both", name := "<init>", desc := "(LPartyRaft$Test;ZLPartyRaft$Test;)V" } : Jvm.MethodName)) ∈ lw_all := lw_g (lw_at lw_m3 237 rfl) rfl
theorem q868 : (Jvm.Cond.stringRef "PartyRaft$Text" (233 : Nat) "or") ∈ lw_tbl := lw_at lw_m4 11 rfl
theorem in_X4 : ∀ w ∈ wsX40, w ∈ lw_all := lw_in wsX40 [532, 534, 536, 538, 540, 542, 544] (by decide +kernel) (by decide +kernel)
/-! PartyRaft$Rule -/
set_option maxRecDepth 100000
def RX5 : String := "PartyRaft$Rule"
def TX5 : u_T := fun k => match k with
  | 0 => ("PartyRaft$Rule", "clauses", "[LPartyRaft$Clause;", true)
  | _ => ("PartyRaft$Rule", "many", "I", false)
def tyX5 : Nat → FieldType := fun k => match k with
  | 0 => .array (.object "PartyRaft$Clause")
  | _ => .int
abbrev wsX50 : List Cond := u_ws RX5 TX5 2
theorem nmX5 : ∀ a, a < 2 → ∀ b, b < 2 → a ≠ b → (TX5 a).2.1 ≠ (TX5 b).2.1 := by decide +kernel
theorem tyX5_ok : ∀ k, k < 2 → parseFieldDescriptor (TX5 k).2.2.1 = some (tyX5 k) := by decide +kernel
abbrev cX5_init : ByteArray := prog_11_method_1_code
def yX5_init : MethodName := ⟨RX5, "<init>", "()V"⟩
def dkwX5_init_0 : List UInt8 := [42, 183, 0, 3, 42, 16, 12, 189, 0, 9, 181, 0, 11, 177]
abbrev dktX5_init_0 : List UInt8 := dkwX5_init_0 ++ []
theorem dksX5_init_0 : cX5_init.data.toList.drop 0 = dktX5_init_0 := by decide +kernel
theorem dX5_init_0 : decode cX5_init 0 = .ok (.aload_n 0, 1) := dk_42 (dk_at dksX5_init_0 0 rfl rfl)
theorem dX5_init_1 : decode cX5_init 1 = .ok (.invokespecial 3, 3) := dk_183 0 3 (dk_at dksX5_init_0 1 rfl rfl)
theorem dX5_init_4 : decode cX5_init 4 = .ok (.aload_n 0, 1) := dk_42 (dk_at dksX5_init_0 4 rfl rfl)
theorem dX5_init_5 : decode cX5_init 5 = .ok (.bipush 12, 2) := dk_16 12 (dk_at dksX5_init_0 5 rfl rfl)
theorem dX5_init_7 : decode cX5_init 7 = .ok (.anewarray 9, 3) := dk_189 0 9 (dk_at dksX5_init_0 7 rfl rfl)
theorem dX5_init_10 : decode cX5_init 10 = .ok (.putfield 11, 3) := dk_181 0 11 (dk_at dksX5_init_0 10 rfl rfl)
theorem dX5_init_13 : decode cX5_init 13 = .ok (.return_, 1) := dk_177 (dk_at dksX5_init_0 13 rfl rfl)
abbrev cX5_sumFor : ByteArray := prog_11_method_2_code
def yX5_sumFor : MethodName := ⟨RX5, "sumFor", "([J)J"⟩
def dkwX5_sumFor_1 : List UInt8 := [180, 0, 11, 28, 50, 180, 0, 25, 43, 182, 0, 29, 173, 132, 2, 1, 167, 255, 218, 9, 173]
abbrev dktX5_sumFor_1 : List UInt8 := dkwX5_sumFor_1 ++ []
def dkwX5_sumFor_0 : List UInt8 := [3, 61, 28, 42, 180, 0, 17, 162, 0, 36, 42, 180, 0, 11, 28, 50, 43, 182, 0, 21, 153, 0, 17, 42]
abbrev dktX5_sumFor_0 : List UInt8 := dkwX5_sumFor_0 ++ dktX5_sumFor_1
theorem dksX5_sumFor_0 : cX5_sumFor.data.toList.drop 0 = dktX5_sumFor_0 := by decide +kernel
theorem dksX5_sumFor_1 : cX5_sumFor.data.toList.drop 24 = dktX5_sumFor_1 := dk_seg dksX5_sumFor_0 24 rfl rfl
theorem dX5_sumFor_0 : decode cX5_sumFor 0 = .ok (.iconst 0, 1) := dk_3 (dk_at dksX5_sumFor_0 0 rfl rfl)
theorem dX5_sumFor_1 : decode cX5_sumFor 1 = .ok (.istore_n 2, 1) := dk_61 (dk_at dksX5_sumFor_0 1 rfl rfl)
theorem dX5_sumFor_2 : decode cX5_sumFor 2 = .ok (.iload_n 2, 1) := dk_28 (dk_at dksX5_sumFor_0 2 rfl rfl)
theorem dX5_sumFor_3 : decode cX5_sumFor 3 = .ok (.aload_n 0, 1) := dk_42 (dk_at dksX5_sumFor_0 3 rfl rfl)
theorem dX5_sumFor_4 : decode cX5_sumFor 4 = .ok (.getfield 17, 3) := dk_180 0 17 (dk_at dksX5_sumFor_0 4 rfl rfl)
theorem dX5_sumFor_7 : decode cX5_sumFor 7 = .ok (.if_icmp .ge 36, 3) := dk_162 0 36 (dk_at dksX5_sumFor_0 7 rfl rfl)
theorem dX5_sumFor_10 : decode cX5_sumFor 10 = .ok (.aload_n 0, 1) := dk_42 (dk_at dksX5_sumFor_0 10 rfl rfl)
theorem dX5_sumFor_11 : decode cX5_sumFor 11 = .ok (.getfield 11, 3) := dk_180 0 11 (dk_at dksX5_sumFor_0 11 rfl rfl)
theorem dX5_sumFor_14 : decode cX5_sumFor 14 = .ok (.iload_n 2, 1) := dk_28 (dk_at dksX5_sumFor_0 14 rfl rfl)
theorem dX5_sumFor_15 : decode cX5_sumFor 15 = .ok (.aaload, 1) := dk_50 (dk_at dksX5_sumFor_0 15 rfl rfl)
theorem dX5_sumFor_16 : decode cX5_sumFor 16 = .ok (.aload_n 1, 1) := dk_43 (dk_at dksX5_sumFor_0 16 rfl rfl)
theorem dX5_sumFor_17 : decode cX5_sumFor 17 = .ok (.invokevirtual 21, 3) := dk_182 0 21 (dk_at dksX5_sumFor_0 17 rfl rfl)
theorem dX5_sumFor_20 : decode cX5_sumFor 20 = .ok (.ifCond .eq 17, 3) := dk_153 0 17 (dk_at dksX5_sumFor_0 20 rfl rfl)
theorem dX5_sumFor_23 : decode cX5_sumFor 23 = .ok (.aload_n 0, 1) := dk_42 (dk_at dksX5_sumFor_0 23 rfl rfl)
theorem dX5_sumFor_24 : decode cX5_sumFor 24 = .ok (.getfield 11, 3) := dk_180 0 11 (dk_at dksX5_sumFor_1 0 rfl rfl)
theorem dX5_sumFor_27 : decode cX5_sumFor 27 = .ok (.iload_n 2, 1) := dk_28 (dk_at dksX5_sumFor_1 3 rfl rfl)
theorem dX5_sumFor_28 : decode cX5_sumFor 28 = .ok (.aaload, 1) := dk_50 (dk_at dksX5_sumFor_1 4 rfl rfl)
theorem dX5_sumFor_29 : decode cX5_sumFor 29 = .ok (.getfield 25, 3) := dk_180 0 25 (dk_at dksX5_sumFor_1 5 rfl rfl)
theorem dX5_sumFor_32 : decode cX5_sumFor 32 = .ok (.aload_n 1, 1) := dk_43 (dk_at dksX5_sumFor_1 8 rfl rfl)
theorem dX5_sumFor_33 : decode cX5_sumFor 33 = .ok (.invokevirtual 29, 3) := dk_182 0 29 (dk_at dksX5_sumFor_1 9 rfl rfl)
theorem dX5_sumFor_36 : decode cX5_sumFor 36 = .ok (.lreturn, 1) := dk_173 (dk_at dksX5_sumFor_1 12 rfl rfl)
theorem dX5_sumFor_37 : decode cX5_sumFor 37 = .ok (.iinc 2 1, 3) := dk_132 2 1 (dk_at dksX5_sumFor_1 13 rfl rfl)
theorem dX5_sumFor_40 : decode cX5_sumFor 40 = .ok (.goto (-38), 3) := dk_167 255 218 (dk_at dksX5_sumFor_1 16 rfl rfl)
theorem dX5_sumFor_43 : decode cX5_sumFor 43 = .ok (.lconst 0, 1) := dk_9 (dk_at dksX5_sumFor_1 19 rfl rfl)
theorem dX5_sumFor_44 : decode cX5_sumFor 44 = .ok (.lreturn, 1) := dk_173 (dk_at dksX5_sumFor_1 20 rfl rfl)
theorem q152 : (Jvm.Cond.initialized "PartyRaft$Rule") ∈ lw_all := lw_g (lw_at lw_m1 15 rfl) rfl
theorem q705 : (Jvm.Cond.instantiable "PartyRaft$Rule" (2 : Nat)) ∈ lw_all := lw_g (lw_at lw_m3 88 rfl) rfl
theorem q707 : (Jvm.Cond.instanceMethod ({ cls := "PartyRaft$Rule", name := "<init>", desc := "()V" } : Jvm.MethodName)) ∈ lw_all := lw_g (lw_at lw_m3 90 rfl) rfl
theorem q708 : (Jvm.Cond.code ({ cls := "PartyRaft$Rule", name := "<init>", desc := "()V" } : Jvm.MethodName) prog_11_method_1_code (1 : Nat) (Option.none : Option Jvm.ClassFile.FieldType)) ∈ lw_all := lw_g (lw_at lw_m3 91 rfl) rfl
theorem q709 : (Jvm.Cond.methodLink "PartyRaft$Rule" (3 : Nat) ({ cls := "java/lang/Object", name := "<init>", desc := "()V" } : Jvm.MethodName)) ∈ lw_all := lw_g (lw_at lw_m3 92 rfl) rfl
theorem q710 : (Jvm.Cond.classLink "PartyRaft$Rule" (9 : Nat) "PartyRaft$Clause") ∈ lw_all := lw_g (lw_at lw_m3 93 rfl) rfl
theorem q712 : (Jvm.Cond.fieldLink "PartyRaft$Rule" (11 : Nat) "PartyRaft$Rule" "clauses" "[LPartyRaft$Clause;") ∈ lw_all := lw_g (lw_at lw_m3 95 rfl) rfl
theorem q714 : (Jvm.Cond.fieldLink "PartyRaft$Rule" (17 : Nat) "PartyRaft$Rule" "many" "I") ∈ lw_all := lw_g (lw_at lw_m3 97 rfl) rfl
theorem q716 : (Jvm.Cond.laysFinal "PartyRaft$Rule" "PartyRaft$Rule" "clauses" "[LPartyRaft$Clause;") ∈ lw_all := lw_g (lw_at lw_m3 99 rfl) rfl
theorem q717 : (Jvm.Cond.soleField "PartyRaft$Rule" "clauses") ∈ lw_all := lw_g (lw_at lw_m3 100 rfl) rfl
theorem q718 : (Jvm.Cond.lays "PartyRaft$Rule" "PartyRaft$Rule" "many" "I") ∈ lw_all := lw_g (lw_at lw_m3 101 rfl) rfl
theorem q719 : (Jvm.Cond.soleField "PartyRaft$Rule" "many") ∈ lw_all := lw_g (lw_at lw_m3 102 rfl) rfl
theorem q720 : (Jvm.Cond.superclass "PartyRaft$Rule" "java/lang/Object") ∈ lw_all := lw_g (lw_at lw_m3 103 rfl) rfl
theorem q731 : (Jvm.Cond.fieldLinkNest "PartyRaft$Rule" (25 : Nat) "PartyRaft$Clause" "sum" "LPartyRaft$Value;" "PartyRaft") ∈ lw_tbl := lw_at lw_m3 114 rfl
theorem q1062 : (Jvm.Cond.instanceMethod ({ cls := "PartyRaft$Rule", name := "sumFor", desc := "([J)J" } : Jvm.MethodName)) ∈ lw_all := lw_g (lw_at lw_m4 205 rfl) rfl
theorem q1063 : (Jvm.Cond.selects "PartyRaft$Rule" ({ cls := "PartyRaft$Rule", name := "sumFor", desc := "([J)J" } : Jvm.MethodName) ({ cls := "PartyRaft$Rule", name := "sumFor", desc := "([J)J" } : Jvm.MethodName)) ∈ lw_all := lw_g (lw_at lw_m4 206 rfl) rfl
theorem q1064 : (Jvm.Cond.code ({ cls := "PartyRaft$Rule", name := "sumFor", desc := "([J)J" } : Jvm.MethodName) prog_11_method_2_code (3 : Nat) (Option.some Jvm.ClassFile.FieldType.long)) ∈ lw_all := lw_g (lw_at lw_m4 207 rfl) rfl
theorem q1065 : (Jvm.Cond.methodLink "PartyRaft$Rule" (21 : Nat) ({ cls := "PartyRaft$Clause", name := "fits", desc := "([J)Z" } : Jvm.MethodName)) ∈ lw_all := lw_g (lw_at lw_m4 208 rfl) rfl
theorem q1096 : (Jvm.Cond.methodLink "PartyRaft$Rule" (29 : Nat) ({ cls := "PartyRaft$Value", name := "of", desc := "([J)J" } : Jvm.MethodName)) ∈ lw_all := lw_g (lw_at lw_m4 239 rfl) rfl
theorem in_X5 : ∀ w ∈ wsX50, w ∈ lw_all := lw_in wsX50 [716, 718] (by decide +kernel) (by decide +kernel)
/-! PartyRaft$Clause -/
set_option maxRecDepth 100000
def RX6 : String := "PartyRaft$Clause"
def TX6 : u_T := fun k => match k with
  | 0 => ("PartyRaft$Clause", "sum", "LPartyRaft$Value;", false)
  | _ => ("PartyRaft$Clause", "test", "LPartyRaft$Test;", false)
def tyX6 : Nat → FieldType := fun k => match k with
  | 0 => .object "PartyRaft$Value"
  | _ => .object "PartyRaft$Test"
abbrev wsX60 : List Cond := u_ws RX6 TX6 2
theorem nmX6 : ∀ a, a < 2 → ∀ b, b < 2 → a ≠ b → (TX6 a).2.1 ≠ (TX6 b).2.1 := by decide +kernel
theorem tyX6_ok : ∀ k, k < 2 → parseFieldDescriptor (TX6 k).2.2.1 = some (tyX6 k) := by decide +kernel
abbrev cX6_init : ByteArray := prog_3_method_1_code
def yX6_init : MethodName := ⟨RX6, "<init>", "()V"⟩
theorem dX6_init_0 : decode cX6_init 0 = .ok (.aload_n 0, 1) := by decide +kernel
theorem dX6_init_1 : decode cX6_init 1 = .ok (.invokespecial 1, 3) := by decide +kernel
theorem dX6_init_4 : decode cX6_init 4 = .ok (.return_, 1) := by decide +kernel
abbrev cX6_fits : ByteArray := prog_3_method_2_code
def yX6_fits : MethodName := ⟨RX6, "fits", "([J)Z"⟩
def dkwX6_fits_0 : List UInt8 := [42, 180, 0, 7, 198, 0, 14, 42, 180, 0, 7, 43, 182, 0, 13, 153, 0, 7, 4, 167, 0, 4, 3, 172]
abbrev dktX6_fits_0 : List UInt8 := dkwX6_fits_0 ++ []
theorem dksX6_fits_0 : cX6_fits.data.toList.drop 0 = dktX6_fits_0 := by decide +kernel
theorem dX6_fits_0 : decode cX6_fits 0 = .ok (.aload_n 0, 1) := dk_42 (dk_at dksX6_fits_0 0 rfl rfl)
theorem dX6_fits_1 : decode cX6_fits 1 = .ok (.getfield 7, 3) := dk_180 0 7 (dk_at dksX6_fits_0 1 rfl rfl)
theorem dX6_fits_4 : decode cX6_fits 4 = .ok (.ifnull 14, 3) := dk_198 0 14 (dk_at dksX6_fits_0 4 rfl rfl)
theorem dX6_fits_7 : decode cX6_fits 7 = .ok (.aload_n 0, 1) := dk_42 (dk_at dksX6_fits_0 7 rfl rfl)
theorem dX6_fits_8 : decode cX6_fits 8 = .ok (.getfield 7, 3) := dk_180 0 7 (dk_at dksX6_fits_0 8 rfl rfl)
theorem dX6_fits_11 : decode cX6_fits 11 = .ok (.aload_n 1, 1) := dk_43 (dk_at dksX6_fits_0 11 rfl rfl)
theorem dX6_fits_12 : decode cX6_fits 12 = .ok (.invokevirtual 13, 3) := dk_182 0 13 (dk_at dksX6_fits_0 12 rfl rfl)
theorem dX6_fits_15 : decode cX6_fits 15 = .ok (.ifCond .eq 7, 3) := dk_153 0 7 (dk_at dksX6_fits_0 15 rfl rfl)
theorem dX6_fits_18 : decode cX6_fits 18 = .ok (.iconst 1, 1) := dk_4 (dk_at dksX6_fits_0 18 rfl rfl)
theorem dX6_fits_19 : decode cX6_fits 19 = .ok (.goto 4, 3) := dk_167 0 4 (dk_at dksX6_fits_0 19 rfl rfl)
theorem dX6_fits_22 : decode cX6_fits 22 = .ok (.iconst 0, 1) := dk_3 (dk_at dksX6_fits_0 22 rfl rfl)
theorem dX6_fits_23 : decode cX6_fits 23 = .ok (.ireturn, 1) := dk_172 (dk_at dksX6_fits_0 23 rfl rfl)
theorem q153 : (Jvm.Cond.initialized "PartyRaft$Clause") ∈ lw_all := lw_g (lw_at lw_m1 16 rfl) rfl
theorem q726 : (Jvm.Cond.instantiable "PartyRaft$Clause" (2 : Nat)) ∈ lw_all := lw_g (lw_at lw_m3 109 rfl) rfl
theorem q728 : (Jvm.Cond.instanceMethod ({ cls := "PartyRaft$Clause", name := "<init>", desc := "()V" } : Jvm.MethodName)) ∈ lw_all := lw_g (lw_at lw_m3 111 rfl) rfl
theorem q729 : (Jvm.Cond.code ({ cls := "PartyRaft$Clause", name := "<init>", desc := "()V" } : Jvm.MethodName) prog_3_method_1_code (1 : Nat) (Option.none : Option Jvm.ClassFile.FieldType)) ∈ lw_all := lw_g (lw_at lw_m3 112 rfl) rfl
theorem q730 : (Jvm.Cond.methodLink "PartyRaft$Clause" (1 : Nat) ({ cls := "java/lang/Object", name := "<init>", desc := "()V" } : Jvm.MethodName)) ∈ lw_all := lw_g (lw_at lw_m3 113 rfl) rfl
theorem q733 : (Jvm.Cond.fieldLink "PartyRaft$Clause" (7 : Nat) "PartyRaft$Clause" "test" "LPartyRaft$Test;") ∈ lw_all := lw_g (lw_at lw_m3 116 rfl) rfl
theorem q735 : (Jvm.Cond.lays "PartyRaft$Clause" "PartyRaft$Clause" "sum" "LPartyRaft$Value;") ∈ lw_all := lw_g (lw_at lw_m3 118 rfl) rfl
theorem q736 : (Jvm.Cond.soleField "PartyRaft$Clause" "sum") ∈ lw_all := lw_g (lw_at lw_m3 119 rfl) rfl
theorem q737 : (Jvm.Cond.lays "PartyRaft$Clause" "PartyRaft$Clause" "test" "LPartyRaft$Test;") ∈ lw_all := lw_g (lw_at lw_m3 120 rfl) rfl
theorem q738 : (Jvm.Cond.soleField "PartyRaft$Clause" "test") ∈ lw_all := lw_g (lw_at lw_m3 121 rfl) rfl
theorem q739 : (Jvm.Cond.superclass "PartyRaft$Clause" "java/lang/Object") ∈ lw_all := lw_g (lw_at lw_m3 122 rfl) rfl
theorem q1066 : (Jvm.Cond.instanceMethod ({ cls := "PartyRaft$Clause", name := "fits", desc := "([J)Z" } : Jvm.MethodName)) ∈ lw_all := lw_g (lw_at lw_m4 209 rfl) rfl
theorem q1067 : (Jvm.Cond.selects "PartyRaft$Clause" ({ cls := "PartyRaft$Clause", name := "fits", desc := "([J)Z" } : Jvm.MethodName) ({ cls := "PartyRaft$Clause", name := "fits", desc := "([J)Z" } : Jvm.MethodName)) ∈ lw_all := lw_g (lw_at lw_m4 210 rfl) rfl
theorem q1068 : (Jvm.Cond.code ({ cls := "PartyRaft$Clause", name := "fits", desc := "([J)Z" } : Jvm.MethodName) prog_3_method_2_code (2 : Nat) (Option.some Jvm.ClassFile.FieldType.boolean)) ∈ lw_all := lw_g (lw_at lw_m4 211 rfl) rfl
theorem q1069 : (Jvm.Cond.methodLink "PartyRaft$Clause" (13 : Nat) ({ cls := "PartyRaft$Test", name := "is", desc := "([J)Z" } : Jvm.MethodName)) ∈ lw_all := lw_g (lw_at lw_m4 212 rfl) rfl
theorem in_X6 : ∀ w ∈ wsX60, w ∈ lw_all := lw_in wsX60 [735, 737] (by decide +kernel) (by decide +kernel)
/-! PartyRaft$Value -/
set_option maxRecDepth 100000
def RX7 : String := "PartyRaft$Value"
abbrev cX7_init : ByteArray := prog_14_method_1_code
def yX7_init : MethodName := ⟨RX7, "<init>", "()V"⟩
theorem dX7_init_0 : decode cX7_init 0 = .ok (.aload_n 0, 1) := by decide +kernel
theorem dX7_init_1 : decode cX7_init 1 = .ok (.invokespecial 1, 3) := by decide +kernel
theorem dX7_init_4 : decode cX7_init 4 = .ok (.return_, 1) := by decide +kernel
theorem q154 : (Jvm.Cond.initialized "PartyRaft$Value") ∈ lw_all := lw_g (lw_at lw_m1 17 rfl) rfl
theorem q763 : (Jvm.Cond.instanceMethod ({ cls := "PartyRaft$Value", name := "<init>", desc := "()V" } : Jvm.MethodName)) ∈ lw_all := lw_g (lw_at lw_m3 146 rfl) rfl
theorem q764 : (Jvm.Cond.code ({ cls := "PartyRaft$Value", name := "<init>", desc := "()V" } : Jvm.MethodName) prog_14_method_1_code (1 : Nat) (Option.none : Option Jvm.ClassFile.FieldType)) ∈ lw_all := lw_g (lw_at lw_m3 147 rfl) rfl
theorem q765 : (Jvm.Cond.methodLink "PartyRaft$Value" (1 : Nat) ({ cls := "java/lang/Object", name := "<init>", desc := "()V" } : Jvm.MethodName)) ∈ lw_all := lw_g (lw_at lw_m3 148 rfl) rfl
theorem q1079 : (Jvm.Cond.declares ({ cls := "PartyRaft$Value", name := "of", desc := "([J)J" } : Jvm.MethodName)) ∈ lw_tbl := lw_at lw_m4 222 rfl
theorem q1080 : (Jvm.Cond.sameMethod "PartyRaft$Value" "PartyRaft$Value" "of" "([J)J") ∈ lw_all := lw_g (lw_at lw_m4 223 rfl) rfl
/-! PartyRaft$Number -/
set_option maxRecDepth 100000
def RX8 : String := "PartyRaft$Number"
def TX8 : u_T := fun k => match k with
  | _ => ("PartyRaft$Number", "number", "J", true)
def tyX8 : Nat → FieldType := fun k => match k with
  | _ => .long
abbrev wsX80 : List Cond := u_ws RX8 TX8 1
theorem nmX8 : ∀ a, a < 1 → ∀ b, b < 1 → a ≠ b → (TX8 a).2.1 ≠ (TX8 b).2.1 := by decide +kernel
theorem tyX8_ok : ∀ k, k < 1 → parseFieldDescriptor (TX8 k).2.2.1 = some (tyX8 k) := by decide +kernel
abbrev cX8_init : ByteArray := prog_9_method_1_code
def yX8_init : MethodName := ⟨RX8, "<init>", "(J)V"⟩
def dkwX8_init_0 : List UInt8 := [42, 183, 0, 1, 42, 31, 181, 0, 7, 177]
abbrev dktX8_init_0 : List UInt8 := dkwX8_init_0 ++ []
theorem dksX8_init_0 : cX8_init.data.toList.drop 0 = dktX8_init_0 := by decide +kernel
theorem dX8_init_0 : decode cX8_init 0 = .ok (.aload_n 0, 1) := dk_42 (dk_at dksX8_init_0 0 rfl rfl)
theorem dX8_init_1 : decode cX8_init 1 = .ok (.invokespecial 1, 3) := dk_183 0 1 (dk_at dksX8_init_0 1 rfl rfl)
theorem dX8_init_4 : decode cX8_init 4 = .ok (.aload_n 0, 1) := dk_42 (dk_at dksX8_init_0 4 rfl rfl)
theorem dX8_init_5 : decode cX8_init 5 = .ok (.lload_n 1, 1) := dk_31 (dk_at dksX8_init_0 5 rfl rfl)
theorem dX8_init_6 : decode cX8_init 6 = .ok (.putfield 7, 3) := dk_181 0 7 (dk_at dksX8_init_0 6 rfl rfl)
theorem dX8_init_9 : decode cX8_init 9 = .ok (.return_, 1) := dk_177 (dk_at dksX8_init_0 9 rfl rfl)
abbrev cX8_of : ByteArray := prog_9_method_2_code
def yX8_of : MethodName := ⟨RX8, "of", "([J)J"⟩
theorem dX8_of_0 : decode cX8_of 0 = .ok (.aload_n 0, 1) := by decide +kernel
theorem dX8_of_1 : decode cX8_of 1 = .ok (.getfield 7, 3) := by decide +kernel
theorem dX8_of_4 : decode cX8_of 4 = .ok (.lreturn, 1) := by decide +kernel
theorem q155 : (Jvm.Cond.initialized "PartyRaft$Number") ∈ lw_all := lw_g (lw_at lw_m1 18 rfl) rfl
theorem q758 : (Jvm.Cond.instantiable "PartyRaft$Number" (1 : Nat)) ∈ lw_all := lw_g (lw_at lw_m3 141 rfl) rfl
theorem q760 : (Jvm.Cond.instanceMethod ({ cls := "PartyRaft$Number", name := "<init>", desc := "(J)V" } : Jvm.MethodName)) ∈ lw_all := lw_g (lw_at lw_m3 143 rfl) rfl
theorem q761 : (Jvm.Cond.code ({ cls := "PartyRaft$Number", name := "<init>", desc := "(J)V" } : Jvm.MethodName) prog_9_method_1_code (3 : Nat) (Option.none : Option Jvm.ClassFile.FieldType)) ∈ lw_all := lw_g (lw_at lw_m3 144 rfl) rfl
theorem q762 : (Jvm.Cond.methodLinkNest "PartyRaft$Number" (1 : Nat) ({ cls := "PartyRaft$Value", name := "<init>", desc := "()V" } : Jvm.MethodName) "PartyRaft") ∈ lw_tbl := lw_at lw_m3 145 rfl
theorem q766 : (Jvm.Cond.fieldLink "PartyRaft$Number" (7 : Nat) "PartyRaft$Number" "number" "J") ∈ lw_all := lw_g (lw_at lw_m3 149 rfl) rfl
theorem q767 : (Jvm.Cond.laysFinal "PartyRaft$Number" "PartyRaft$Number" "number" "J") ∈ lw_all := lw_g (lw_at lw_m3 150 rfl) rfl
theorem q768 : (Jvm.Cond.soleField "PartyRaft$Number" "number") ∈ lw_all := lw_g (lw_at lw_m3 151 rfl) rfl
theorem q769 : (Jvm.Cond.superclass "PartyRaft$Number" "PartyRaft$Value") ∈ lw_all := lw_g (lw_at lw_m3 152 rfl) rfl
theorem q1081 : (Jvm.Cond.selects "PartyRaft$Number" ({ cls := "PartyRaft$Value", name := "of", desc := "([J)J" } : Jvm.MethodName) ({ cls := "PartyRaft$Number", name := "of", desc := "([J)J" } : Jvm.MethodName)) ∈ lw_all := lw_g (lw_at lw_m4 224 rfl) rfl
theorem q1082 : (Jvm.Cond.instanceMethod ({ cls := "PartyRaft$Number", name := "of", desc := "([J)J" } : Jvm.MethodName)) ∈ lw_all := lw_g (lw_at lw_m4 225 rfl) rfl
theorem q1083 : (Jvm.Cond.code ({ cls := "PartyRaft$Number", name := "of", desc := "([J)J" } : Jvm.MethodName) prog_9_method_2_code (2 : Nat) (Option.some Jvm.ClassFile.FieldType.long)) ∈ lw_all := lw_g (lw_at lw_m4 226 rfl) rfl
theorem in_X8 : ∀ w ∈ wsX80, w ∈ lw_all := lw_in wsX80 [767] (by decide +kernel) (by decide +kernel)
/-! PartyRaft$Word -/
set_option maxRecDepth 100000
def RX9 : String := "PartyRaft$Word"
def TX9 : u_T := fun k => match k with
  | _ => ("PartyRaft$Word", "word", "I", true)
def tyX9 : Nat → FieldType := fun k => match k with
  | _ => .int
abbrev wsX90 : List Cond := u_ws RX9 TX9 1
theorem nmX9 : ∀ a, a < 1 → ∀ b, b < 1 → a ≠ b → (TX9 a).2.1 ≠ (TX9 b).2.1 := by decide +kernel
theorem tyX9_ok : ∀ k, k < 1 → parseFieldDescriptor (TX9 k).2.2.1 = some (tyX9 k) := by decide +kernel
abbrev cX9_init : ByteArray := prog_15_method_1_code
def yX9_init : MethodName := ⟨RX9, "<init>", "(I)V"⟩
def dkwX9_init_0 : List UInt8 := [42, 183, 0, 1, 42, 27, 181, 0, 7, 177]
abbrev dktX9_init_0 : List UInt8 := dkwX9_init_0 ++ []
theorem dksX9_init_0 : cX9_init.data.toList.drop 0 = dktX9_init_0 := by decide +kernel
theorem dX9_init_0 : decode cX9_init 0 = .ok (.aload_n 0, 1) := dk_42 (dk_at dksX9_init_0 0 rfl rfl)
theorem dX9_init_1 : decode cX9_init 1 = .ok (.invokespecial 1, 3) := dk_183 0 1 (dk_at dksX9_init_0 1 rfl rfl)
theorem dX9_init_4 : decode cX9_init 4 = .ok (.aload_n 0, 1) := dk_42 (dk_at dksX9_init_0 4 rfl rfl)
theorem dX9_init_5 : decode cX9_init 5 = .ok (.iload_n 1, 1) := dk_27 (dk_at dksX9_init_0 5 rfl rfl)
theorem dX9_init_6 : decode cX9_init 6 = .ok (.putfield 7, 3) := dk_181 0 7 (dk_at dksX9_init_0 6 rfl rfl)
theorem dX9_init_9 : decode cX9_init 9 = .ok (.return_, 1) := dk_177 (dk_at dksX9_init_0 9 rfl rfl)
abbrev cX9_of : ByteArray := prog_15_method_2_code
def yX9_of : MethodName := ⟨RX9, "of", "([J)J"⟩
def dkwX9_of_0 : List UInt8 := [43, 42, 180, 0, 7, 47, 173]
abbrev dktX9_of_0 : List UInt8 := dkwX9_of_0 ++ []
theorem dksX9_of_0 : cX9_of.data.toList.drop 0 = dktX9_of_0 := by decide +kernel
theorem dX9_of_0 : decode cX9_of 0 = .ok (.aload_n 1, 1) := dk_43 (dk_at dksX9_of_0 0 rfl rfl)
theorem dX9_of_1 : decode cX9_of 1 = .ok (.aload_n 0, 1) := dk_42 (dk_at dksX9_of_0 1 rfl rfl)
theorem dX9_of_2 : decode cX9_of 2 = .ok (.getfield 7, 3) := dk_180 0 7 (dk_at dksX9_of_0 2 rfl rfl)
theorem dX9_of_5 : decode cX9_of 5 = .ok (.laload, 1) := dk_47 (dk_at dksX9_of_0 5 rfl rfl)
theorem dX9_of_6 : decode cX9_of 6 = .ok (.lreturn, 1) := dk_173 (dk_at dksX9_of_0 6 rfl rfl)
theorem q156 : (Jvm.Cond.initialized "PartyRaft$Word") ∈ lw_all := lw_g (lw_at lw_m1 19 rfl) rfl
theorem q771 : (Jvm.Cond.instantiable "PartyRaft$Word" (1 : Nat)) ∈ lw_all := lw_g (lw_at lw_m3 154 rfl) rfl
theorem q773 : (Jvm.Cond.instanceMethod ({ cls := "PartyRaft$Word", name := "<init>", desc := "(I)V" } : Jvm.MethodName)) ∈ lw_all := lw_g (lw_at lw_m3 156 rfl) rfl
theorem q774 : (Jvm.Cond.code ({ cls := "PartyRaft$Word", name := "<init>", desc := "(I)V" } : Jvm.MethodName) prog_15_method_1_code (2 : Nat) (Option.none : Option Jvm.ClassFile.FieldType)) ∈ lw_all := lw_g (lw_at lw_m3 157 rfl) rfl
theorem q775 : (Jvm.Cond.methodLinkNest "PartyRaft$Word" (1 : Nat) ({ cls := "PartyRaft$Value", name := "<init>", desc := "()V" } : Jvm.MethodName) "PartyRaft") ∈ lw_tbl := lw_at lw_m3 158 rfl
theorem q776 : (Jvm.Cond.fieldLink "PartyRaft$Word" (7 : Nat) "PartyRaft$Word" "word" "I") ∈ lw_all := lw_g (lw_at lw_m3 159 rfl) rfl
theorem q777 : (Jvm.Cond.laysFinal "PartyRaft$Word" "PartyRaft$Word" "word" "I") ∈ lw_all := lw_g (lw_at lw_m3 160 rfl) rfl
theorem q778 : (Jvm.Cond.soleField "PartyRaft$Word" "word") ∈ lw_all := lw_g (lw_at lw_m3 161 rfl) rfl
theorem q779 : (Jvm.Cond.superclass "PartyRaft$Word" "PartyRaft$Value") ∈ lw_all := lw_g (lw_at lw_m3 162 rfl) rfl
theorem q1088 : (Jvm.Cond.instanceMethod ({ cls := "PartyRaft$Word", name := "of", desc := "([J)J" } : Jvm.MethodName)) ∈ lw_all := lw_g (lw_at lw_m4 231 rfl) rfl
theorem q1089 : (Jvm.Cond.code ({ cls := "PartyRaft$Word", name := "of", desc := "([J)J" } : Jvm.MethodName) prog_15_method_2_code (2 : Nat) (Option.some Jvm.ClassFile.FieldType.long)) ∈ lw_all := lw_g (lw_at lw_m4 232 rfl) rfl
theorem q1090 : (Jvm.Cond.selects "PartyRaft$Word" ({ cls := "PartyRaft$Value", name := "of", desc := "([J)J" } : Jvm.MethodName) ({ cls := "PartyRaft$Word", name := "of", desc := "([J)J" } : Jvm.MethodName)) ∈ lw_all := lw_g (lw_at lw_m4 233 rfl) rfl
theorem in_X9 : ∀ w ∈ wsX90, w ∈ lw_all := lw_in wsX90 [777] (by decide +kernel) (by decide +kernel)
/-! PartyRaft$Pair -/
set_option maxRecDepth 100000
def RX10 : String := "PartyRaft$Pair"
def TX10 : u_T := fun k => match k with
  | 0 => ("PartyRaft$Pair", "first", "LPartyRaft$Value;", true)
  | 1 => ("PartyRaft$Pair", "second", "LPartyRaft$Value;", true)
  | _ => ("PartyRaft$Pair", "sign", "I", true)
def tyX10 : Nat → FieldType := fun k => match k with
  | 0 => .object "PartyRaft$Value"
  | 1 => .object "PartyRaft$Value"
  | _ => .int
abbrev wsX100 : List Cond := u_ws RX10 TX10 3
theorem nmX10 : ∀ a, a < 3 → ∀ b, b < 3 → a ≠ b → (TX10 a).2.1 ≠ (TX10 b).2.1 := by decide +kernel
theorem tyX10_ok : ∀ k, k < 3 → parseFieldDescriptor (TX10 k).2.2.1 = some (tyX10 k) := by decide +kernel
abbrev cX10_init : ByteArray := prog_10_method_1_code
def yX10_init : MethodName := ⟨RX10, "<init>", "(LPartyRaft$Value;ILPartyRaft$Value;)V"⟩
def dkwX10_init_0 : List UInt8 := [42, 183, 0, 1, 42, 43, 181, 0, 7, 42, 28, 181, 0, 13, 42, 45, 181, 0, 17, 177]
abbrev dktX10_init_0 : List UInt8 := dkwX10_init_0 ++ []
theorem dksX10_init_0 : cX10_init.data.toList.drop 0 = dktX10_init_0 := by decide +kernel
theorem dX10_init_0 : decode cX10_init 0 = .ok (.aload_n 0, 1) := dk_42 (dk_at dksX10_init_0 0 rfl rfl)
theorem dX10_init_1 : decode cX10_init 1 = .ok (.invokespecial 1, 3) := dk_183 0 1 (dk_at dksX10_init_0 1 rfl rfl)
theorem dX10_init_4 : decode cX10_init 4 = .ok (.aload_n 0, 1) := dk_42 (dk_at dksX10_init_0 4 rfl rfl)
theorem dX10_init_5 : decode cX10_init 5 = .ok (.aload_n 1, 1) := dk_43 (dk_at dksX10_init_0 5 rfl rfl)
theorem dX10_init_6 : decode cX10_init 6 = .ok (.putfield 7, 3) := dk_181 0 7 (dk_at dksX10_init_0 6 rfl rfl)
theorem dX10_init_9 : decode cX10_init 9 = .ok (.aload_n 0, 1) := dk_42 (dk_at dksX10_init_0 9 rfl rfl)
theorem dX10_init_10 : decode cX10_init 10 = .ok (.iload_n 2, 1) := dk_28 (dk_at dksX10_init_0 10 rfl rfl)
theorem dX10_init_11 : decode cX10_init 11 = .ok (.putfield 13, 3) := dk_181 0 13 (dk_at dksX10_init_0 11 rfl rfl)
theorem dX10_init_14 : decode cX10_init 14 = .ok (.aload_n 0, 1) := dk_42 (dk_at dksX10_init_0 14 rfl rfl)
theorem dX10_init_15 : decode cX10_init 15 = .ok (.aload_n 3, 1) := dk_45 (dk_at dksX10_init_0 15 rfl rfl)
theorem dX10_init_16 : decode cX10_init 16 = .ok (.putfield 17, 3) := dk_181 0 17 (dk_at dksX10_init_0 16 rfl rfl)
theorem dX10_init_19 : decode cX10_init 19 = .ok (.return_, 1) := dk_177 (dk_at dksX10_init_0 19 rfl rfl)
abbrev cX10_of : ByteArray := prog_10_method_2_code
def yX10_of : MethodName := ⟨RX10, "of", "([J)J"⟩
def dkwX10_of_3 : List UInt8 := [167, 0, 7, 32, 22, 4, 113, 173, 22, 4, 9, 148, 154, 0, 7, 9, 167, 0, 7, 32, 22, 4, 109, 173]
abbrev dktX10_of_3 : List UInt8 := dkwX10_of_3 ++ []
def dkwX10_of_2 : List UInt8 := [32, 22, 4, 97, 173, 32, 22, 4, 101, 173, 32, 22, 4, 105, 173, 22, 4, 9, 148, 154, 0, 7, 9]
abbrev dktX10_of_2 : List UInt8 := dkwX10_of_2 ++ dktX10_of_3
def dkwX10_of_1 : List UInt8 := [170, 0, 0, 0, 80, 0, 0, 0, 37, 0, 0, 0, 45, 0, 0, 0, 64, 0, 0, 0, 80, 0, 0, 0, 80, 0, 0, 0, 80, 0, 0, 0, 80, 0, 0, 0, 59, 0, 0, 0, 49, 0, 0, 0, 80, 0, 0, 0, 54]
abbrev dktX10_of_1 : List UInt8 := dkwX10_of_1 ++ dktX10_of_2
def dkwX10_of_0 : List UInt8 := [42, 180, 0, 7, 43, 182, 0, 20, 65, 42, 180, 0, 17, 43, 182, 0, 20, 55, 4, 42, 180, 0, 13]
abbrev dktX10_of_0 : List UInt8 := dkwX10_of_0 ++ dktX10_of_1
theorem dksX10_of_0 : cX10_of.data.toList.drop 0 = dktX10_of_0 := by decide +kernel
theorem dksX10_of_1 : cX10_of.data.toList.drop 23 = dktX10_of_1 := dk_seg dksX10_of_0 23 rfl rfl
theorem dksX10_of_2 : cX10_of.data.toList.drop 72 = dktX10_of_2 := dk_seg dksX10_of_1 49 rfl rfl
theorem dksX10_of_3 : cX10_of.data.toList.drop 95 = dktX10_of_3 := dk_seg dksX10_of_2 23 rfl rfl
theorem dX10_of_0 : decode cX10_of 0 = .ok (.aload_n 0, 1) := dk_42 (dk_at dksX10_of_0 0 rfl rfl)
theorem dX10_of_1 : decode cX10_of 1 = .ok (.getfield 7, 3) := dk_180 0 7 (dk_at dksX10_of_0 1 rfl rfl)
theorem dX10_of_4 : decode cX10_of 4 = .ok (.aload_n 1, 1) := dk_43 (dk_at dksX10_of_0 4 rfl rfl)
theorem dX10_of_5 : decode cX10_of 5 = .ok (.invokevirtual 20, 3) := dk_182 0 20 (dk_at dksX10_of_0 5 rfl rfl)
theorem dX10_of_8 : decode cX10_of 8 = .ok (.lstore_n 2, 1) := dk_65 (dk_at dksX10_of_0 8 rfl rfl)
theorem dX10_of_9 : decode cX10_of 9 = .ok (.aload_n 0, 1) := dk_42 (dk_at dksX10_of_0 9 rfl rfl)
theorem dX10_of_10 : decode cX10_of 10 = .ok (.getfield 17, 3) := dk_180 0 17 (dk_at dksX10_of_0 10 rfl rfl)
theorem dX10_of_13 : decode cX10_of 13 = .ok (.aload_n 1, 1) := dk_43 (dk_at dksX10_of_0 13 rfl rfl)
theorem dX10_of_14 : decode cX10_of 14 = .ok (.invokevirtual 20, 3) := dk_182 0 20 (dk_at dksX10_of_0 14 rfl rfl)
theorem dX10_of_17 : decode cX10_of 17 = .ok (.lstore 4, 2) := dk_55 4 (dk_at dksX10_of_0 17 rfl rfl)
theorem dX10_of_19 : decode cX10_of 19 = .ok (.aload_n 0, 1) := dk_42 (dk_at dksX10_of_0 19 rfl rfl)
theorem dX10_of_20 : decode cX10_of 20 = .ok (.getfield 13, 3) := dk_180 0 13 (dk_at dksX10_of_0 20 rfl rfl)
theorem dX10_of_23 : decode cX10_of 23 = .ok (.tableswitch 80 37 45 #[64, 80, 80, 80, 80, 59, 49, 80, 54], 49) := by decide +kernel
theorem dX10_of_72 : decode cX10_of 72 = .ok (.lload_n 2, 1) := dk_32 (dk_at dksX10_of_2 0 rfl rfl)
theorem dX10_of_73 : decode cX10_of 73 = .ok (.lload 4, 2) := dk_22 4 (dk_at dksX10_of_2 1 rfl rfl)
theorem dX10_of_75 : decode cX10_of 75 = .ok (.ladd, 1) := dk_97 (dk_at dksX10_of_2 3 rfl rfl)
theorem dX10_of_76 : decode cX10_of 76 = .ok (.lreturn, 1) := dk_173 (dk_at dksX10_of_2 4 rfl rfl)
theorem dX10_of_77 : decode cX10_of 77 = .ok (.lload_n 2, 1) := dk_32 (dk_at dksX10_of_2 5 rfl rfl)
theorem dX10_of_78 : decode cX10_of 78 = .ok (.lload 4, 2) := dk_22 4 (dk_at dksX10_of_2 6 rfl rfl)
theorem dX10_of_80 : decode cX10_of 80 = .ok (.lsub, 1) := dk_101 (dk_at dksX10_of_2 8 rfl rfl)
theorem dX10_of_81 : decode cX10_of 81 = .ok (.lreturn, 1) := dk_173 (dk_at dksX10_of_2 9 rfl rfl)
theorem dX10_of_82 : decode cX10_of 82 = .ok (.lload_n 2, 1) := dk_32 (dk_at dksX10_of_2 10 rfl rfl)
theorem dX10_of_83 : decode cX10_of 83 = .ok (.lload 4, 2) := dk_22 4 (dk_at dksX10_of_2 11 rfl rfl)
theorem dX10_of_85 : decode cX10_of 85 = .ok (.lmul, 1) := dk_105 (dk_at dksX10_of_2 13 rfl rfl)
theorem dX10_of_86 : decode cX10_of 86 = .ok (.lreturn, 1) := dk_173 (dk_at dksX10_of_2 14 rfl rfl)
theorem dX10_of_87 : decode cX10_of 87 = .ok (.lload 4, 2) := dk_22 4 (dk_at dksX10_of_2 15 rfl rfl)
theorem dX10_of_89 : decode cX10_of 89 = .ok (.lconst 0, 1) := dk_9 (dk_at dksX10_of_2 17 rfl rfl)
theorem dX10_of_90 : decode cX10_of 90 = .ok (.lcmp, 1) := dk_148 (dk_at dksX10_of_2 18 rfl rfl)
theorem dX10_of_91 : decode cX10_of 91 = .ok (.ifCond .ne 7, 3) := dk_154 0 7 (dk_at dksX10_of_2 19 rfl rfl)
theorem dX10_of_94 : decode cX10_of 94 = .ok (.lconst 0, 1) := dk_9 (dk_at dksX10_of_2 22 rfl rfl)
theorem dX10_of_95 : decode cX10_of 95 = .ok (.goto 7, 3) := dk_167 0 7 (dk_at dksX10_of_3 0 rfl rfl)
theorem dX10_of_98 : decode cX10_of 98 = .ok (.lload_n 2, 1) := dk_32 (dk_at dksX10_of_3 3 rfl rfl)
theorem dX10_of_99 : decode cX10_of 99 = .ok (.lload 4, 2) := dk_22 4 (dk_at dksX10_of_3 4 rfl rfl)
theorem dX10_of_101 : decode cX10_of 101 = .ok (.lrem, 1) := dk_113 (dk_at dksX10_of_3 6 rfl rfl)
theorem dX10_of_102 : decode cX10_of 102 = .ok (.lreturn, 1) := dk_173 (dk_at dksX10_of_3 7 rfl rfl)
theorem dX10_of_103 : decode cX10_of 103 = .ok (.lload 4, 2) := dk_22 4 (dk_at dksX10_of_3 8 rfl rfl)
theorem dX10_of_105 : decode cX10_of 105 = .ok (.lconst 0, 1) := dk_9 (dk_at dksX10_of_3 10 rfl rfl)
theorem dX10_of_106 : decode cX10_of 106 = .ok (.lcmp, 1) := dk_148 (dk_at dksX10_of_3 11 rfl rfl)
theorem dX10_of_107 : decode cX10_of 107 = .ok (.ifCond .ne 7, 3) := dk_154 0 7 (dk_at dksX10_of_3 12 rfl rfl)
theorem dX10_of_110 : decode cX10_of 110 = .ok (.lconst 0, 1) := dk_9 (dk_at dksX10_of_3 15 rfl rfl)
theorem dX10_of_111 : decode cX10_of 111 = .ok (.goto 7, 3) := dk_167 0 7 (dk_at dksX10_of_3 16 rfl rfl)
theorem dX10_of_114 : decode cX10_of 114 = .ok (.lload_n 2, 1) := dk_32 (dk_at dksX10_of_3 19 rfl rfl)
theorem dX10_of_115 : decode cX10_of 115 = .ok (.lload 4, 2) := dk_22 4 (dk_at dksX10_of_3 20 rfl rfl)
theorem dX10_of_117 : decode cX10_of 117 = .ok (.ldiv, 1) := dk_109 (dk_at dksX10_of_3 22 rfl rfl)
theorem dX10_of_118 : decode cX10_of 118 = .ok (.lreturn, 1) := dk_173 (dk_at dksX10_of_3 23 rfl rfl)
theorem q157 : (Jvm.Cond.initialized "PartyRaft$Pair") ∈ lw_all := lw_g (lw_at lw_m1 20 rfl) rfl
theorem q781 : (Jvm.Cond.instantiable "PartyRaft$Pair" (3 : Nat)) ∈ lw_all := lw_g (lw_at lw_m3 164 rfl) rfl
theorem q783 : (Jvm.Cond.instanceMethod ({ cls := "PartyRaft$Pair", name := "<init>", desc := "(LPartyRaft$Value;ILPartyRaft$Value;)V" } : Jvm.MethodName)) ∈ lw_all := lw_g (lw_at lw_m3 166 rfl) rfl
theorem q784 : (Jvm.Cond.code ({ cls := "PartyRaft$Pair", name := "<init>", desc := "(LPartyRaft$Value;ILPartyRaft$Value;)V" } : Jvm.MethodName) prog_10_method_1_code (4 : Nat) (Option.none : Option Jvm.ClassFile.FieldType)) ∈ lw_all := lw_g (lw_at lw_m3 167 rfl) rfl
theorem q785 : (Jvm.Cond.methodLinkNest "PartyRaft$Pair" (1 : Nat) ({ cls := "PartyRaft$Value", name := "<init>", desc := "()V" } : Jvm.MethodName) "PartyRaft") ∈ lw_tbl := lw_at lw_m3 168 rfl
theorem q786 : (Jvm.Cond.fieldLink "PartyRaft$Pair" (7 : Nat) "PartyRaft$Pair" "first" "LPartyRaft$Value;") ∈ lw_all := lw_g (lw_at lw_m3 169 rfl) rfl
theorem q787 : (Jvm.Cond.fieldLink "PartyRaft$Pair" (17 : Nat) "PartyRaft$Pair" "second" "LPartyRaft$Value;") ∈ lw_all := lw_g (lw_at lw_m3 170 rfl) rfl
theorem q788 : (Jvm.Cond.fieldLink "PartyRaft$Pair" (13 : Nat) "PartyRaft$Pair" "sign" "I") ∈ lw_all := lw_g (lw_at lw_m3 171 rfl) rfl
theorem q789 : (Jvm.Cond.laysFinal "PartyRaft$Pair" "PartyRaft$Pair" "first" "LPartyRaft$Value;") ∈ lw_all := lw_g (lw_at lw_m3 172 rfl) rfl
theorem q790 : (Jvm.Cond.soleField "PartyRaft$Pair" "first") ∈ lw_all := lw_g (lw_at lw_m3 173 rfl) rfl
theorem q791 : (Jvm.Cond.laysFinal "PartyRaft$Pair" "PartyRaft$Pair" "second" "LPartyRaft$Value;") ∈ lw_all := lw_g (lw_at lw_m3 174 rfl) rfl
theorem q792 : (Jvm.Cond.soleField "PartyRaft$Pair" "second") ∈ lw_all := lw_g (lw_at lw_m3 175 rfl) rfl
theorem q793 : (Jvm.Cond.laysFinal "PartyRaft$Pair" "PartyRaft$Pair" "sign" "I") ∈ lw_all := lw_g (lw_at lw_m3 176 rfl) rfl
theorem q794 : (Jvm.Cond.soleField "PartyRaft$Pair" "sign") ∈ lw_all := lw_g (lw_at lw_m3 177 rfl) rfl
theorem q795 : (Jvm.Cond.superclass "PartyRaft$Pair" "PartyRaft$Value") ∈ lw_all := lw_g (lw_at lw_m3 178 rfl) rfl
theorem q1084 : (Jvm.Cond.selects "PartyRaft$Pair" ({ cls := "PartyRaft$Value", name := "of", desc := "([J)J" } : Jvm.MethodName) ({ cls := "PartyRaft$Pair", name := "of", desc := "([J)J" } : Jvm.MethodName)) ∈ lw_all := lw_g (lw_at lw_m4 227 rfl) rfl
theorem q1085 : (Jvm.Cond.instanceMethod ({ cls := "PartyRaft$Pair", name := "of", desc := "([J)J" } : Jvm.MethodName)) ∈ lw_all := lw_g (lw_at lw_m4 228 rfl) rfl
theorem q1086 : (Jvm.Cond.code ({ cls := "PartyRaft$Pair", name := "of", desc := "([J)J" } : Jvm.MethodName) prog_10_method_2_code (6 : Nat) (Option.some Jvm.ClassFile.FieldType.long)) ∈ lw_all := lw_g (lw_at lw_m4 229 rfl) rfl
theorem q1087 : (Jvm.Cond.methodLink "PartyRaft$Pair" (20 : Nat) ({ cls := "PartyRaft$Value", name := "of", desc := "([J)J" } : Jvm.MethodName)) ∈ lw_all := lw_g (lw_at lw_m4 230 rfl) rfl
theorem in_X10 : ∀ w ∈ wsX100, w ∈ lw_all := lw_in wsX100 [789, 791, 793] (by decide +kernel) (by decide +kernel)
/-! PartyRaft$Test -/
set_option maxRecDepth 100000
def RX11 : String := "PartyRaft$Test"
abbrev cX11_init : ByteArray := prog_12_method_1_code
def yX11_init : MethodName := ⟨RX11, "<init>", "()V"⟩
theorem dX11_init_0 : decode cX11_init 0 = .ok (.aload_n 0, 1) := by decide +kernel
theorem dX11_init_1 : decode cX11_init 1 = .ok (.invokespecial 1, 3) := by decide +kernel
theorem dX11_init_4 : decode cX11_init 4 = .ok (.return_, 1) := by decide +kernel
theorem q158 : (Jvm.Cond.initialized "PartyRaft$Test") ∈ lw_all := lw_g (lw_at lw_m1 21 rfl) rfl
theorem q824 : (Jvm.Cond.instanceMethod ({ cls := "PartyRaft$Test", name := "<init>", desc := "()V" } : Jvm.MethodName)) ∈ lw_all := lw_g (lw_at lw_m3 207 rfl) rfl
theorem q825 : (Jvm.Cond.code ({ cls := "PartyRaft$Test", name := "<init>", desc := "()V" } : Jvm.MethodName) prog_12_method_1_code (1 : Nat) (Option.none : Option Jvm.ClassFile.FieldType)) ∈ lw_all := lw_g (lw_at lw_m3 208 rfl) rfl
theorem q826 : (Jvm.Cond.methodLink "PartyRaft$Test" (1 : Nat) ({ cls := "java/lang/Object", name := "<init>", desc := "()V" } : Jvm.MethodName)) ∈ lw_all := lw_g (lw_at lw_m3 209 rfl) rfl
theorem q1070 : (Jvm.Cond.declares ({ cls := "PartyRaft$Test", name := "is", desc := "([J)Z" } : Jvm.MethodName)) ∈ lw_tbl := lw_at lw_m4 213 rfl
theorem q1071 : (Jvm.Cond.sameMethod "PartyRaft$Test" "PartyRaft$Test" "is" "([J)Z") ∈ lw_all := lw_g (lw_at lw_m4 214 rfl) rfl
/-! PartyRaft$Not -/
set_option maxRecDepth 100000
def RX12 : String := "PartyRaft$Not"
def TX12 : u_T := fun k => match k with
  | _ => ("PartyRaft$Not", "test", "LPartyRaft$Test;", true)
def tyX12 : Nat → FieldType := fun k => match k with
  | _ => .object "PartyRaft$Test"
abbrev wsX120 : List Cond := u_ws RX12 TX12 1
theorem nmX12 : ∀ a, a < 1 → ∀ b, b < 1 → a ≠ b → (TX12 a).2.1 ≠ (TX12 b).2.1 := by decide +kernel
theorem tyX12_ok : ∀ k, k < 1 → parseFieldDescriptor (TX12 k).2.2.1 = some (tyX12 k) := by decide +kernel
abbrev cX12_init : ByteArray := prog_8_method_1_code
def yX12_init : MethodName := ⟨RX12, "<init>", "(LPartyRaft$Test;)V"⟩
def dkwX12_init_0 : List UInt8 := [42, 183, 0, 1, 42, 43, 181, 0, 7, 177]
abbrev dktX12_init_0 : List UInt8 := dkwX12_init_0 ++ []
theorem dksX12_init_0 : cX12_init.data.toList.drop 0 = dktX12_init_0 := by decide +kernel
theorem dX12_init_0 : decode cX12_init 0 = .ok (.aload_n 0, 1) := dk_42 (dk_at dksX12_init_0 0 rfl rfl)
theorem dX12_init_1 : decode cX12_init 1 = .ok (.invokespecial 1, 3) := dk_183 0 1 (dk_at dksX12_init_0 1 rfl rfl)
theorem dX12_init_4 : decode cX12_init 4 = .ok (.aload_n 0, 1) := dk_42 (dk_at dksX12_init_0 4 rfl rfl)
theorem dX12_init_5 : decode cX12_init 5 = .ok (.aload_n 1, 1) := dk_43 (dk_at dksX12_init_0 5 rfl rfl)
theorem dX12_init_6 : decode cX12_init 6 = .ok (.putfield 7, 3) := dk_181 0 7 (dk_at dksX12_init_0 6 rfl rfl)
theorem dX12_init_9 : decode cX12_init 9 = .ok (.return_, 1) := dk_177 (dk_at dksX12_init_0 9 rfl rfl)
abbrev cX12_is : ByteArray := prog_8_method_2_code
def yX12_is : MethodName := ⟨RX12, "is", "([J)Z"⟩
def dkwX12_is_0 : List UInt8 := [42, 180, 0, 7, 43, 182, 0, 13, 154, 0, 7, 4, 167, 0, 4, 3, 172]
abbrev dktX12_is_0 : List UInt8 := dkwX12_is_0 ++ []
theorem dksX12_is_0 : cX12_is.data.toList.drop 0 = dktX12_is_0 := by decide +kernel
theorem dX12_is_0 : decode cX12_is 0 = .ok (.aload_n 0, 1) := dk_42 (dk_at dksX12_is_0 0 rfl rfl)
theorem dX12_is_1 : decode cX12_is 1 = .ok (.getfield 7, 3) := dk_180 0 7 (dk_at dksX12_is_0 1 rfl rfl)
theorem dX12_is_4 : decode cX12_is 4 = .ok (.aload_n 1, 1) := dk_43 (dk_at dksX12_is_0 4 rfl rfl)
theorem dX12_is_5 : decode cX12_is 5 = .ok (.invokevirtual 13, 3) := dk_182 0 13 (dk_at dksX12_is_0 5 rfl rfl)
theorem dX12_is_8 : decode cX12_is 8 = .ok (.ifCond .ne 7, 3) := dk_154 0 7 (dk_at dksX12_is_0 8 rfl rfl)
theorem dX12_is_11 : decode cX12_is 11 = .ok (.iconst 1, 1) := dk_4 (dk_at dksX12_is_0 11 rfl rfl)
theorem dX12_is_12 : decode cX12_is 12 = .ok (.goto 4, 3) := dk_167 0 4 (dk_at dksX12_is_0 12 rfl rfl)
theorem dX12_is_15 : decode cX12_is 15 = .ok (.iconst 0, 1) := dk_3 (dk_at dksX12_is_0 15 rfl rfl)
theorem dX12_is_16 : decode cX12_is 16 = .ok (.ireturn, 1) := dk_172 (dk_at dksX12_is_0 16 rfl rfl)
theorem q159 : (Jvm.Cond.initialized "PartyRaft$Not") ∈ lw_all := lw_g (lw_at lw_m1 22 rfl) rfl
theorem q819 : (Jvm.Cond.instantiable "PartyRaft$Not" (1 : Nat)) ∈ lw_all := lw_g (lw_at lw_m3 202 rfl) rfl
theorem q821 : (Jvm.Cond.instanceMethod ({ cls := "PartyRaft$Not", name := "<init>", desc := "(LPartyRaft$Test;)V" } : Jvm.MethodName)) ∈ lw_all := lw_g (lw_at lw_m3 204 rfl) rfl
theorem q822 : (Jvm.Cond.code ({ cls := "PartyRaft$Not", name := "<init>", desc := "(LPartyRaft$Test;)V" } : Jvm.MethodName) prog_8_method_1_code (2 : Nat) (Option.none : Option Jvm.ClassFile.FieldType)) ∈ lw_all := lw_g (lw_at lw_m3 205 rfl) rfl
theorem q823 : (Jvm.Cond.methodLinkNest "PartyRaft$Not" (1 : Nat) ({ cls := "PartyRaft$Test", name := "<init>", desc := "()V" } : Jvm.MethodName) "PartyRaft") ∈ lw_tbl := lw_at lw_m3 206 rfl
theorem q827 : (Jvm.Cond.fieldLink "PartyRaft$Not" (7 : Nat) "PartyRaft$Not" "test" "LPartyRaft$Test;") ∈ lw_all := lw_g (lw_at lw_m3 210 rfl) rfl
theorem q828 : (Jvm.Cond.laysFinal "PartyRaft$Not" "PartyRaft$Not" "test" "LPartyRaft$Test;") ∈ lw_all := lw_g (lw_at lw_m3 211 rfl) rfl
theorem q829 : (Jvm.Cond.soleField "PartyRaft$Not" "test") ∈ lw_all := lw_g (lw_at lw_m3 212 rfl) rfl
theorem q830 : (Jvm.Cond.superclass "PartyRaft$Not" "PartyRaft$Test") ∈ lw_all := lw_g (lw_at lw_m3 213 rfl) rfl
theorem q1091 : (Jvm.Cond.instanceMethod ({ cls := "PartyRaft$Not", name := "is", desc := "([J)Z" } : Jvm.MethodName)) ∈ lw_all := lw_g (lw_at lw_m4 234 rfl) rfl
theorem q1092 : (Jvm.Cond.code ({ cls := "PartyRaft$Not", name := "is", desc := "([J)Z" } : Jvm.MethodName) prog_8_method_2_code (2 : Nat) (Option.some Jvm.ClassFile.FieldType.boolean)) ∈ lw_all := lw_g (lw_at lw_m4 235 rfl) rfl
theorem q1093 : (Jvm.Cond.methodLink "PartyRaft$Not" (13 : Nat) ({ cls := "PartyRaft$Test", name := "is", desc := "([J)Z" } : Jvm.MethodName)) ∈ lw_all := lw_g (lw_at lw_m4 236 rfl) rfl
theorem q1095 : (Jvm.Cond.selects "PartyRaft$Not" ({ cls := "PartyRaft$Test", name := "is", desc := "([J)Z" } : Jvm.MethodName) ({ cls := "PartyRaft$Not", name := "is", desc := "([J)Z" } : Jvm.MethodName)) ∈ lw_all := lw_g (lw_at lw_m4 238 rfl) rfl
theorem in_X12 : ∀ w ∈ wsX120, w ∈ lw_all := lw_in wsX120 [828] (by decide +kernel) (by decide +kernel)
/-! PartyRaft$Compare -/
set_option maxRecDepth 100000
def RX13 : String := "PartyRaft$Compare"
def TX13 : u_T := fun k => match k with
  | 0 => ("PartyRaft$Compare", "first", "LPartyRaft$Value;", true)
  | 1 => ("PartyRaft$Compare", "second", "LPartyRaft$Value;", true)
  | _ => ("PartyRaft$Compare", "sign", "I", true)
def tyX13 : Nat → FieldType := fun k => match k with
  | 0 => .object "PartyRaft$Value"
  | 1 => .object "PartyRaft$Value"
  | _ => .int
abbrev wsX130 : List Cond := u_ws RX13 TX13 3
theorem nmX13 : ∀ a, a < 3 → ∀ b, b < 3 → a ≠ b → (TX13 a).2.1 ≠ (TX13 b).2.1 := by decide +kernel
theorem tyX13_ok : ∀ k, k < 3 → parseFieldDescriptor (TX13 k).2.2.1 = some (tyX13 k) := by decide +kernel
abbrev cX13_init : ByteArray := prog_4_method_1_code
def yX13_init : MethodName := ⟨RX13, "<init>", "(LPartyRaft$Value;ILPartyRaft$Value;)V"⟩
def dkwX13_init_0 : List UInt8 := [42, 183, 0, 1, 42, 43, 181, 0, 7, 42, 28, 181, 0, 13, 42, 45, 181, 0, 17, 177]
abbrev dktX13_init_0 : List UInt8 := dkwX13_init_0 ++ []
theorem dksX13_init_0 : cX13_init.data.toList.drop 0 = dktX13_init_0 := by decide +kernel
theorem dX13_init_0 : decode cX13_init 0 = .ok (.aload_n 0, 1) := dk_42 (dk_at dksX13_init_0 0 rfl rfl)
theorem dX13_init_1 : decode cX13_init 1 = .ok (.invokespecial 1, 3) := dk_183 0 1 (dk_at dksX13_init_0 1 rfl rfl)
theorem dX13_init_4 : decode cX13_init 4 = .ok (.aload_n 0, 1) := dk_42 (dk_at dksX13_init_0 4 rfl rfl)
theorem dX13_init_5 : decode cX13_init 5 = .ok (.aload_n 1, 1) := dk_43 (dk_at dksX13_init_0 5 rfl rfl)
theorem dX13_init_6 : decode cX13_init 6 = .ok (.putfield 7, 3) := dk_181 0 7 (dk_at dksX13_init_0 6 rfl rfl)
theorem dX13_init_9 : decode cX13_init 9 = .ok (.aload_n 0, 1) := dk_42 (dk_at dksX13_init_0 9 rfl rfl)
theorem dX13_init_10 : decode cX13_init 10 = .ok (.iload_n 2, 1) := dk_28 (dk_at dksX13_init_0 10 rfl rfl)
theorem dX13_init_11 : decode cX13_init 11 = .ok (.putfield 13, 3) := dk_181 0 13 (dk_at dksX13_init_0 11 rfl rfl)
theorem dX13_init_14 : decode cX13_init 14 = .ok (.aload_n 0, 1) := dk_42 (dk_at dksX13_init_0 14 rfl rfl)
theorem dX13_init_15 : decode cX13_init 15 = .ok (.aload_n 3, 1) := dk_45 (dk_at dksX13_init_0 15 rfl rfl)
theorem dX13_init_16 : decode cX13_init 16 = .ok (.putfield 17, 3) := dk_181 0 17 (dk_at dksX13_init_0 16 rfl rfl)
theorem dX13_init_19 : decode cX13_init 19 = .ok (.return_, 1) := dk_177 (dk_at dksX13_init_0 19 rfl rfl)
abbrev cX13_is : ByteArray := prog_4_method_2_code
def yX13_is : MethodName := ⟨RX13, "is", "([J)Z"⟩
def dkwX13_is_4 : List UInt8 := [167, 0, 4, 3, 172, 32, 22, 4, 148, 158, 0, 7, 4, 167, 0, 4, 3, 172]
abbrev dktX13_is_4 : List UInt8 := dkwX13_is_4 ++ []
def dkwX13_is_3 : List UInt8 := [3, 172, 32, 22, 4, 148, 154, 0, 7, 4, 167, 0, 4, 3, 172, 32, 22, 4, 148, 155, 0, 7, 4]
abbrev dktX13_is_3 : List UInt8 := dkwX13_is_3 ++ dktX13_is_4
def dkwX13_is_2 : List UInt8 := [32, 22, 4, 148, 156, 0, 7, 4, 167, 0, 4, 3, 172, 32, 22, 4, 148, 157, 0, 7, 4, 167, 0, 4]
abbrev dktX13_is_2 : List UInt8 := dkwX13_is_2 ++ dktX13_is_3
def dkwX13_is_1 : List UInt8 := [170, 0, 0, 0, 81, 0, 0, 0, 0, 0, 0, 0, 3, 0, 0, 0, 29, 0, 0, 0, 42, 0, 0, 0, 55, 0, 0, 0, 68]
abbrev dktX13_is_1 : List UInt8 := dkwX13_is_1 ++ dktX13_is_2
def dkwX13_is_0 : List UInt8 := [42, 180, 0, 7, 43, 182, 0, 20, 65, 42, 180, 0, 17, 43, 182, 0, 20, 55, 4, 42, 180, 0, 13]
abbrev dktX13_is_0 : List UInt8 := dkwX13_is_0 ++ dktX13_is_1
theorem dksX13_is_0 : cX13_is.data.toList.drop 0 = dktX13_is_0 := by decide +kernel
theorem dksX13_is_1 : cX13_is.data.toList.drop 23 = dktX13_is_1 := dk_seg dksX13_is_0 23 rfl rfl
theorem dksX13_is_2 : cX13_is.data.toList.drop 52 = dktX13_is_2 := dk_seg dksX13_is_1 29 rfl rfl
theorem dksX13_is_3 : cX13_is.data.toList.drop 76 = dktX13_is_3 := dk_seg dksX13_is_2 24 rfl rfl
theorem dksX13_is_4 : cX13_is.data.toList.drop 99 = dktX13_is_4 := dk_seg dksX13_is_3 23 rfl rfl
theorem dX13_is_0 : decode cX13_is 0 = .ok (.aload_n 0, 1) := dk_42 (dk_at dksX13_is_0 0 rfl rfl)
theorem dX13_is_1 : decode cX13_is 1 = .ok (.getfield 7, 3) := dk_180 0 7 (dk_at dksX13_is_0 1 rfl rfl)
theorem dX13_is_4 : decode cX13_is 4 = .ok (.aload_n 1, 1) := dk_43 (dk_at dksX13_is_0 4 rfl rfl)
theorem dX13_is_5 : decode cX13_is 5 = .ok (.invokevirtual 20, 3) := dk_182 0 20 (dk_at dksX13_is_0 5 rfl rfl)
theorem dX13_is_8 : decode cX13_is 8 = .ok (.lstore_n 2, 1) := dk_65 (dk_at dksX13_is_0 8 rfl rfl)
theorem dX13_is_9 : decode cX13_is 9 = .ok (.aload_n 0, 1) := dk_42 (dk_at dksX13_is_0 9 rfl rfl)
theorem dX13_is_10 : decode cX13_is 10 = .ok (.getfield 17, 3) := dk_180 0 17 (dk_at dksX13_is_0 10 rfl rfl)
theorem dX13_is_13 : decode cX13_is 13 = .ok (.aload_n 1, 1) := dk_43 (dk_at dksX13_is_0 13 rfl rfl)
theorem dX13_is_14 : decode cX13_is 14 = .ok (.invokevirtual 20, 3) := dk_182 0 20 (dk_at dksX13_is_0 14 rfl rfl)
theorem dX13_is_17 : decode cX13_is 17 = .ok (.lstore 4, 2) := dk_55 4 (dk_at dksX13_is_0 17 rfl rfl)
theorem dX13_is_19 : decode cX13_is 19 = .ok (.aload_n 0, 1) := dk_42 (dk_at dksX13_is_0 19 rfl rfl)
theorem dX13_is_20 : decode cX13_is 20 = .ok (.getfield 13, 3) := dk_180 0 13 (dk_at dksX13_is_0 20 rfl rfl)
theorem dX13_is_23 : decode cX13_is 23 = .ok (.tableswitch 81 0 3 #[29, 42, 55, 68], 29) := by decide +kernel
theorem dX13_is_52 : decode cX13_is 52 = .ok (.lload_n 2, 1) := dk_32 (dk_at dksX13_is_2 0 rfl rfl)
theorem dX13_is_53 : decode cX13_is 53 = .ok (.lload 4, 2) := dk_22 4 (dk_at dksX13_is_2 1 rfl rfl)
theorem dX13_is_55 : decode cX13_is 55 = .ok (.lcmp, 1) := dk_148 (dk_at dksX13_is_2 3 rfl rfl)
theorem dX13_is_56 : decode cX13_is 56 = .ok (.ifCond .ge 7, 3) := dk_156 0 7 (dk_at dksX13_is_2 4 rfl rfl)
theorem dX13_is_59 : decode cX13_is 59 = .ok (.iconst 1, 1) := dk_4 (dk_at dksX13_is_2 7 rfl rfl)
theorem dX13_is_60 : decode cX13_is 60 = .ok (.goto 4, 3) := dk_167 0 4 (dk_at dksX13_is_2 8 rfl rfl)
theorem dX13_is_63 : decode cX13_is 63 = .ok (.iconst 0, 1) := dk_3 (dk_at dksX13_is_2 11 rfl rfl)
theorem dX13_is_64 : decode cX13_is 64 = .ok (.ireturn, 1) := dk_172 (dk_at dksX13_is_2 12 rfl rfl)
theorem dX13_is_65 : decode cX13_is 65 = .ok (.lload_n 2, 1) := dk_32 (dk_at dksX13_is_2 13 rfl rfl)
theorem dX13_is_66 : decode cX13_is 66 = .ok (.lload 4, 2) := dk_22 4 (dk_at dksX13_is_2 14 rfl rfl)
theorem dX13_is_68 : decode cX13_is 68 = .ok (.lcmp, 1) := dk_148 (dk_at dksX13_is_2 16 rfl rfl)
theorem dX13_is_69 : decode cX13_is 69 = .ok (.ifCond .gt 7, 3) := dk_157 0 7 (dk_at dksX13_is_2 17 rfl rfl)
theorem dX13_is_72 : decode cX13_is 72 = .ok (.iconst 1, 1) := dk_4 (dk_at dksX13_is_2 20 rfl rfl)
theorem dX13_is_73 : decode cX13_is 73 = .ok (.goto 4, 3) := dk_167 0 4 (dk_at dksX13_is_2 21 rfl rfl)
theorem dX13_is_76 : decode cX13_is 76 = .ok (.iconst 0, 1) := dk_3 (dk_at dksX13_is_3 0 rfl rfl)
theorem dX13_is_77 : decode cX13_is 77 = .ok (.ireturn, 1) := dk_172 (dk_at dksX13_is_3 1 rfl rfl)
theorem dX13_is_78 : decode cX13_is 78 = .ok (.lload_n 2, 1) := dk_32 (dk_at dksX13_is_3 2 rfl rfl)
theorem dX13_is_79 : decode cX13_is 79 = .ok (.lload 4, 2) := dk_22 4 (dk_at dksX13_is_3 3 rfl rfl)
theorem dX13_is_81 : decode cX13_is 81 = .ok (.lcmp, 1) := dk_148 (dk_at dksX13_is_3 5 rfl rfl)
theorem dX13_is_82 : decode cX13_is 82 = .ok (.ifCond .ne 7, 3) := dk_154 0 7 (dk_at dksX13_is_3 6 rfl rfl)
theorem dX13_is_85 : decode cX13_is 85 = .ok (.iconst 1, 1) := dk_4 (dk_at dksX13_is_3 9 rfl rfl)
theorem dX13_is_86 : decode cX13_is 86 = .ok (.goto 4, 3) := dk_167 0 4 (dk_at dksX13_is_3 10 rfl rfl)
theorem dX13_is_89 : decode cX13_is 89 = .ok (.iconst 0, 1) := dk_3 (dk_at dksX13_is_3 13 rfl rfl)
theorem dX13_is_90 : decode cX13_is 90 = .ok (.ireturn, 1) := dk_172 (dk_at dksX13_is_3 14 rfl rfl)
theorem dX13_is_91 : decode cX13_is 91 = .ok (.lload_n 2, 1) := dk_32 (dk_at dksX13_is_3 15 rfl rfl)
theorem dX13_is_92 : decode cX13_is 92 = .ok (.lload 4, 2) := dk_22 4 (dk_at dksX13_is_3 16 rfl rfl)
theorem dX13_is_94 : decode cX13_is 94 = .ok (.lcmp, 1) := dk_148 (dk_at dksX13_is_3 18 rfl rfl)
theorem dX13_is_95 : decode cX13_is 95 = .ok (.ifCond .lt 7, 3) := dk_155 0 7 (dk_at dksX13_is_3 19 rfl rfl)
theorem dX13_is_98 : decode cX13_is 98 = .ok (.iconst 1, 1) := dk_4 (dk_at dksX13_is_3 22 rfl rfl)
theorem dX13_is_99 : decode cX13_is 99 = .ok (.goto 4, 3) := dk_167 0 4 (dk_at dksX13_is_4 0 rfl rfl)
theorem dX13_is_102 : decode cX13_is 102 = .ok (.iconst 0, 1) := dk_3 (dk_at dksX13_is_4 3 rfl rfl)
theorem dX13_is_103 : decode cX13_is 103 = .ok (.ireturn, 1) := dk_172 (dk_at dksX13_is_4 4 rfl rfl)
theorem dX13_is_104 : decode cX13_is 104 = .ok (.lload_n 2, 1) := dk_32 (dk_at dksX13_is_4 5 rfl rfl)
theorem dX13_is_105 : decode cX13_is 105 = .ok (.lload 4, 2) := dk_22 4 (dk_at dksX13_is_4 6 rfl rfl)
theorem dX13_is_107 : decode cX13_is 107 = .ok (.lcmp, 1) := dk_148 (dk_at dksX13_is_4 8 rfl rfl)
theorem dX13_is_108 : decode cX13_is 108 = .ok (.ifCond .le 7, 3) := dk_158 0 7 (dk_at dksX13_is_4 9 rfl rfl)
theorem dX13_is_111 : decode cX13_is 111 = .ok (.iconst 1, 1) := dk_4 (dk_at dksX13_is_4 12 rfl rfl)
theorem dX13_is_112 : decode cX13_is 112 = .ok (.goto 4, 3) := dk_167 0 4 (dk_at dksX13_is_4 13 rfl rfl)
theorem dX13_is_115 : decode cX13_is 115 = .ok (.iconst 0, 1) := dk_3 (dk_at dksX13_is_4 16 rfl rfl)
theorem dX13_is_116 : decode cX13_is 116 = .ok (.ireturn, 1) := dk_172 (dk_at dksX13_is_4 17 rfl rfl)
theorem q160 : (Jvm.Cond.initialized "PartyRaft$Compare") ∈ lw_all := lw_g (lw_at lw_m1 23 rfl) rfl
theorem q836 : (Jvm.Cond.instantiable "PartyRaft$Compare" (3 : Nat)) ∈ lw_all := lw_g (lw_at lw_m3 219 rfl) rfl
theorem q838 : (Jvm.Cond.instanceMethod ({ cls := "PartyRaft$Compare", name := "<init>", desc := "(LPartyRaft$Value;ILPartyRaft$Value;)V" } : Jvm.MethodName)) ∈ lw_all := lw_g (lw_at lw_m3 221 rfl) rfl
theorem q839 : (Jvm.Cond.code ({ cls := "PartyRaft$Compare", name := "<init>", desc := "(LPartyRaft$Value;ILPartyRaft$Value;)V" } : Jvm.MethodName) prog_4_method_1_code (4 : Nat) (Option.none : Option Jvm.ClassFile.FieldType)) ∈ lw_all := lw_g (lw_at lw_m3 222 rfl) rfl
theorem q840 : (Jvm.Cond.methodLinkNest "PartyRaft$Compare" (1 : Nat) ({ cls := "PartyRaft$Test", name := "<init>", desc := "()V" } : Jvm.MethodName) "PartyRaft") ∈ lw_tbl := lw_at lw_m3 223 rfl
theorem q841 : (Jvm.Cond.fieldLink "PartyRaft$Compare" (7 : Nat) "PartyRaft$Compare" "first" "LPartyRaft$Value;") ∈ lw_all := lw_g (lw_at lw_m3 224 rfl) rfl
theorem q842 : (Jvm.Cond.fieldLink "PartyRaft$Compare" (17 : Nat) "PartyRaft$Compare" "second" "LPartyRaft$Value;") ∈ lw_all := lw_g (lw_at lw_m3 225 rfl) rfl
theorem q843 : (Jvm.Cond.fieldLink "PartyRaft$Compare" (13 : Nat) "PartyRaft$Compare" "sign" "I") ∈ lw_all := lw_g (lw_at lw_m3 226 rfl) rfl
theorem q844 : (Jvm.Cond.laysFinal "PartyRaft$Compare" "PartyRaft$Compare" "first" "LPartyRaft$Value;") ∈ lw_all := lw_g (lw_at lw_m3 227 rfl) rfl
theorem q845 : (Jvm.Cond.soleField "PartyRaft$Compare" "first") ∈ lw_all := lw_g (lw_at lw_m3 228 rfl) rfl
theorem q846 : (Jvm.Cond.laysFinal "PartyRaft$Compare" "PartyRaft$Compare" "second" "LPartyRaft$Value;") ∈ lw_all := lw_g (lw_at lw_m3 229 rfl) rfl
theorem q847 : (Jvm.Cond.soleField "PartyRaft$Compare" "second") ∈ lw_all := lw_g (lw_at lw_m3 230 rfl) rfl
theorem q848 : (Jvm.Cond.laysFinal "PartyRaft$Compare" "PartyRaft$Compare" "sign" "I") ∈ lw_all := lw_g (lw_at lw_m3 231 rfl) rfl
theorem q849 : (Jvm.Cond.soleField "PartyRaft$Compare" "sign") ∈ lw_all := lw_g (lw_at lw_m3 232 rfl) rfl
theorem q850 : (Jvm.Cond.superclass "PartyRaft$Compare" "PartyRaft$Test") ∈ lw_all := lw_g (lw_at lw_m3 233 rfl) rfl
theorem q1076 : (Jvm.Cond.instanceMethod ({ cls := "PartyRaft$Compare", name := "is", desc := "([J)Z" } : Jvm.MethodName)) ∈ lw_all := lw_g (lw_at lw_m4 219 rfl) rfl
theorem q1077 : (Jvm.Cond.code ({ cls := "PartyRaft$Compare", name := "is", desc := "([J)Z" } : Jvm.MethodName) prog_4_method_2_code (6 : Nat) (Option.some Jvm.ClassFile.FieldType.boolean)) ∈ lw_all := lw_g (lw_at lw_m4 220 rfl) rfl
theorem q1078 : (Jvm.Cond.methodLink "PartyRaft$Compare" (20 : Nat) ({ cls := "PartyRaft$Value", name := "of", desc := "([J)J" } : Jvm.MethodName)) ∈ lw_all := lw_g (lw_at lw_m4 221 rfl) rfl
theorem q1094 : (Jvm.Cond.selects "PartyRaft$Compare" ({ cls := "PartyRaft$Test", name := "is", desc := "([J)Z" } : Jvm.MethodName) ({ cls := "PartyRaft$Compare", name := "is", desc := "([J)Z" } : Jvm.MethodName)) ∈ lw_all := lw_g (lw_at lw_m4 237 rfl) rfl
theorem in_X13 : ∀ w ∈ wsX130, w ∈ lw_all := lw_in wsX130 [844, 846, 848] (by decide +kernel) (by decide +kernel)
/-! PartyRaft$Both -/
set_option maxRecDepth 100000
def RX14 : String := "PartyRaft$Both"
def TX14 : u_T := fun k => match k with
  | 0 => ("PartyRaft$Both", "first", "LPartyRaft$Test;", true)
  | 1 => ("PartyRaft$Both", "second", "LPartyRaft$Test;", true)
  | _ => ("PartyRaft$Both", "isAnd", "Z", true)
def tyX14 : Nat → FieldType := fun k => match k with
  | 0 => .object "PartyRaft$Test"
  | 1 => .object "PartyRaft$Test"
  | _ => .boolean
abbrev wsX140 : List Cond := u_ws RX14 TX14 3
theorem nmX14 : ∀ a, a < 3 → ∀ b, b < 3 → a ≠ b → (TX14 a).2.1 ≠ (TX14 b).2.1 := by decide +kernel
theorem tyX14_ok : ∀ k, k < 3 → parseFieldDescriptor (TX14 k).2.2.1 = some (tyX14 k) := by decide +kernel
abbrev cX14_init : ByteArray := prog_2_method_1_code
def yX14_init : MethodName := ⟨RX14, "<init>", "(LPartyRaft$Test;ZLPartyRaft$Test;)V"⟩
def dkwX14_init_0 : List UInt8 := [42, 183, 0, 1, 42, 43, 181, 0, 7, 42, 28, 181, 0, 13, 42, 45, 181, 0, 17, 177]
abbrev dktX14_init_0 : List UInt8 := dkwX14_init_0 ++ []
theorem dksX14_init_0 : cX14_init.data.toList.drop 0 = dktX14_init_0 := by decide +kernel
theorem dX14_init_0 : decode cX14_init 0 = .ok (.aload_n 0, 1) := dk_42 (dk_at dksX14_init_0 0 rfl rfl)
theorem dX14_init_1 : decode cX14_init 1 = .ok (.invokespecial 1, 3) := dk_183 0 1 (dk_at dksX14_init_0 1 rfl rfl)
theorem dX14_init_4 : decode cX14_init 4 = .ok (.aload_n 0, 1) := dk_42 (dk_at dksX14_init_0 4 rfl rfl)
theorem dX14_init_5 : decode cX14_init 5 = .ok (.aload_n 1, 1) := dk_43 (dk_at dksX14_init_0 5 rfl rfl)
theorem dX14_init_6 : decode cX14_init 6 = .ok (.putfield 7, 3) := dk_181 0 7 (dk_at dksX14_init_0 6 rfl rfl)
theorem dX14_init_9 : decode cX14_init 9 = .ok (.aload_n 0, 1) := dk_42 (dk_at dksX14_init_0 9 rfl rfl)
theorem dX14_init_10 : decode cX14_init 10 = .ok (.iload_n 2, 1) := dk_28 (dk_at dksX14_init_0 10 rfl rfl)
theorem dX14_init_11 : decode cX14_init 11 = .ok (.putfield 13, 3) := dk_181 0 13 (dk_at dksX14_init_0 11 rfl rfl)
theorem dX14_init_14 : decode cX14_init 14 = .ok (.aload_n 0, 1) := dk_42 (dk_at dksX14_init_0 14 rfl rfl)
theorem dX14_init_15 : decode cX14_init 15 = .ok (.aload_n 3, 1) := dk_45 (dk_at dksX14_init_0 15 rfl rfl)
theorem dX14_init_16 : decode cX14_init 16 = .ok (.putfield 17, 3) := dk_181 0 17 (dk_at dksX14_init_0 16 rfl rfl)
theorem dX14_init_19 : decode cX14_init 19 = .ok (.return_, 1) := dk_177 (dk_at dksX14_init_0 19 rfl rfl)
abbrev cX14_is : ByteArray := prog_2_method_2_code
def yX14_is : MethodName := ⟨RX14, "is", "([J)Z"⟩
def dkwX14_is_2 : List UInt8 := [154, 0, 14, 42, 180, 0, 17, 43, 182, 0, 20, 153, 0, 7, 4, 167, 0, 4, 3, 172]
abbrev dktX14_is_2 : List UInt8 := dkwX14_is_2 ++ []
def dkwX14_is_1 : List UInt8 := [182, 0, 20, 153, 0, 7, 4, 167, 0, 34, 3, 167, 0, 30, 42, 180, 0, 7, 43, 182, 0, 20]
abbrev dktX14_is_1 : List UInt8 := dkwX14_is_1 ++ dktX14_is_2
def dkwX14_is_0 : List UInt8 := [42, 180, 0, 13, 153, 0, 33, 42, 180, 0, 7, 43, 182, 0, 20, 153, 0, 18, 42, 180, 0, 17, 43]
abbrev dktX14_is_0 : List UInt8 := dkwX14_is_0 ++ dktX14_is_1
theorem dksX14_is_0 : cX14_is.data.toList.drop 0 = dktX14_is_0 := by decide +kernel
theorem dksX14_is_1 : cX14_is.data.toList.drop 23 = dktX14_is_1 := dk_seg dksX14_is_0 23 rfl rfl
theorem dksX14_is_2 : cX14_is.data.toList.drop 45 = dktX14_is_2 := dk_seg dksX14_is_1 22 rfl rfl
theorem dX14_is_0 : decode cX14_is 0 = .ok (.aload_n 0, 1) := dk_42 (dk_at dksX14_is_0 0 rfl rfl)
theorem dX14_is_1 : decode cX14_is 1 = .ok (.getfield 13, 3) := dk_180 0 13 (dk_at dksX14_is_0 1 rfl rfl)
theorem dX14_is_4 : decode cX14_is 4 = .ok (.ifCond .eq 33, 3) := dk_153 0 33 (dk_at dksX14_is_0 4 rfl rfl)
theorem dX14_is_7 : decode cX14_is 7 = .ok (.aload_n 0, 1) := dk_42 (dk_at dksX14_is_0 7 rfl rfl)
theorem dX14_is_8 : decode cX14_is 8 = .ok (.getfield 7, 3) := dk_180 0 7 (dk_at dksX14_is_0 8 rfl rfl)
theorem dX14_is_11 : decode cX14_is 11 = .ok (.aload_n 1, 1) := dk_43 (dk_at dksX14_is_0 11 rfl rfl)
theorem dX14_is_12 : decode cX14_is 12 = .ok (.invokevirtual 20, 3) := dk_182 0 20 (dk_at dksX14_is_0 12 rfl rfl)
theorem dX14_is_15 : decode cX14_is 15 = .ok (.ifCond .eq 18, 3) := dk_153 0 18 (dk_at dksX14_is_0 15 rfl rfl)
theorem dX14_is_18 : decode cX14_is 18 = .ok (.aload_n 0, 1) := dk_42 (dk_at dksX14_is_0 18 rfl rfl)
theorem dX14_is_19 : decode cX14_is 19 = .ok (.getfield 17, 3) := dk_180 0 17 (dk_at dksX14_is_0 19 rfl rfl)
theorem dX14_is_22 : decode cX14_is 22 = .ok (.aload_n 1, 1) := dk_43 (dk_at dksX14_is_0 22 rfl rfl)
theorem dX14_is_23 : decode cX14_is 23 = .ok (.invokevirtual 20, 3) := dk_182 0 20 (dk_at dksX14_is_1 0 rfl rfl)
theorem dX14_is_26 : decode cX14_is 26 = .ok (.ifCond .eq 7, 3) := dk_153 0 7 (dk_at dksX14_is_1 3 rfl rfl)
theorem dX14_is_29 : decode cX14_is 29 = .ok (.iconst 1, 1) := dk_4 (dk_at dksX14_is_1 6 rfl rfl)
theorem dX14_is_30 : decode cX14_is 30 = .ok (.goto 34, 3) := dk_167 0 34 (dk_at dksX14_is_1 7 rfl rfl)
theorem dX14_is_33 : decode cX14_is 33 = .ok (.iconst 0, 1) := dk_3 (dk_at dksX14_is_1 10 rfl rfl)
theorem dX14_is_34 : decode cX14_is 34 = .ok (.goto 30, 3) := dk_167 0 30 (dk_at dksX14_is_1 11 rfl rfl)
theorem dX14_is_37 : decode cX14_is 37 = .ok (.aload_n 0, 1) := dk_42 (dk_at dksX14_is_1 14 rfl rfl)
theorem dX14_is_38 : decode cX14_is 38 = .ok (.getfield 7, 3) := dk_180 0 7 (dk_at dksX14_is_1 15 rfl rfl)
theorem dX14_is_41 : decode cX14_is 41 = .ok (.aload_n 1, 1) := dk_43 (dk_at dksX14_is_1 18 rfl rfl)
theorem dX14_is_42 : decode cX14_is 42 = .ok (.invokevirtual 20, 3) := dk_182 0 20 (dk_at dksX14_is_1 19 rfl rfl)
theorem dX14_is_45 : decode cX14_is 45 = .ok (.ifCond .ne 14, 3) := dk_154 0 14 (dk_at dksX14_is_2 0 rfl rfl)
theorem dX14_is_48 : decode cX14_is 48 = .ok (.aload_n 0, 1) := dk_42 (dk_at dksX14_is_2 3 rfl rfl)
theorem dX14_is_49 : decode cX14_is 49 = .ok (.getfield 17, 3) := dk_180 0 17 (dk_at dksX14_is_2 4 rfl rfl)
theorem dX14_is_52 : decode cX14_is 52 = .ok (.aload_n 1, 1) := dk_43 (dk_at dksX14_is_2 7 rfl rfl)
theorem dX14_is_53 : decode cX14_is 53 = .ok (.invokevirtual 20, 3) := dk_182 0 20 (dk_at dksX14_is_2 8 rfl rfl)
theorem dX14_is_56 : decode cX14_is 56 = .ok (.ifCond .eq 7, 3) := dk_153 0 7 (dk_at dksX14_is_2 11 rfl rfl)
theorem dX14_is_59 : decode cX14_is 59 = .ok (.iconst 1, 1) := dk_4 (dk_at dksX14_is_2 14 rfl rfl)
theorem dX14_is_60 : decode cX14_is 60 = .ok (.goto 4, 3) := dk_167 0 4 (dk_at dksX14_is_2 15 rfl rfl)
theorem dX14_is_63 : decode cX14_is 63 = .ok (.iconst 0, 1) := dk_3 (dk_at dksX14_is_2 18 rfl rfl)
theorem dX14_is_64 : decode cX14_is 64 = .ok (.ireturn, 1) := dk_172 (dk_at dksX14_is_2 19 rfl rfl)
theorem q161 : (Jvm.Cond.initialized "PartyRaft$Both") ∈ lw_all := lw_g (lw_at lw_m1 24 rfl) rfl
theorem q853 : (Jvm.Cond.instantiable "PartyRaft$Both" (3 : Nat)) ∈ lw_all := lw_g (lw_at lw_m3 236 rfl) rfl
theorem q855 : (Jvm.Cond.instanceMethod ({ cls := "PartyRaft$Both", name := "<init>", desc := "(LPartyRaft$Test;ZLPartyRaft$Test;)V" } : Jvm.MethodName)) ∈ lw_all := lw_g (lw_at lw_m3 238 rfl) rfl
theorem q856 : (Jvm.Cond.code ({ cls := "PartyRaft$Both", name := "<init>", desc := "(LPartyRaft$Test;ZLPartyRaft$Test;)V" } : Jvm.MethodName) prog_2_method_1_code (4 : Nat) (Option.none : Option Jvm.ClassFile.FieldType)) ∈ lw_all := lw_g (lw_at lw_m3 239 rfl) rfl
theorem q857 : (Jvm.Cond.methodLinkNest "PartyRaft$Both" (1 : Nat) ({ cls := "PartyRaft$Test", name := "<init>", desc := "()V" } : Jvm.MethodName) "PartyRaft") ∈ lw_tbl := lw_at lw_m4 0 rfl
theorem q858 : (Jvm.Cond.fieldLink "PartyRaft$Both" (7 : Nat) "PartyRaft$Both" "first" "LPartyRaft$Test;") ∈ lw_all := lw_g (lw_at lw_m4 1 rfl) rfl
theorem q859 : (Jvm.Cond.fieldLink "PartyRaft$Both" (17 : Nat) "PartyRaft$Both" "second" "LPartyRaft$Test;") ∈ lw_all := lw_g (lw_at lw_m4 2 rfl) rfl
theorem q860 : (Jvm.Cond.fieldLink "PartyRaft$Both" (13 : Nat) "PartyRaft$Both" "isAnd" "Z") ∈ lw_all := lw_g (lw_at lw_m4 3 rfl) rfl
theorem q861 : (Jvm.Cond.laysFinal "PartyRaft$Both" "PartyRaft$Both" "first" "LPartyRaft$Test;") ∈ lw_all := lw_g (lw_at lw_m4 4 rfl) rfl
theorem q862 : (Jvm.Cond.soleField "PartyRaft$Both" "first") ∈ lw_all := lw_g (lw_at lw_m4 5 rfl) rfl
theorem q863 : (Jvm.Cond.laysFinal "PartyRaft$Both" "PartyRaft$Both" "second" "LPartyRaft$Test;") ∈ lw_all := lw_g (lw_at lw_m4 6 rfl) rfl
theorem q864 : (Jvm.Cond.soleField "PartyRaft$Both" "second") ∈ lw_all := lw_g (lw_at lw_m4 7 rfl) rfl
theorem q865 : (Jvm.Cond.laysFinal "PartyRaft$Both" "PartyRaft$Both" "isAnd" "Z") ∈ lw_all := lw_g (lw_at lw_m4 8 rfl) rfl
theorem q866 : (Jvm.Cond.soleField "PartyRaft$Both" "isAnd") ∈ lw_all := lw_g (lw_at lw_m4 9 rfl) rfl
theorem q867 : (Jvm.Cond.superclass "PartyRaft$Both" "PartyRaft$Test") ∈ lw_all := lw_g (lw_at lw_m4 10 rfl) rfl
theorem q1072 : (Jvm.Cond.selects "PartyRaft$Both" ({ cls := "PartyRaft$Test", name := "is", desc := "([J)Z" } : Jvm.MethodName) ({ cls := "PartyRaft$Both", name := "is", desc := "([J)Z" } : Jvm.MethodName)) ∈ lw_all := lw_g (lw_at lw_m4 215 rfl) rfl
theorem q1073 : (Jvm.Cond.instanceMethod ({ cls := "PartyRaft$Both", name := "is", desc := "([J)Z" } : Jvm.MethodName)) ∈ lw_all := lw_g (lw_at lw_m4 216 rfl) rfl
theorem q1074 : (Jvm.Cond.code ({ cls := "PartyRaft$Both", name := "is", desc := "([J)Z" } : Jvm.MethodName) prog_2_method_2_code (2 : Nat) (Option.some Jvm.ClassFile.FieldType.boolean)) ∈ lw_all := lw_g (lw_at lw_m4 217 rfl) rfl
theorem q1075 : (Jvm.Cond.methodLink "PartyRaft$Both" (20 : Nat) ({ cls := "PartyRaft$Test", name := "is", desc := "([J)Z" } : Jvm.MethodName)) ∈ lw_all := lw_g (lw_at lw_m4 218 rfl) rfl
theorem in_X14 : ∀ w ∈ wsX140, w ∈ lw_all := lw_in wsX140 [861, 863, 865] (by decide +kernel) (by decide +kernel)
/-! PartyRaft$Image -/
set_option maxRecDepth 100000
def RX15 : String := "PartyRaft$Image"
def TX15 : u_T := fun k => match k with
  | 0 => ("PartyRaft$Image", "flow", "LPartyRaft$Flow;", true)
  | 1 => ("PartyRaft$Image", "isTold", "Z", false)
  | _ => ("PartyRaft$Image", "x", "I", false)
def tyX15 : Nat → FieldType := fun k => match k with
  | 0 => .object "PartyRaft$Flow"
  | 1 => .boolean
  | _ => .int
abbrev wsX150 : List Cond := u_ws RX15 TX15 3
theorem nmX15 : ∀ a, a < 3 → ∀ b, b < 3 → a ≠ b → (TX15 a).2.1 ≠ (TX15 b).2.1 := by decide +kernel
theorem tyX15_ok : ∀ k, k < 3 → parseFieldDescriptor (TX15 k).2.2.1 = some (tyX15 k) := by decide +kernel
abbrev cX15_init : ByteArray := prog_7_method_1_code
def yX15_init : MethodName := ⟨RX15, "<init>", "()V"⟩
def dkwX15_init_0 : List UInt8 := [42, 183, 0, 1, 42, 187, 0, 7, 89, 183, 0, 9, 181, 0, 10, 177]
abbrev dktX15_init_0 : List UInt8 := dkwX15_init_0 ++ []
theorem dksX15_init_0 : cX15_init.data.toList.drop 0 = dktX15_init_0 := by decide +kernel
theorem dX15_init_0 : decode cX15_init 0 = .ok (.aload_n 0, 1) := dk_42 (dk_at dksX15_init_0 0 rfl rfl)
theorem dX15_init_1 : decode cX15_init 1 = .ok (.invokespecial 1, 3) := dk_183 0 1 (dk_at dksX15_init_0 1 rfl rfl)
theorem dX15_init_4 : decode cX15_init 4 = .ok (.aload_n 0, 1) := dk_42 (dk_at dksX15_init_0 4 rfl rfl)
theorem dX15_init_5 : decode cX15_init 5 = .ok (.new 7, 3) := dk_187 0 7 (dk_at dksX15_init_0 5 rfl rfl)
theorem dX15_init_8 : decode cX15_init 8 = .ok (.dup, 1) := dk_89 (dk_at dksX15_init_0 8 rfl rfl)
theorem dX15_init_9 : decode cX15_init 9 = .ok (.invokespecial 9, 3) := dk_183 0 9 (dk_at dksX15_init_0 9 rfl rfl)
theorem dX15_init_12 : decode cX15_init 12 = .ok (.putfield 10, 3) := dk_181 0 10 (dk_at dksX15_init_0 12 rfl rfl)
theorem dX15_init_15 : decode cX15_init 15 = .ok (.return_, 1) := dk_177 (dk_at dksX15_init_0 15 rfl rfl)
theorem q163 : (Jvm.Cond.initialized "PartyRaft$Image") ∈ lw_all := lw_g (lw_at lw_m1 26 rfl) rfl
theorem q1240 : (Jvm.Cond.instantiable "PartyRaft$Image" (3 : Nat)) ∈ lw_all := lw_g (lw_at lw_m5 143 rfl) rfl
theorem q1242 : (Jvm.Cond.instanceMethod ({ cls := "PartyRaft$Image", name := "<init>", desc := "()V" } : Jvm.MethodName)) ∈ lw_all := lw_g (lw_at lw_m5 145 rfl) rfl
theorem q1243 : (Jvm.Cond.code ({ cls := "PartyRaft$Image", name := "<init>", desc := "()V" } : Jvm.MethodName) prog_7_method_1_code (1 : Nat) (Option.none : Option Jvm.ClassFile.FieldType)) ∈ lw_all := lw_g (lw_at lw_m5 146 rfl) rfl
theorem q1244 : (Jvm.Cond.methodLink "PartyRaft$Image" (1 : Nat) ({ cls := "java/lang/Object", name := "<init>", desc := "()V" } : Jvm.MethodName)) ∈ lw_all := lw_g (lw_at lw_m5 147 rfl) rfl
theorem q1245 : (Jvm.Cond.classLink "PartyRaft$Image" (7 : Nat) "PartyRaft$Flow") ∈ lw_all := lw_g (lw_at lw_m5 148 rfl) rfl
theorem q1246 : (Jvm.Cond.methodLinkNest "PartyRaft$Image" (9 : Nat) ({ cls := "PartyRaft$Flow", name := "<init>", desc := "()V" } : Jvm.MethodName) "PartyRaft") ∈ lw_tbl := lw_at lw_m5 149 rfl
theorem q1247 : (Jvm.Cond.fieldLink "PartyRaft$Image" (10 : Nat) "PartyRaft$Image" "flow" "LPartyRaft$Flow;") ∈ lw_all := lw_g (lw_at lw_m5 150 rfl) rfl
theorem q1251 : (Jvm.Cond.laysFinal "PartyRaft$Image" "PartyRaft$Image" "flow" "LPartyRaft$Flow;") ∈ lw_all := lw_g (lw_at lw_m5 154 rfl) rfl
theorem q1252 : (Jvm.Cond.soleField "PartyRaft$Image" "flow") ∈ lw_all := lw_g (lw_at lw_m5 155 rfl) rfl
theorem q1253 : (Jvm.Cond.lays "PartyRaft$Image" "PartyRaft$Image" "isTold" "Z") ∈ lw_all := lw_g (lw_at lw_m5 156 rfl) rfl
theorem q1254 : (Jvm.Cond.soleField "PartyRaft$Image" "isTold") ∈ lw_all := lw_g (lw_at lw_m5 157 rfl) rfl
theorem q1255 : (Jvm.Cond.lays "PartyRaft$Image" "PartyRaft$Image" "x" "I") ∈ lw_all := lw_g (lw_at lw_m5 158 rfl) rfl
theorem q1256 : (Jvm.Cond.soleField "PartyRaft$Image" "x") ∈ lw_all := lw_g (lw_at lw_m5 159 rfl) rfl
theorem q1257 : (Jvm.Cond.superclass "PartyRaft$Image" "java/lang/Object") ∈ lw_all := lw_g (lw_at lw_m5 160 rfl) rfl
theorem in_X15 : ∀ w ∈ wsX150, w ∈ lw_all := lw_in wsX150 [1251, 1253, 1255] (by decide +kernel) (by decide +kernel)

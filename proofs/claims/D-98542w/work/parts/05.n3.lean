/-! PartyRaft -/
set_option maxRecDepth 100000
def RX0 : String := "PartyRaft"
def TX0 : u_T := fun k => match k with
  | 0 => ("PartyRaft", "flow", "LPartyRaft$Flow;", false)
  | 1 => ("PartyRaft", "own", "LPartyRaft$Flow;", true)
  | 2 => ("PartyRaft", "spare", "LPartyRaft$Flow;", true)
  | 3 => ("PartyRaft", "reading", "LPartyRaft$Flow;", true)
  | 4 => ("PartyRaft", "blank", "LPartyRaft$Flow;", true)
  | 5 => ("PartyRaft", "x", "I", false)
  | 6 => ("PartyRaft", "fault", "LPartyRaft$Fault;", true)
  | 7 => ("PartyRaft", "tape", "[B", true)
  | 8 => ("PartyRaft", "taped", "I", false)
  | 9 => ("PartyRaft", "lineWords", "[Ljava/lang/String;", true)
  | 10 => ("PartyRaft", "clauseWords", "[Ljava/lang/String;", true)
  | 11 => ("PartyRaft", "wordNames", "[Ljava/lang/String;", true)
  | 12 => ("PartyRaft", "rules", "[LPartyRaft$Rule;", true)
  | 13 => ("PartyRaft", "ruleMany", "I", false)
  | 14 => ("PartyRaft", "words", "[J", true)
  | 15 => ("PartyRaft", "row", "[I", true)
  | 16 => ("PartyRaft", "firstRow", "[I", true)
  | 17 => ("PartyRaft", "together", "[I", true)
  | 18 => ("PartyRaft", "togetherMany", "I", false)
  | 19 => ("PartyRaft", "rowMany", "I", false)
  | 20 => ("PartyRaft", "planMany", "I", false)
  | 21 => ("PartyRaft", "lockOf", "[I", true)
  | 22 => ("PartyRaft", "bestLock", "[I", true)
  | 23 => ("PartyRaft", "load", "[I", true)
  | 24 => ("PartyRaft", "fewestLocks", "I", false)
  | 25 => ("PartyRaft", "groupOf", "[I", true)
  | 26 => ("PartyRaft", "wins", "[Z", true)
  | 27 => ("PartyRaft", "drawX", "I", false)
  | _ => ("PartyRaft", "images", "[LPartyRaft$Image;", true)
def tyX0 : Nat → FieldType := fun k => match k with
  | 0 => .object "PartyRaft$Flow"
  | 1 => .object "PartyRaft$Flow"
  | 2 => .object "PartyRaft$Flow"
  | 3 => .object "PartyRaft$Flow"
  | 4 => .object "PartyRaft$Flow"
  | 5 => .int
  | 6 => .object "PartyRaft$Fault"
  | 7 => .array .byte
  | 8 => .int
  | 9 => .array (.object "java/lang/String")
  | 10 => .array (.object "java/lang/String")
  | 11 => .array (.object "java/lang/String")
  | 12 => .array (.object "PartyRaft$Rule")
  | 13 => .int
  | 14 => .array .long
  | 15 => .array .int
  | 16 => .array .int
  | 17 => .array .int
  | 18 => .int
  | 19 => .int
  | 20 => .int
  | 21 => .array .int
  | 22 => .array .int
  | 23 => .array .int
  | 24 => .int
  | 25 => .array .int
  | 26 => .array .boolean
  | 27 => .int
  | _ => .array (.object "PartyRaft$Image")
abbrev wsX00 : List Cond := u_ws RX0 TX0 29
set_option maxRecDepth 100000 in
theorem nmX0 : ∀ a, a < 29 → ∀ b, b < 29 → a ≠ b → (TX0 a).2.1 ≠ (TX0 b).2.1 := by decide +kernel
set_option maxRecDepth 100000 in
theorem tyX0_ok : ∀ k, k < 29 → parseFieldDescriptor (TX0 k).2.2.1 = some (tyX0 k) := by decide +kernel
abbrev cX0_init : ByteArray := prog_1_method_3_code
def yX0_init : MethodName := ⟨RX0, "<init>", "()V"⟩
def dkwX0_init_11 : List UInt8 := [181, 0, 113, 42, 17, 1, 0, 188, 4, 181, 0, 116, 42, 7, 189, 0, 120, 181, 0, 122, 177]
abbrev dktX0_init_11 : List UInt8 := dkwX0_init_11 ++ []
def dkwX0_init_10 : List UInt8 := [181, 0, 104, 42, 16, 8, 188, 10, 181, 0, 107, 42, 16, 8, 188, 10, 181, 0, 110, 42, 16, 8, 188, 10]
abbrev dktX0_init_10 : List UInt8 := dkwX0_init_10 ++ dktX0_init_11
def dkwX0_init_9 : List UInt8 := [181, 0, 94, 42, 16, 7, 188, 10, 181, 0, 98, 42, 16, 6, 188, 10, 181, 0, 101, 42, 16, 8, 188, 10]
abbrev dktX0_init_9 : List UInt8 := dkwX0_init_9 ++ dktX0_init_10
def dkwX0_init_8 : List UInt8 := [42, 16, 6, 189, 0, 84, 181, 0, 86, 42, 16, 12, 188, 11, 181, 0, 90, 42, 16, 7, 188, 10]
abbrev dktX0_init_8 : List UInt8 := dkwX0_init_8 ++ dktX0_init_9
def dkwX0_init_7 : List UInt8 := [18, 73, 83, 89, 16, 9, 18, 75, 83, 89, 16, 10, 18, 77, 83, 89, 16, 11, 18, 79, 83, 181, 0, 81]
abbrev dktX0_init_7 : List UInt8 := dkwX0_init_7 ++ dktX0_init_8
def dkwX0_init_6 : List UInt8 := [7, 18, 65, 83, 89, 8, 18, 67, 83, 89, 16, 6, 18, 69, 83, 89, 16, 7, 18, 71, 83, 89, 16, 8]
abbrev dktX0_init_6 : List UInt8 := dkwX0_init_6 ++ dktX0_init_7
def dkwX0_init_5 : List UInt8 := [189, 0, 36, 89, 3, 18, 57, 83, 89, 4, 18, 59, 83, 89, 5, 18, 61, 83, 89, 6, 18, 63, 83, 89]
abbrev dktX0_init_5 : List UInt8 := dkwX0_init_5 ++ dktX0_init_6
def dkwX0_init_4 : List UInt8 := [89, 7, 18, 46, 83, 181, 0, 48, 42, 4, 189, 0, 36, 89, 3, 18, 52, 83, 181, 0, 54, 42, 16, 12]
abbrev dktX0_init_4 : List UInt8 := dkwX0_init_4 ++ dktX0_init_5
def dkwX0_init_3 : List UInt8 := [8, 189, 0, 36, 89, 3, 18, 38, 83, 89, 4, 18, 40, 83, 89, 5, 18, 42, 83, 89, 6, 18, 44, 83]
abbrev dktX0_init_3 : List UInt8 := dkwX0_init_3 ++ dktX0_init_4
def dkwX0_init_2 : List UInt8 := [181, 0, 22, 42, 187, 0, 25, 89, 183, 0, 27, 181, 0, 28, 42, 17, 1, 144, 188, 8, 181, 0, 32, 42]
abbrev dktX0_init_2 : List UInt8 := dkwX0_init_2 ++ dktX0_init_3
def dkwX0_init_1 : List UInt8 := [181, 0, 16, 42, 187, 0, 7, 89, 183, 0, 9, 181, 0, 19, 42, 187, 0, 7, 89, 183, 0, 9]
abbrev dktX0_init_1 : List UInt8 := dkwX0_init_1 ++ dktX0_init_2
def dkwX0_init_0 : List UInt8 := [42, 183, 0, 1, 42, 187, 0, 7, 89, 183, 0, 9, 181, 0, 10, 42, 187, 0, 7, 89, 183, 0, 9]
abbrev dktX0_init_0 : List UInt8 := dkwX0_init_0 ++ dktX0_init_1
theorem dksX0_init_0 : cX0_init.data.toList.drop 0 = dktX0_init_0 := by decide +kernel
theorem dksX0_init_1 : cX0_init.data.toList.drop 23 = dktX0_init_1 := dk_seg dksX0_init_0 23 rfl rfl
theorem dksX0_init_2 : cX0_init.data.toList.drop 45 = dktX0_init_2 := dk_seg dksX0_init_1 22 rfl rfl
theorem dksX0_init_3 : cX0_init.data.toList.drop 69 = dktX0_init_3 := dk_seg dksX0_init_2 24 rfl rfl
theorem dksX0_init_4 : cX0_init.data.toList.drop 93 = dktX0_init_4 := dk_seg dksX0_init_3 24 rfl rfl
theorem dksX0_init_5 : cX0_init.data.toList.drop 117 = dktX0_init_5 := dk_seg dksX0_init_4 24 rfl rfl
theorem dksX0_init_6 : cX0_init.data.toList.drop 141 = dktX0_init_6 := dk_seg dksX0_init_5 24 rfl rfl
theorem dksX0_init_7 : cX0_init.data.toList.drop 165 = dktX0_init_7 := dk_seg dksX0_init_6 24 rfl rfl
theorem dksX0_init_8 : cX0_init.data.toList.drop 189 = dktX0_init_8 := dk_seg dksX0_init_7 24 rfl rfl
theorem dksX0_init_9 : cX0_init.data.toList.drop 211 = dktX0_init_9 := dk_seg dksX0_init_8 22 rfl rfl
theorem dksX0_init_10 : cX0_init.data.toList.drop 235 = dktX0_init_10 := dk_seg dksX0_init_9 24 rfl rfl
theorem dksX0_init_11 : cX0_init.data.toList.drop 259 = dktX0_init_11 := dk_seg dksX0_init_10 24 rfl rfl
theorem dX0_init_0 : decode cX0_init 0 = .ok (.aload_n 0, 1) := dk_42 (dk_at dksX0_init_0 0 rfl rfl)
theorem dX0_init_1 : decode cX0_init 1 = .ok (.invokespecial 1, 3) := dk_183 0 1 (dk_at dksX0_init_0 1 rfl rfl)
theorem dX0_init_4 : decode cX0_init 4 = .ok (.aload_n 0, 1) := dk_42 (dk_at dksX0_init_0 4 rfl rfl)
theorem dX0_init_5 : decode cX0_init 5 = .ok (.new 7, 3) := dk_187 0 7 (dk_at dksX0_init_0 5 rfl rfl)
theorem dX0_init_8 : decode cX0_init 8 = .ok (.dup, 1) := dk_89 (dk_at dksX0_init_0 8 rfl rfl)
theorem dX0_init_9 : decode cX0_init 9 = .ok (.invokespecial 9, 3) := dk_183 0 9 (dk_at dksX0_init_0 9 rfl rfl)
theorem dX0_init_12 : decode cX0_init 12 = .ok (.putfield 10, 3) := dk_181 0 10 (dk_at dksX0_init_0 12 rfl rfl)
theorem dX0_init_15 : decode cX0_init 15 = .ok (.aload_n 0, 1) := dk_42 (dk_at dksX0_init_0 15 rfl rfl)
theorem dX0_init_16 : decode cX0_init 16 = .ok (.new 7, 3) := dk_187 0 7 (dk_at dksX0_init_0 16 rfl rfl)
theorem dX0_init_19 : decode cX0_init 19 = .ok (.dup, 1) := dk_89 (dk_at dksX0_init_0 19 rfl rfl)
theorem dX0_init_20 : decode cX0_init 20 = .ok (.invokespecial 9, 3) := dk_183 0 9 (dk_at dksX0_init_0 20 rfl rfl)
theorem dX0_init_23 : decode cX0_init 23 = .ok (.putfield 16, 3) := dk_181 0 16 (dk_at dksX0_init_1 0 rfl rfl)
theorem dX0_init_26 : decode cX0_init 26 = .ok (.aload_n 0, 1) := dk_42 (dk_at dksX0_init_1 3 rfl rfl)
theorem dX0_init_27 : decode cX0_init 27 = .ok (.new 7, 3) := dk_187 0 7 (dk_at dksX0_init_1 4 rfl rfl)
theorem dX0_init_30 : decode cX0_init 30 = .ok (.dup, 1) := dk_89 (dk_at dksX0_init_1 7 rfl rfl)
theorem dX0_init_31 : decode cX0_init 31 = .ok (.invokespecial 9, 3) := dk_183 0 9 (dk_at dksX0_init_1 8 rfl rfl)
theorem dX0_init_34 : decode cX0_init 34 = .ok (.putfield 19, 3) := dk_181 0 19 (dk_at dksX0_init_1 11 rfl rfl)
theorem dX0_init_37 : decode cX0_init 37 = .ok (.aload_n 0, 1) := dk_42 (dk_at dksX0_init_1 14 rfl rfl)
theorem dX0_init_38 : decode cX0_init 38 = .ok (.new 7, 3) := dk_187 0 7 (dk_at dksX0_init_1 15 rfl rfl)
theorem dX0_init_41 : decode cX0_init 41 = .ok (.dup, 1) := dk_89 (dk_at dksX0_init_1 18 rfl rfl)
theorem dX0_init_42 : decode cX0_init 42 = .ok (.invokespecial 9, 3) := dk_183 0 9 (dk_at dksX0_init_1 19 rfl rfl)
theorem dX0_init_45 : decode cX0_init 45 = .ok (.putfield 22, 3) := dk_181 0 22 (dk_at dksX0_init_2 0 rfl rfl)
theorem dX0_init_48 : decode cX0_init 48 = .ok (.aload_n 0, 1) := dk_42 (dk_at dksX0_init_2 3 rfl rfl)
theorem dX0_init_49 : decode cX0_init 49 = .ok (.new 25, 3) := dk_187 0 25 (dk_at dksX0_init_2 4 rfl rfl)
theorem dX0_init_52 : decode cX0_init 52 = .ok (.dup, 1) := dk_89 (dk_at dksX0_init_2 7 rfl rfl)
theorem dX0_init_53 : decode cX0_init 53 = .ok (.invokespecial 27, 3) := dk_183 0 27 (dk_at dksX0_init_2 8 rfl rfl)
theorem dX0_init_56 : decode cX0_init 56 = .ok (.putfield 28, 3) := dk_181 0 28 (dk_at dksX0_init_2 11 rfl rfl)
theorem dX0_init_59 : decode cX0_init 59 = .ok (.aload_n 0, 1) := dk_42 (dk_at dksX0_init_2 14 rfl rfl)
theorem dX0_init_60 : decode cX0_init 60 = .ok (.sipush 400, 3) := dk_17 1 144 (dk_at dksX0_init_2 15 rfl rfl)
theorem dX0_init_63 : decode cX0_init 63 = .ok (.newarray .byte, 2) := dk_188_8 (dk_at dksX0_init_2 18 rfl rfl)
theorem dX0_init_65 : decode cX0_init 65 = .ok (.putfield 32, 3) := dk_181 0 32 (dk_at dksX0_init_2 20 rfl rfl)
theorem dX0_init_68 : decode cX0_init 68 = .ok (.aload_n 0, 1) := dk_42 (dk_at dksX0_init_2 23 rfl rfl)
theorem dX0_init_69 : decode cX0_init 69 = .ok (.iconst 5, 1) := dk_8 (dk_at dksX0_init_3 0 rfl rfl)
theorem dX0_init_70 : decode cX0_init 70 = .ok (.anewarray 36, 3) := dk_189 0 36 (dk_at dksX0_init_3 1 rfl rfl)
theorem dX0_init_73 : decode cX0_init 73 = .ok (.dup, 1) := dk_89 (dk_at dksX0_init_3 4 rfl rfl)
theorem dX0_init_74 : decode cX0_init 74 = .ok (.iconst 0, 1) := dk_3 (dk_at dksX0_init_3 5 rfl rfl)
theorem dX0_init_75 : decode cX0_init 75 = .ok (.ldc 38, 2) := dk_18 38 (dk_at dksX0_init_3 6 rfl rfl)
theorem dX0_init_77 : decode cX0_init 77 = .ok (.aastore, 1) := dk_83 (dk_at dksX0_init_3 8 rfl rfl)
theorem dX0_init_78 : decode cX0_init 78 = .ok (.dup, 1) := dk_89 (dk_at dksX0_init_3 9 rfl rfl)
theorem dX0_init_79 : decode cX0_init 79 = .ok (.iconst 1, 1) := dk_4 (dk_at dksX0_init_3 10 rfl rfl)
theorem dX0_init_80 : decode cX0_init 80 = .ok (.ldc 40, 2) := dk_18 40 (dk_at dksX0_init_3 11 rfl rfl)
theorem dX0_init_82 : decode cX0_init 82 = .ok (.aastore, 1) := dk_83 (dk_at dksX0_init_3 13 rfl rfl)
theorem dX0_init_83 : decode cX0_init 83 = .ok (.dup, 1) := dk_89 (dk_at dksX0_init_3 14 rfl rfl)
theorem dX0_init_84 : decode cX0_init 84 = .ok (.iconst 2, 1) := dk_5 (dk_at dksX0_init_3 15 rfl rfl)
theorem dX0_init_85 : decode cX0_init 85 = .ok (.ldc 42, 2) := dk_18 42 (dk_at dksX0_init_3 16 rfl rfl)
theorem dX0_init_87 : decode cX0_init 87 = .ok (.aastore, 1) := dk_83 (dk_at dksX0_init_3 18 rfl rfl)
theorem dX0_init_88 : decode cX0_init 88 = .ok (.dup, 1) := dk_89 (dk_at dksX0_init_3 19 rfl rfl)
theorem dX0_init_89 : decode cX0_init 89 = .ok (.iconst 3, 1) := dk_6 (dk_at dksX0_init_3 20 rfl rfl)
theorem dX0_init_90 : decode cX0_init 90 = .ok (.ldc 44, 2) := dk_18 44 (dk_at dksX0_init_3 21 rfl rfl)
theorem dX0_init_92 : decode cX0_init 92 = .ok (.aastore, 1) := dk_83 (dk_at dksX0_init_3 23 rfl rfl)
theorem dX0_init_93 : decode cX0_init 93 = .ok (.dup, 1) := dk_89 (dk_at dksX0_init_4 0 rfl rfl)
theorem dX0_init_94 : decode cX0_init 94 = .ok (.iconst 4, 1) := dk_7 (dk_at dksX0_init_4 1 rfl rfl)
theorem dX0_init_95 : decode cX0_init 95 = .ok (.ldc 46, 2) := dk_18 46 (dk_at dksX0_init_4 2 rfl rfl)
theorem dX0_init_97 : decode cX0_init 97 = .ok (.aastore, 1) := dk_83 (dk_at dksX0_init_4 4 rfl rfl)
theorem dX0_init_98 : decode cX0_init 98 = .ok (.putfield 48, 3) := dk_181 0 48 (dk_at dksX0_init_4 5 rfl rfl)
theorem dX0_init_101 : decode cX0_init 101 = .ok (.aload_n 0, 1) := dk_42 (dk_at dksX0_init_4 8 rfl rfl)
theorem dX0_init_102 : decode cX0_init 102 = .ok (.iconst 1, 1) := dk_4 (dk_at dksX0_init_4 9 rfl rfl)
theorem dX0_init_103 : decode cX0_init 103 = .ok (.anewarray 36, 3) := dk_189 0 36 (dk_at dksX0_init_4 10 rfl rfl)
theorem dX0_init_106 : decode cX0_init 106 = .ok (.dup, 1) := dk_89 (dk_at dksX0_init_4 13 rfl rfl)
theorem dX0_init_107 : decode cX0_init 107 = .ok (.iconst 0, 1) := dk_3 (dk_at dksX0_init_4 14 rfl rfl)
theorem dX0_init_108 : decode cX0_init 108 = .ok (.ldc 52, 2) := dk_18 52 (dk_at dksX0_init_4 15 rfl rfl)
theorem dX0_init_110 : decode cX0_init 110 = .ok (.aastore, 1) := dk_83 (dk_at dksX0_init_4 17 rfl rfl)
theorem dX0_init_111 : decode cX0_init 111 = .ok (.putfield 54, 3) := dk_181 0 54 (dk_at dksX0_init_4 18 rfl rfl)
theorem dX0_init_114 : decode cX0_init 114 = .ok (.aload_n 0, 1) := dk_42 (dk_at dksX0_init_4 21 rfl rfl)
theorem dX0_init_115 : decode cX0_init 115 = .ok (.bipush 12, 2) := dk_16 12 (dk_at dksX0_init_4 22 rfl rfl)
theorem dX0_init_117 : decode cX0_init 117 = .ok (.anewarray 36, 3) := dk_189 0 36 (dk_at dksX0_init_5 0 rfl rfl)
theorem dX0_init_120 : decode cX0_init 120 = .ok (.dup, 1) := dk_89 (dk_at dksX0_init_5 3 rfl rfl)
theorem dX0_init_121 : decode cX0_init 121 = .ok (.iconst 0, 1) := dk_3 (dk_at dksX0_init_5 4 rfl rfl)
theorem dX0_init_122 : decode cX0_init 122 = .ok (.ldc 57, 2) := dk_18 57 (dk_at dksX0_init_5 5 rfl rfl)
theorem dX0_init_124 : decode cX0_init 124 = .ok (.aastore, 1) := dk_83 (dk_at dksX0_init_5 7 rfl rfl)
theorem dX0_init_125 : decode cX0_init 125 = .ok (.dup, 1) := dk_89 (dk_at dksX0_init_5 8 rfl rfl)
theorem dX0_init_126 : decode cX0_init 126 = .ok (.iconst 1, 1) := dk_4 (dk_at dksX0_init_5 9 rfl rfl)
theorem dX0_init_127 : decode cX0_init 127 = .ok (.ldc 59, 2) := dk_18 59 (dk_at dksX0_init_5 10 rfl rfl)
theorem dX0_init_129 : decode cX0_init 129 = .ok (.aastore, 1) := dk_83 (dk_at dksX0_init_5 12 rfl rfl)
theorem dX0_init_130 : decode cX0_init 130 = .ok (.dup, 1) := dk_89 (dk_at dksX0_init_5 13 rfl rfl)
theorem dX0_init_131 : decode cX0_init 131 = .ok (.iconst 2, 1) := dk_5 (dk_at dksX0_init_5 14 rfl rfl)
theorem dX0_init_132 : decode cX0_init 132 = .ok (.ldc 61, 2) := dk_18 61 (dk_at dksX0_init_5 15 rfl rfl)
theorem dX0_init_134 : decode cX0_init 134 = .ok (.aastore, 1) := dk_83 (dk_at dksX0_init_5 17 rfl rfl)
theorem dX0_init_135 : decode cX0_init 135 = .ok (.dup, 1) := dk_89 (dk_at dksX0_init_5 18 rfl rfl)
theorem dX0_init_136 : decode cX0_init 136 = .ok (.iconst 3, 1) := dk_6 (dk_at dksX0_init_5 19 rfl rfl)
theorem dX0_init_137 : decode cX0_init 137 = .ok (.ldc 63, 2) := dk_18 63 (dk_at dksX0_init_5 20 rfl rfl)
theorem dX0_init_139 : decode cX0_init 139 = .ok (.aastore, 1) := dk_83 (dk_at dksX0_init_5 22 rfl rfl)
theorem dX0_init_140 : decode cX0_init 140 = .ok (.dup, 1) := dk_89 (dk_at dksX0_init_5 23 rfl rfl)
theorem dX0_init_141 : decode cX0_init 141 = .ok (.iconst 4, 1) := dk_7 (dk_at dksX0_init_6 0 rfl rfl)
theorem dX0_init_142 : decode cX0_init 142 = .ok (.ldc 65, 2) := dk_18 65 (dk_at dksX0_init_6 1 rfl rfl)
theorem dX0_init_144 : decode cX0_init 144 = .ok (.aastore, 1) := dk_83 (dk_at dksX0_init_6 3 rfl rfl)
theorem dX0_init_145 : decode cX0_init 145 = .ok (.dup, 1) := dk_89 (dk_at dksX0_init_6 4 rfl rfl)
theorem dX0_init_146 : decode cX0_init 146 = .ok (.iconst 5, 1) := dk_8 (dk_at dksX0_init_6 5 rfl rfl)
theorem dX0_init_147 : decode cX0_init 147 = .ok (.ldc 67, 2) := dk_18 67 (dk_at dksX0_init_6 6 rfl rfl)
theorem dX0_init_149 : decode cX0_init 149 = .ok (.aastore, 1) := dk_83 (dk_at dksX0_init_6 8 rfl rfl)
theorem dX0_init_150 : decode cX0_init 150 = .ok (.dup, 1) := dk_89 (dk_at dksX0_init_6 9 rfl rfl)
theorem dX0_init_151 : decode cX0_init 151 = .ok (.bipush 6, 2) := dk_16 6 (dk_at dksX0_init_6 10 rfl rfl)
theorem dX0_init_153 : decode cX0_init 153 = .ok (.ldc 69, 2) := dk_18 69 (dk_at dksX0_init_6 12 rfl rfl)
theorem dX0_init_155 : decode cX0_init 155 = .ok (.aastore, 1) := dk_83 (dk_at dksX0_init_6 14 rfl rfl)
theorem dX0_init_156 : decode cX0_init 156 = .ok (.dup, 1) := dk_89 (dk_at dksX0_init_6 15 rfl rfl)
theorem dX0_init_157 : decode cX0_init 157 = .ok (.bipush 7, 2) := dk_16 7 (dk_at dksX0_init_6 16 rfl rfl)
theorem dX0_init_159 : decode cX0_init 159 = .ok (.ldc 71, 2) := dk_18 71 (dk_at dksX0_init_6 18 rfl rfl)
theorem dX0_init_161 : decode cX0_init 161 = .ok (.aastore, 1) := dk_83 (dk_at dksX0_init_6 20 rfl rfl)
theorem dX0_init_162 : decode cX0_init 162 = .ok (.dup, 1) := dk_89 (dk_at dksX0_init_6 21 rfl rfl)
theorem dX0_init_163 : decode cX0_init 163 = .ok (.bipush 8, 2) := dk_16 8 (dk_at dksX0_init_6 22 rfl rfl)
theorem dX0_init_165 : decode cX0_init 165 = .ok (.ldc 73, 2) := dk_18 73 (dk_at dksX0_init_7 0 rfl rfl)
theorem dX0_init_167 : decode cX0_init 167 = .ok (.aastore, 1) := dk_83 (dk_at dksX0_init_7 2 rfl rfl)
theorem dX0_init_168 : decode cX0_init 168 = .ok (.dup, 1) := dk_89 (dk_at dksX0_init_7 3 rfl rfl)
theorem dX0_init_169 : decode cX0_init 169 = .ok (.bipush 9, 2) := dk_16 9 (dk_at dksX0_init_7 4 rfl rfl)
theorem dX0_init_171 : decode cX0_init 171 = .ok (.ldc 75, 2) := dk_18 75 (dk_at dksX0_init_7 6 rfl rfl)
theorem dX0_init_173 : decode cX0_init 173 = .ok (.aastore, 1) := dk_83 (dk_at dksX0_init_7 8 rfl rfl)
theorem dX0_init_174 : decode cX0_init 174 = .ok (.dup, 1) := dk_89 (dk_at dksX0_init_7 9 rfl rfl)
theorem dX0_init_175 : decode cX0_init 175 = .ok (.bipush 10, 2) := dk_16 10 (dk_at dksX0_init_7 10 rfl rfl)
theorem dX0_init_177 : decode cX0_init 177 = .ok (.ldc 77, 2) := dk_18 77 (dk_at dksX0_init_7 12 rfl rfl)
theorem dX0_init_179 : decode cX0_init 179 = .ok (.aastore, 1) := dk_83 (dk_at dksX0_init_7 14 rfl rfl)
theorem dX0_init_180 : decode cX0_init 180 = .ok (.dup, 1) := dk_89 (dk_at dksX0_init_7 15 rfl rfl)
theorem dX0_init_181 : decode cX0_init 181 = .ok (.bipush 11, 2) := dk_16 11 (dk_at dksX0_init_7 16 rfl rfl)
theorem dX0_init_183 : decode cX0_init 183 = .ok (.ldc 79, 2) := dk_18 79 (dk_at dksX0_init_7 18 rfl rfl)
theorem dX0_init_185 : decode cX0_init 185 = .ok (.aastore, 1) := dk_83 (dk_at dksX0_init_7 20 rfl rfl)
theorem dX0_init_186 : decode cX0_init 186 = .ok (.putfield 81, 3) := dk_181 0 81 (dk_at dksX0_init_7 21 rfl rfl)
theorem dX0_init_189 : decode cX0_init 189 = .ok (.aload_n 0, 1) := dk_42 (dk_at dksX0_init_8 0 rfl rfl)
theorem dX0_init_190 : decode cX0_init 190 = .ok (.bipush 6, 2) := dk_16 6 (dk_at dksX0_init_8 1 rfl rfl)
theorem dX0_init_192 : decode cX0_init 192 = .ok (.anewarray 84, 3) := dk_189 0 84 (dk_at dksX0_init_8 3 rfl rfl)
theorem dX0_init_195 : decode cX0_init 195 = .ok (.putfield 86, 3) := dk_181 0 86 (dk_at dksX0_init_8 6 rfl rfl)
theorem dX0_init_198 : decode cX0_init 198 = .ok (.aload_n 0, 1) := dk_42 (dk_at dksX0_init_8 9 rfl rfl)
theorem dX0_init_199 : decode cX0_init 199 = .ok (.bipush 12, 2) := dk_16 12 (dk_at dksX0_init_8 10 rfl rfl)
theorem dX0_init_201 : decode cX0_init 201 = .ok (.newarray .long, 2) := dk_188_11 (dk_at dksX0_init_8 12 rfl rfl)
theorem dX0_init_203 : decode cX0_init 203 = .ok (.putfield 90, 3) := dk_181 0 90 (dk_at dksX0_init_8 14 rfl rfl)
theorem dX0_init_206 : decode cX0_init 206 = .ok (.aload_n 0, 1) := dk_42 (dk_at dksX0_init_8 17 rfl rfl)
theorem dX0_init_207 : decode cX0_init 207 = .ok (.bipush 7, 2) := dk_16 7 (dk_at dksX0_init_8 18 rfl rfl)
theorem dX0_init_209 : decode cX0_init 209 = .ok (.newarray .int, 2) := dk_188_10 (dk_at dksX0_init_8 20 rfl rfl)
theorem dX0_init_211 : decode cX0_init 211 = .ok (.putfield 94, 3) := dk_181 0 94 (dk_at dksX0_init_9 0 rfl rfl)
theorem dX0_init_214 : decode cX0_init 214 = .ok (.aload_n 0, 1) := dk_42 (dk_at dksX0_init_9 3 rfl rfl)
theorem dX0_init_215 : decode cX0_init 215 = .ok (.bipush 7, 2) := dk_16 7 (dk_at dksX0_init_9 4 rfl rfl)
theorem dX0_init_217 : decode cX0_init 217 = .ok (.newarray .int, 2) := dk_188_10 (dk_at dksX0_init_9 6 rfl rfl)
theorem dX0_init_219 : decode cX0_init 219 = .ok (.putfield 98, 3) := dk_181 0 98 (dk_at dksX0_init_9 8 rfl rfl)
theorem dX0_init_222 : decode cX0_init 222 = .ok (.aload_n 0, 1) := dk_42 (dk_at dksX0_init_9 11 rfl rfl)
theorem dX0_init_223 : decode cX0_init 223 = .ok (.bipush 6, 2) := dk_16 6 (dk_at dksX0_init_9 12 rfl rfl)
theorem dX0_init_225 : decode cX0_init 225 = .ok (.newarray .int, 2) := dk_188_10 (dk_at dksX0_init_9 14 rfl rfl)
theorem dX0_init_227 : decode cX0_init 227 = .ok (.putfield 101, 3) := dk_181 0 101 (dk_at dksX0_init_9 16 rfl rfl)
theorem dX0_init_230 : decode cX0_init 230 = .ok (.aload_n 0, 1) := dk_42 (dk_at dksX0_init_9 19 rfl rfl)
theorem dX0_init_231 : decode cX0_init 231 = .ok (.bipush 8, 2) := dk_16 8 (dk_at dksX0_init_9 20 rfl rfl)
theorem dX0_init_233 : decode cX0_init 233 = .ok (.newarray .int, 2) := dk_188_10 (dk_at dksX0_init_9 22 rfl rfl)
theorem dX0_init_235 : decode cX0_init 235 = .ok (.putfield 104, 3) := dk_181 0 104 (dk_at dksX0_init_10 0 rfl rfl)
theorem dX0_init_238 : decode cX0_init 238 = .ok (.aload_n 0, 1) := dk_42 (dk_at dksX0_init_10 3 rfl rfl)
theorem dX0_init_239 : decode cX0_init 239 = .ok (.bipush 8, 2) := dk_16 8 (dk_at dksX0_init_10 4 rfl rfl)
theorem dX0_init_241 : decode cX0_init 241 = .ok (.newarray .int, 2) := dk_188_10 (dk_at dksX0_init_10 6 rfl rfl)
theorem dX0_init_243 : decode cX0_init 243 = .ok (.putfield 107, 3) := dk_181 0 107 (dk_at dksX0_init_10 8 rfl rfl)
theorem dX0_init_246 : decode cX0_init 246 = .ok (.aload_n 0, 1) := dk_42 (dk_at dksX0_init_10 11 rfl rfl)
theorem dX0_init_247 : decode cX0_init 247 = .ok (.bipush 8, 2) := dk_16 8 (dk_at dksX0_init_10 12 rfl rfl)
theorem dX0_init_249 : decode cX0_init 249 = .ok (.newarray .int, 2) := dk_188_10 (dk_at dksX0_init_10 14 rfl rfl)
theorem dX0_init_251 : decode cX0_init 251 = .ok (.putfield 110, 3) := dk_181 0 110 (dk_at dksX0_init_10 16 rfl rfl)
theorem dX0_init_254 : decode cX0_init 254 = .ok (.aload_n 0, 1) := dk_42 (dk_at dksX0_init_10 19 rfl rfl)
theorem dX0_init_255 : decode cX0_init 255 = .ok (.bipush 8, 2) := dk_16 8 (dk_at dksX0_init_10 20 rfl rfl)
theorem dX0_init_257 : decode cX0_init 257 = .ok (.newarray .int, 2) := dk_188_10 (dk_at dksX0_init_10 22 rfl rfl)
theorem dX0_init_259 : decode cX0_init 259 = .ok (.putfield 113, 3) := dk_181 0 113 (dk_at dksX0_init_11 0 rfl rfl)
theorem dX0_init_262 : decode cX0_init 262 = .ok (.aload_n 0, 1) := dk_42 (dk_at dksX0_init_11 3 rfl rfl)
theorem dX0_init_263 : decode cX0_init 263 = .ok (.sipush 256, 3) := dk_17 1 0 (dk_at dksX0_init_11 4 rfl rfl)
theorem dX0_init_266 : decode cX0_init 266 = .ok (.newarray .boolean, 2) := dk_188_4 (dk_at dksX0_init_11 7 rfl rfl)
theorem dX0_init_268 : decode cX0_init 268 = .ok (.putfield 116, 3) := dk_181 0 116 (dk_at dksX0_init_11 9 rfl rfl)
theorem dX0_init_271 : decode cX0_init 271 = .ok (.aload_n 0, 1) := dk_42 (dk_at dksX0_init_11 12 rfl rfl)
theorem dX0_init_272 : decode cX0_init 272 = .ok (.iconst 4, 1) := dk_7 (dk_at dksX0_init_11 13 rfl rfl)
theorem dX0_init_273 : decode cX0_init 273 = .ok (.anewarray 120, 3) := dk_189 0 120 (dk_at dksX0_init_11 14 rfl rfl)
theorem dX0_init_276 : decode cX0_init 276 = .ok (.putfield 122, 3) := dk_181 0 122 (dk_at dksX0_init_11 17 rfl rfl)
theorem dX0_init_279 : decode cX0_init 279 = .ok (.return_, 1) := dk_177 (dk_at dksX0_init_11 20 rfl rfl)
abbrev cX0_feed : ByteArray := prog_1_method_4_code
def yX0_feed : MethodName := ⟨RX0, "feed", "(IIIII)I"⟩
def dkwX0_feed_2 : List UInt8 := [172]
abbrev dktX0_feed_2 : List UInt8 := dkwX0_feed_2 ++ []
def dkwX0_feed_1 : List UInt8 := [182, 0, 130, 42, 29, 182, 0, 130, 42, 21, 4, 182, 0, 130, 42, 21, 5, 182, 0, 130, 42, 180, 0, 126]
abbrev dktX0_feed_1 : List UInt8 := dkwX0_feed_1 ++ dktX0_feed_2
def dkwX0_feed_0 : List UInt8 := [42, 180, 0, 126, 16, 20, 96, 17, 1, 144, 164, 0, 5, 2, 172, 42, 27, 182, 0, 130, 42, 28]
abbrev dktX0_feed_0 : List UInt8 := dkwX0_feed_0 ++ dktX0_feed_1
theorem dksX0_feed_0 : cX0_feed.data.toList.drop 0 = dktX0_feed_0 := by decide +kernel
theorem dksX0_feed_1 : cX0_feed.data.toList.drop 22 = dktX0_feed_1 := dk_seg dksX0_feed_0 22 rfl rfl
theorem dksX0_feed_2 : cX0_feed.data.toList.drop 46 = dktX0_feed_2 := dk_seg dksX0_feed_1 24 rfl rfl
theorem dX0_feed_0 : decode cX0_feed 0 = .ok (.aload_n 0, 1) := dk_42 (dk_at dksX0_feed_0 0 rfl rfl)
theorem dX0_feed_1 : decode cX0_feed 1 = .ok (.getfield 126, 3) := dk_180 0 126 (dk_at dksX0_feed_0 1 rfl rfl)
theorem dX0_feed_4 : decode cX0_feed 4 = .ok (.bipush 20, 2) := dk_16 20 (dk_at dksX0_feed_0 4 rfl rfl)
theorem dX0_feed_6 : decode cX0_feed 6 = .ok (.iadd, 1) := dk_96 (dk_at dksX0_feed_0 6 rfl rfl)
theorem dX0_feed_7 : decode cX0_feed 7 = .ok (.sipush 400, 3) := dk_17 1 144 (dk_at dksX0_feed_0 7 rfl rfl)
theorem dX0_feed_10 : decode cX0_feed 10 = .ok (.if_icmp .le 5, 3) := dk_164 0 5 (dk_at dksX0_feed_0 10 rfl rfl)
theorem dX0_feed_13 : decode cX0_feed 13 = .ok (.iconst (-1), 1) := dk_2 (dk_at dksX0_feed_0 13 rfl rfl)
theorem dX0_feed_14 : decode cX0_feed 14 = .ok (.ireturn, 1) := dk_172 (dk_at dksX0_feed_0 14 rfl rfl)
theorem dX0_feed_15 : decode cX0_feed 15 = .ok (.aload_n 0, 1) := dk_42 (dk_at dksX0_feed_0 15 rfl rfl)
theorem dX0_feed_16 : decode cX0_feed 16 = .ok (.iload_n 1, 1) := dk_27 (dk_at dksX0_feed_0 16 rfl rfl)
theorem dX0_feed_17 : decode cX0_feed 17 = .ok (.invokevirtual 130, 3) := dk_182 0 130 (dk_at dksX0_feed_0 17 rfl rfl)
theorem dX0_feed_20 : decode cX0_feed 20 = .ok (.aload_n 0, 1) := dk_42 (dk_at dksX0_feed_0 20 rfl rfl)
theorem dX0_feed_21 : decode cX0_feed 21 = .ok (.iload_n 2, 1) := dk_28 (dk_at dksX0_feed_0 21 rfl rfl)
theorem dX0_feed_22 : decode cX0_feed 22 = .ok (.invokevirtual 130, 3) := dk_182 0 130 (dk_at dksX0_feed_1 0 rfl rfl)
theorem dX0_feed_25 : decode cX0_feed 25 = .ok (.aload_n 0, 1) := dk_42 (dk_at dksX0_feed_1 3 rfl rfl)
theorem dX0_feed_26 : decode cX0_feed 26 = .ok (.iload_n 3, 1) := dk_29 (dk_at dksX0_feed_1 4 rfl rfl)
theorem dX0_feed_27 : decode cX0_feed 27 = .ok (.invokevirtual 130, 3) := dk_182 0 130 (dk_at dksX0_feed_1 5 rfl rfl)
theorem dX0_feed_30 : decode cX0_feed 30 = .ok (.aload_n 0, 1) := dk_42 (dk_at dksX0_feed_1 8 rfl rfl)
theorem dX0_feed_31 : decode cX0_feed 31 = .ok (.iload 4, 2) := dk_21 4 (dk_at dksX0_feed_1 9 rfl rfl)
theorem dX0_feed_33 : decode cX0_feed 33 = .ok (.invokevirtual 130, 3) := dk_182 0 130 (dk_at dksX0_feed_1 11 rfl rfl)
theorem dX0_feed_36 : decode cX0_feed 36 = .ok (.aload_n 0, 1) := dk_42 (dk_at dksX0_feed_1 14 rfl rfl)
theorem dX0_feed_37 : decode cX0_feed 37 = .ok (.iload 5, 2) := dk_21 5 (dk_at dksX0_feed_1 15 rfl rfl)
theorem dX0_feed_39 : decode cX0_feed 39 = .ok (.invokevirtual 130, 3) := dk_182 0 130 (dk_at dksX0_feed_1 17 rfl rfl)
theorem dX0_feed_42 : decode cX0_feed 42 = .ok (.aload_n 0, 1) := dk_42 (dk_at dksX0_feed_1 20 rfl rfl)
theorem dX0_feed_43 : decode cX0_feed 43 = .ok (.getfield 126, 3) := dk_180 0 126 (dk_at dksX0_feed_1 21 rfl rfl)
theorem dX0_feed_46 : decode cX0_feed 46 = .ok (.ireturn, 1) := dk_172 (dk_at dksX0_feed_2 0 rfl rfl)
abbrev cX0_four : ByteArray := prog_1_method_5_code
def yX0_four : MethodName := ⟨RX0, "four", "(I)V"⟩
def dkwX0_four_1 : List UInt8 := [180, 0, 126, 4, 96, 181, 0, 126, 132, 2, 248, 167, 255, 226, 177]
abbrev dktX0_four_1 : List UInt8 := dkwX0_four_1 ++ []
def dkwX0_four_0 : List UInt8 := [16, 24, 61, 28, 155, 0, 32, 42, 180, 0, 32, 42, 180, 0, 126, 27, 28, 122, 145, 84, 42, 89]
abbrev dktX0_four_0 : List UInt8 := dkwX0_four_0 ++ dktX0_four_1
theorem dksX0_four_0 : cX0_four.data.toList.drop 0 = dktX0_four_0 := by decide +kernel
theorem dksX0_four_1 : cX0_four.data.toList.drop 22 = dktX0_four_1 := dk_seg dksX0_four_0 22 rfl rfl
theorem dX0_four_0 : decode cX0_four 0 = .ok (.bipush 24, 2) := dk_16 24 (dk_at dksX0_four_0 0 rfl rfl)
theorem dX0_four_2 : decode cX0_four 2 = .ok (.istore_n 2, 1) := dk_61 (dk_at dksX0_four_0 2 rfl rfl)
theorem dX0_four_3 : decode cX0_four 3 = .ok (.iload_n 2, 1) := dk_28 (dk_at dksX0_four_0 3 rfl rfl)
theorem dX0_four_4 : decode cX0_four 4 = .ok (.ifCond .lt 32, 3) := dk_155 0 32 (dk_at dksX0_four_0 4 rfl rfl)
theorem dX0_four_7 : decode cX0_four 7 = .ok (.aload_n 0, 1) := dk_42 (dk_at dksX0_four_0 7 rfl rfl)
theorem dX0_four_8 : decode cX0_four 8 = .ok (.getfield 32, 3) := dk_180 0 32 (dk_at dksX0_four_0 8 rfl rfl)
theorem dX0_four_11 : decode cX0_four 11 = .ok (.aload_n 0, 1) := dk_42 (dk_at dksX0_four_0 11 rfl rfl)
theorem dX0_four_12 : decode cX0_four 12 = .ok (.getfield 126, 3) := dk_180 0 126 (dk_at dksX0_four_0 12 rfl rfl)
theorem dX0_four_15 : decode cX0_four 15 = .ok (.iload_n 1, 1) := dk_27 (dk_at dksX0_four_0 15 rfl rfl)
theorem dX0_four_16 : decode cX0_four 16 = .ok (.iload_n 2, 1) := dk_28 (dk_at dksX0_four_0 16 rfl rfl)
theorem dX0_four_17 : decode cX0_four 17 = .ok (.ishr, 1) := dk_122 (dk_at dksX0_four_0 17 rfl rfl)
theorem dX0_four_18 : decode cX0_four 18 = .ok (.i2b, 1) := dk_145 (dk_at dksX0_four_0 18 rfl rfl)
theorem dX0_four_19 : decode cX0_four 19 = .ok (.bastore, 1) := dk_84 (dk_at dksX0_four_0 19 rfl rfl)
theorem dX0_four_20 : decode cX0_four 20 = .ok (.aload_n 0, 1) := dk_42 (dk_at dksX0_four_0 20 rfl rfl)
theorem dX0_four_21 : decode cX0_four 21 = .ok (.dup, 1) := dk_89 (dk_at dksX0_four_0 21 rfl rfl)
theorem dX0_four_22 : decode cX0_four 22 = .ok (.getfield 126, 3) := dk_180 0 126 (dk_at dksX0_four_1 0 rfl rfl)
theorem dX0_four_25 : decode cX0_four 25 = .ok (.iconst 1, 1) := dk_4 (dk_at dksX0_four_1 3 rfl rfl)
theorem dX0_four_26 : decode cX0_four 26 = .ok (.iadd, 1) := dk_96 (dk_at dksX0_four_1 4 rfl rfl)
theorem dX0_four_27 : decode cX0_four 27 = .ok (.putfield 126, 3) := dk_181 0 126 (dk_at dksX0_four_1 5 rfl rfl)
theorem dX0_four_30 : decode cX0_four 30 = .ok (.iinc 2 (-8), 3) := dk_132 2 248 (dk_at dksX0_four_1 8 rfl rfl)
theorem dX0_four_33 : decode cX0_four 33 = .ok (.goto (-30), 3) := dk_167 255 226 (dk_at dksX0_four_1 11 rfl rfl)
theorem dX0_four_36 : decode cX0_four 36 = .ok (.return_, 1) := dk_177 (dk_at dksX0_four_1 14 rfl rfl)
abbrev cX0_end : ByteArray := prog_1_method_6_code
def yX0_end : MethodName := ⟨RX0, "end", "(I)I"⟩
def dkwX0_end_0 : List UInt8 := [27, 155, 0, 11, 27, 42, 180, 0, 126, 164, 0, 5, 2, 172, 42, 27, 181, 0, 126, 27, 172]
abbrev dktX0_end_0 : List UInt8 := dkwX0_end_0 ++ []
theorem dksX0_end_0 : cX0_end.data.toList.drop 0 = dktX0_end_0 := by decide +kernel
theorem dX0_end_0 : decode cX0_end 0 = .ok (.iload_n 1, 1) := dk_27 (dk_at dksX0_end_0 0 rfl rfl)
theorem dX0_end_1 : decode cX0_end 1 = .ok (.ifCond .lt 11, 3) := dk_155 0 11 (dk_at dksX0_end_0 1 rfl rfl)
theorem dX0_end_4 : decode cX0_end 4 = .ok (.iload_n 1, 1) := dk_27 (dk_at dksX0_end_0 4 rfl rfl)
theorem dX0_end_5 : decode cX0_end 5 = .ok (.aload_n 0, 1) := dk_42 (dk_at dksX0_end_0 5 rfl rfl)
theorem dX0_end_6 : decode cX0_end 6 = .ok (.getfield 126, 3) := dk_180 0 126 (dk_at dksX0_end_0 6 rfl rfl)
theorem dX0_end_9 : decode cX0_end 9 = .ok (.if_icmp .le 5, 3) := dk_164 0 5 (dk_at dksX0_end_0 9 rfl rfl)
theorem dX0_end_12 : decode cX0_end 12 = .ok (.iconst (-1), 1) := dk_2 (dk_at dksX0_end_0 12 rfl rfl)
theorem dX0_end_13 : decode cX0_end 13 = .ok (.ireturn, 1) := dk_172 (dk_at dksX0_end_0 13 rfl rfl)
theorem dX0_end_14 : decode cX0_end 14 = .ok (.aload_n 0, 1) := dk_42 (dk_at dksX0_end_0 14 rfl rfl)
theorem dX0_end_15 : decode cX0_end 15 = .ok (.iload_n 1, 1) := dk_27 (dk_at dksX0_end_0 15 rfl rfl)
theorem dX0_end_16 : decode cX0_end 16 = .ok (.putfield 126, 3) := dk_181 0 126 (dk_at dksX0_end_0 16 rfl rfl)
theorem dX0_end_19 : decode cX0_end 19 = .ok (.iload_n 1, 1) := dk_27 (dk_at dksX0_end_0 19 rfl rfl)
theorem dX0_end_20 : decode cX0_end 20 = .ok (.ireturn, 1) := dk_172 (dk_at dksX0_end_0 20 rfl rfl)
abbrev cX0_river : ByteArray := prog_1_method_8_code
def yX0_river : MethodName := ⟨RX0, "river", "()I"⟩
def dkwX0_river_1 : List UInt8 := [180, 0, 153, 180, 0, 156, 60, 167, 0, 9, 77, 42, 182, 0, 159, 60, 42, 3, 181, 0, 126, 27, 172]
abbrev dktX0_river_1 : List UInt8 := dkwX0_river_1 ++ []
def dkwX0_river_0 : List UInt8 := [42, 42, 180, 0, 10, 187, 0, 140, 89, 42, 183, 0, 142, 182, 0, 145, 182, 0, 149, 181, 0, 153, 42]
abbrev dktX0_river_0 : List UInt8 := dkwX0_river_0 ++ dktX0_river_1
theorem dksX0_river_0 : cX0_river.data.toList.drop 0 = dktX0_river_0 := by decide +kernel
theorem dksX0_river_1 : cX0_river.data.toList.drop 23 = dktX0_river_1 := dk_seg dksX0_river_0 23 rfl rfl
theorem dX0_river_0 : decode cX0_river 0 = .ok (.aload_n 0, 1) := dk_42 (dk_at dksX0_river_0 0 rfl rfl)
theorem dX0_river_1 : decode cX0_river 1 = .ok (.aload_n 0, 1) := dk_42 (dk_at dksX0_river_0 1 rfl rfl)
theorem dX0_river_2 : decode cX0_river 2 = .ok (.getfield 10, 3) := dk_180 0 10 (dk_at dksX0_river_0 2 rfl rfl)
theorem dX0_river_5 : decode cX0_river 5 = .ok (.new 140, 3) := dk_187 0 140 (dk_at dksX0_river_0 5 rfl rfl)
theorem dX0_river_8 : decode cX0_river 8 = .ok (.dup, 1) := dk_89 (dk_at dksX0_river_0 8 rfl rfl)
theorem dX0_river_9 : decode cX0_river 9 = .ok (.aload_n 0, 1) := dk_42 (dk_at dksX0_river_0 9 rfl rfl)
theorem dX0_river_10 : decode cX0_river 10 = .ok (.invokespecial 142, 3) := dk_183 0 142 (dk_at dksX0_river_0 10 rfl rfl)
theorem dX0_river_13 : decode cX0_river 13 = .ok (.invokevirtual 145, 3) := dk_182 0 145 (dk_at dksX0_river_0 13 rfl rfl)
theorem dX0_river_16 : decode cX0_river 16 = .ok (.invokevirtual 149, 3) := dk_182 0 149 (dk_at dksX0_river_0 16 rfl rfl)
theorem dX0_river_19 : decode cX0_river 19 = .ok (.putfield 153, 3) := dk_181 0 153 (dk_at dksX0_river_0 19 rfl rfl)
theorem dX0_river_22 : decode cX0_river 22 = .ok (.aload_n 0, 1) := dk_42 (dk_at dksX0_river_0 22 rfl rfl)
theorem dX0_river_23 : decode cX0_river 23 = .ok (.getfield 153, 3) := dk_180 0 153 (dk_at dksX0_river_1 0 rfl rfl)
theorem dX0_river_26 : decode cX0_river 26 = .ok (.getfield 156, 3) := dk_180 0 156 (dk_at dksX0_river_1 3 rfl rfl)
theorem dX0_river_29 : decode cX0_river 29 = .ok (.istore_n 1, 1) := dk_60 (dk_at dksX0_river_1 6 rfl rfl)
theorem dX0_river_30 : decode cX0_river 30 = .ok (.goto 9, 3) := dk_167 0 9 (dk_at dksX0_river_1 7 rfl rfl)
theorem dX0_river_33 : decode cX0_river 33 = .ok (.astore_n 2, 1) := dk_77 (dk_at dksX0_river_1 10 rfl rfl)
theorem dX0_river_34 : decode cX0_river 34 = .ok (.aload_n 0, 1) := dk_42 (dk_at dksX0_river_1 11 rfl rfl)
theorem dX0_river_35 : decode cX0_river 35 = .ok (.invokevirtual 159, 3) := dk_182 0 159 (dk_at dksX0_river_1 12 rfl rfl)
theorem dX0_river_38 : decode cX0_river 38 = .ok (.istore_n 1, 1) := dk_60 (dk_at dksX0_river_1 15 rfl rfl)
theorem dX0_river_39 : decode cX0_river 39 = .ok (.aload_n 0, 1) := dk_42 (dk_at dksX0_river_1 16 rfl rfl)
theorem dX0_river_40 : decode cX0_river 40 = .ok (.iconst 0, 1) := dk_3 (dk_at dksX0_river_1 17 rfl rfl)
theorem dX0_river_41 : decode cX0_river 41 = .ok (.putfield 126, 3) := dk_181 0 126 (dk_at dksX0_river_1 18 rfl rfl)
theorem dX0_river_44 : decode cX0_river 44 = .ok (.iload_n 1, 1) := dk_27 (dk_at dksX0_river_1 21 rfl rfl)
theorem dX0_river_45 : decode cX0_river 45 = .ok (.ireturn, 1) := dk_172 (dk_at dksX0_river_1 22 rfl rfl)
abbrev cX0_in : ByteArray := prog_1_method_1_code
def yX0_in : MethodName := ⟨RX0, "in", "(JJJ)Z"⟩
def dkwX0_in_0 : List UInt8 := [30, 32, 148, 155, 0, 14, 30, 22, 4, 148, 157, 0, 7, 4, 167, 0, 4, 3, 172]
abbrev dktX0_in_0 : List UInt8 := dkwX0_in_0 ++ []
theorem dksX0_in_0 : cX0_in.data.toList.drop 0 = dktX0_in_0 := by decide +kernel
theorem dX0_in_0 : decode cX0_in 0 = .ok (.lload_n 0, 1) := dk_30 (dk_at dksX0_in_0 0 rfl rfl)
theorem dX0_in_1 : decode cX0_in 1 = .ok (.lload_n 2, 1) := dk_32 (dk_at dksX0_in_0 1 rfl rfl)
theorem dX0_in_2 : decode cX0_in 2 = .ok (.lcmp, 1) := dk_148 (dk_at dksX0_in_0 2 rfl rfl)
theorem dX0_in_3 : decode cX0_in 3 = .ok (.ifCond .lt 14, 3) := dk_155 0 14 (dk_at dksX0_in_0 3 rfl rfl)
theorem dX0_in_6 : decode cX0_in 6 = .ok (.lload_n 0, 1) := dk_30 (dk_at dksX0_in_0 6 rfl rfl)
theorem dX0_in_7 : decode cX0_in 7 = .ok (.lload 4, 2) := dk_22 4 (dk_at dksX0_in_0 7 rfl rfl)
theorem dX0_in_9 : decode cX0_in 9 = .ok (.lcmp, 1) := dk_148 (dk_at dksX0_in_0 9 rfl rfl)
theorem dX0_in_10 : decode cX0_in 10 = .ok (.ifCond .gt 7, 3) := dk_157 0 7 (dk_at dksX0_in_0 10 rfl rfl)
theorem dX0_in_13 : decode cX0_in 13 = .ok (.iconst 1, 1) := dk_4 (dk_at dksX0_in_0 13 rfl rfl)
theorem dX0_in_14 : decode cX0_in 14 = .ok (.goto 4, 3) := dk_167 0 4 (dk_at dksX0_in_0 14 rfl rfl)
theorem dX0_in_17 : decode cX0_in 17 = .ok (.iconst 0, 1) := dk_3 (dk_at dksX0_in_0 17 rfl rfl)
theorem dX0_in_18 : decode cX0_in 18 = .ok (.ireturn, 1) := dk_172 (dk_at dksX0_in_0 18 rfl rfl)
abbrev cX0_faulted : ByteArray := prog_1_method_7_code
def yX0_faulted : MethodName := ⟨RX0, "faulted", "()I"⟩
def dkwX0_faulted_0 : List UInt8 := [16, 254, 4, 16, 8, 42, 180, 0, 28, 180, 0, 134, 104, 96, 42, 180, 0, 28, 180, 0, 137, 96, 100, 172]
abbrev dktX0_faulted_0 : List UInt8 := dkwX0_faulted_0 ++ []
theorem dksX0_faulted_0 : cX0_faulted.data.toList.drop 0 = dktX0_faulted_0 := by decide +kernel
theorem dX0_faulted_0 : decode cX0_faulted 0 = .ok (.bipush (-2), 2) := dk_16 254 (dk_at dksX0_faulted_0 0 rfl rfl)
theorem dX0_faulted_2 : decode cX0_faulted 2 = .ok (.iconst 1, 1) := dk_4 (dk_at dksX0_faulted_0 2 rfl rfl)
theorem dX0_faulted_3 : decode cX0_faulted 3 = .ok (.bipush 8, 2) := dk_16 8 (dk_at dksX0_faulted_0 3 rfl rfl)
theorem dX0_faulted_5 : decode cX0_faulted 5 = .ok (.aload_n 0, 1) := dk_42 (dk_at dksX0_faulted_0 5 rfl rfl)
theorem dX0_faulted_6 : decode cX0_faulted 6 = .ok (.getfield 28, 3) := dk_180 0 28 (dk_at dksX0_faulted_0 6 rfl rfl)
theorem dX0_faulted_9 : decode cX0_faulted 9 = .ok (.getfield 134, 3) := dk_180 0 134 (dk_at dksX0_faulted_0 9 rfl rfl)
theorem dX0_faulted_12 : decode cX0_faulted 12 = .ok (.imul, 1) := dk_104 (dk_at dksX0_faulted_0 12 rfl rfl)
theorem dX0_faulted_13 : decode cX0_faulted 13 = .ok (.iadd, 1) := dk_96 (dk_at dksX0_faulted_0 13 rfl rfl)
theorem dX0_faulted_14 : decode cX0_faulted 14 = .ok (.aload_n 0, 1) := dk_42 (dk_at dksX0_faulted_0 14 rfl rfl)
theorem dX0_faulted_15 : decode cX0_faulted 15 = .ok (.getfield 28, 3) := dk_180 0 28 (dk_at dksX0_faulted_0 15 rfl rfl)
theorem dX0_faulted_18 : decode cX0_faulted 18 = .ok (.getfield 137, 3) := dk_180 0 137 (dk_at dksX0_faulted_0 18 rfl rfl)
theorem dX0_faulted_21 : decode cX0_faulted 21 = .ok (.iadd, 1) := dk_96 (dk_at dksX0_faulted_0 21 rfl rfl)
theorem dX0_faulted_22 : decode cX0_faulted 22 = .ok (.isub, 1) := dk_100 (dk_at dksX0_faulted_0 22 rfl rfl)
theorem dX0_faulted_23 : decode cX0_faulted 23 = .ok (.ireturn, 1) := dk_172 (dk_at dksX0_faulted_0 23 rfl rfl)
abbrev cX0_rule : ByteArray := prog_1_method_9_code
def yX0_rule : MethodName := ⟨RX0, "rule", "()I"⟩
def dkwX0_rule_2 : List UInt8 := [167, 0, 9, 77, 42, 182, 0, 159, 60, 42, 3, 181, 0, 126, 27, 172]
abbrev dktX0_rule_2 : List UInt8 := dkwX0_rule_2 ++ []
def dkwX0_rule_1 : List UInt8 := [187, 0, 140, 89, 42, 183, 0, 142, 182, 0, 166, 83, 42, 89, 180, 0, 163, 4, 96, 181, 0, 163]
abbrev dktX0_rule_1 : List UInt8 := dkwX0_rule_1 ++ dktX0_rule_2
def dkwX0_rule_0 : List UInt8 := [42, 180, 0, 163, 16, 6, 160, 0, 5, 2, 172, 42, 180, 0, 163, 60, 42, 180, 0, 86, 42, 180, 0, 163]
abbrev dktX0_rule_0 : List UInt8 := dkwX0_rule_0 ++ dktX0_rule_1
theorem dksX0_rule_0 : cX0_rule.data.toList.drop 0 = dktX0_rule_0 := by decide +kernel
theorem dksX0_rule_1 : cX0_rule.data.toList.drop 24 = dktX0_rule_1 := dk_seg dksX0_rule_0 24 rfl rfl
theorem dksX0_rule_2 : cX0_rule.data.toList.drop 46 = dktX0_rule_2 := dk_seg dksX0_rule_1 22 rfl rfl
theorem dX0_rule_0 : decode cX0_rule 0 = .ok (.aload_n 0, 1) := dk_42 (dk_at dksX0_rule_0 0 rfl rfl)
theorem dX0_rule_1 : decode cX0_rule 1 = .ok (.getfield 163, 3) := dk_180 0 163 (dk_at dksX0_rule_0 1 rfl rfl)
theorem dX0_rule_4 : decode cX0_rule 4 = .ok (.bipush 6, 2) := dk_16 6 (dk_at dksX0_rule_0 4 rfl rfl)
theorem dX0_rule_6 : decode cX0_rule 6 = .ok (.if_icmp .ne 5, 3) := dk_160 0 5 (dk_at dksX0_rule_0 6 rfl rfl)
theorem dX0_rule_9 : decode cX0_rule 9 = .ok (.iconst (-1), 1) := dk_2 (dk_at dksX0_rule_0 9 rfl rfl)
theorem dX0_rule_10 : decode cX0_rule 10 = .ok (.ireturn, 1) := dk_172 (dk_at dksX0_rule_0 10 rfl rfl)
theorem dX0_rule_11 : decode cX0_rule 11 = .ok (.aload_n 0, 1) := dk_42 (dk_at dksX0_rule_0 11 rfl rfl)
theorem dX0_rule_12 : decode cX0_rule 12 = .ok (.getfield 163, 3) := dk_180 0 163 (dk_at dksX0_rule_0 12 rfl rfl)
theorem dX0_rule_15 : decode cX0_rule 15 = .ok (.istore_n 1, 1) := dk_60 (dk_at dksX0_rule_0 15 rfl rfl)
theorem dX0_rule_16 : decode cX0_rule 16 = .ok (.aload_n 0, 1) := dk_42 (dk_at dksX0_rule_0 16 rfl rfl)
theorem dX0_rule_17 : decode cX0_rule 17 = .ok (.getfield 86, 3) := dk_180 0 86 (dk_at dksX0_rule_0 17 rfl rfl)
theorem dX0_rule_20 : decode cX0_rule 20 = .ok (.aload_n 0, 1) := dk_42 (dk_at dksX0_rule_0 20 rfl rfl)
theorem dX0_rule_21 : decode cX0_rule 21 = .ok (.getfield 163, 3) := dk_180 0 163 (dk_at dksX0_rule_0 21 rfl rfl)
theorem dX0_rule_24 : decode cX0_rule 24 = .ok (.new 140, 3) := dk_187 0 140 (dk_at dksX0_rule_1 0 rfl rfl)
theorem dX0_rule_27 : decode cX0_rule 27 = .ok (.dup, 1) := dk_89 (dk_at dksX0_rule_1 3 rfl rfl)
theorem dX0_rule_28 : decode cX0_rule 28 = .ok (.aload_n 0, 1) := dk_42 (dk_at dksX0_rule_1 4 rfl rfl)
theorem dX0_rule_29 : decode cX0_rule 29 = .ok (.invokespecial 142, 3) := dk_183 0 142 (dk_at dksX0_rule_1 5 rfl rfl)
theorem dX0_rule_32 : decode cX0_rule 32 = .ok (.invokevirtual 166, 3) := dk_182 0 166 (dk_at dksX0_rule_1 8 rfl rfl)
theorem dX0_rule_35 : decode cX0_rule 35 = .ok (.aastore, 1) := dk_83 (dk_at dksX0_rule_1 11 rfl rfl)
theorem dX0_rule_36 : decode cX0_rule 36 = .ok (.aload_n 0, 1) := dk_42 (dk_at dksX0_rule_1 12 rfl rfl)
theorem dX0_rule_37 : decode cX0_rule 37 = .ok (.dup, 1) := dk_89 (dk_at dksX0_rule_1 13 rfl rfl)
theorem dX0_rule_38 : decode cX0_rule 38 = .ok (.getfield 163, 3) := dk_180 0 163 (dk_at dksX0_rule_1 14 rfl rfl)
theorem dX0_rule_41 : decode cX0_rule 41 = .ok (.iconst 1, 1) := dk_4 (dk_at dksX0_rule_1 17 rfl rfl)
theorem dX0_rule_42 : decode cX0_rule 42 = .ok (.iadd, 1) := dk_96 (dk_at dksX0_rule_1 18 rfl rfl)
theorem dX0_rule_43 : decode cX0_rule 43 = .ok (.putfield 163, 3) := dk_181 0 163 (dk_at dksX0_rule_1 19 rfl rfl)
theorem dX0_rule_46 : decode cX0_rule 46 = .ok (.goto 9, 3) := dk_167 0 9 (dk_at dksX0_rule_2 0 rfl rfl)
theorem dX0_rule_49 : decode cX0_rule 49 = .ok (.astore_n 2, 1) := dk_77 (dk_at dksX0_rule_2 3 rfl rfl)
theorem dX0_rule_50 : decode cX0_rule 50 = .ok (.aload_n 0, 1) := dk_42 (dk_at dksX0_rule_2 4 rfl rfl)
theorem dX0_rule_51 : decode cX0_rule 51 = .ok (.invokevirtual 159, 3) := dk_182 0 159 (dk_at dksX0_rule_2 5 rfl rfl)
theorem dX0_rule_54 : decode cX0_rule 54 = .ok (.istore_n 1, 1) := dk_60 (dk_at dksX0_rule_2 8 rfl rfl)
theorem dX0_rule_55 : decode cX0_rule 55 = .ok (.aload_n 0, 1) := dk_42 (dk_at dksX0_rule_2 9 rfl rfl)
theorem dX0_rule_56 : decode cX0_rule 56 = .ok (.iconst 0, 1) := dk_3 (dk_at dksX0_rule_2 10 rfl rfl)
theorem dX0_rule_57 : decode cX0_rule 57 = .ok (.putfield 126, 3) := dk_181 0 126 (dk_at dksX0_rule_2 11 rfl rfl)
theorem dX0_rule_60 : decode cX0_rule 60 = .ok (.iload_n 1, 1) := dk_27 (dk_at dksX0_rule_2 14 rfl rfl)
theorem dX0_rule_61 : decode cX0_rule 61 = .ok (.ireturn, 1) := dk_172 (dk_at dksX0_rule_2 15 rfl rfl)
abbrev cX0_owner : ByteArray := prog_1_method_14_code
def yX0_owner : MethodName := ⟨RX0, "owner", "(II)I"⟩
def dkwX0_owner_4 : List UInt8 := [27, 182, 0, 193, 172, 2, 172]
abbrev dktX0_owner_4 : List UInt8 := dkwX0_owner_4 ++ []
def dkwX0_owner_3 : List UInt8 := [180, 0, 185, 27, 46, 172, 42, 180, 0, 153, 42, 180, 0, 153, 182, 0, 187, 182, 0, 190, 42, 180, 0, 153]
abbrev dktX0_owner_3 : List UInt8 := dkwX0_owner_3 ++ dktX0_owner_4
def dkwX0_owner_2 : List UInt8 := [42, 180, 0, 153, 180, 0, 180, 27, 46, 172, 42, 180, 0, 153, 180, 0, 182, 27, 46, 172, 42, 180, 0, 153]
abbrev dktX0_owner_2 : List UInt8 := dkwX0_owner_2 ++ dktX0_owner_3
def dkwX0_owner_1 : List UInt8 := [170, 0, 0, 0, 82, 0, 0, 0, 0, 0, 0, 0, 3, 0, 0, 0, 29, 0, 0, 0, 39, 0, 0, 0, 49, 0, 0, 0, 59]
abbrev dktX0_owner_1 : List UInt8 := dkwX0_owner_1 ++ dktX0_owner_2
def dkwX0_owner_0 : List UInt8 := [42, 27, 182, 0, 177, 154, 0, 5, 2, 172, 28]
abbrev dktX0_owner_0 : List UInt8 := dkwX0_owner_0 ++ dktX0_owner_1
theorem dksX0_owner_0 : cX0_owner.data.toList.drop 0 = dktX0_owner_0 := by decide +kernel
theorem dksX0_owner_1 : cX0_owner.data.toList.drop 11 = dktX0_owner_1 := dk_seg dksX0_owner_0 11 rfl rfl
theorem dksX0_owner_2 : cX0_owner.data.toList.drop 40 = dktX0_owner_2 := dk_seg dksX0_owner_1 29 rfl rfl
theorem dksX0_owner_3 : cX0_owner.data.toList.drop 64 = dktX0_owner_3 := dk_seg dksX0_owner_2 24 rfl rfl
theorem dksX0_owner_4 : cX0_owner.data.toList.drop 88 = dktX0_owner_4 := dk_seg dksX0_owner_3 24 rfl rfl
theorem dX0_owner_0 : decode cX0_owner 0 = .ok (.aload_n 0, 1) := dk_42 (dk_at dksX0_owner_0 0 rfl rfl)
theorem dX0_owner_1 : decode cX0_owner 1 = .ok (.iload_n 1, 1) := dk_27 (dk_at dksX0_owner_0 1 rfl rfl)
theorem dX0_owner_2 : decode cX0_owner 2 = .ok (.invokevirtual 177, 3) := dk_182 0 177 (dk_at dksX0_owner_0 2 rfl rfl)
theorem dX0_owner_5 : decode cX0_owner 5 = .ok (.ifCond .ne 5, 3) := dk_154 0 5 (dk_at dksX0_owner_0 5 rfl rfl)
theorem dX0_owner_8 : decode cX0_owner 8 = .ok (.iconst (-1), 1) := dk_2 (dk_at dksX0_owner_0 8 rfl rfl)
theorem dX0_owner_9 : decode cX0_owner 9 = .ok (.ireturn, 1) := dk_172 (dk_at dksX0_owner_0 9 rfl rfl)
theorem dX0_owner_10 : decode cX0_owner 10 = .ok (.iload_n 2, 1) := dk_28 (dk_at dksX0_owner_0 10 rfl rfl)
theorem dX0_owner_11 : decode cX0_owner 11 = .ok (.tableswitch 82 0 3 #[29, 39, 49, 59], 29) := by decide +kernel
theorem dX0_owner_40 : decode cX0_owner 40 = .ok (.aload_n 0, 1) := dk_42 (dk_at dksX0_owner_2 0 rfl rfl)
theorem dX0_owner_41 : decode cX0_owner 41 = .ok (.getfield 153, 3) := dk_180 0 153 (dk_at dksX0_owner_2 1 rfl rfl)
theorem dX0_owner_44 : decode cX0_owner 44 = .ok (.getfield 180, 3) := dk_180 0 180 (dk_at dksX0_owner_2 4 rfl rfl)
theorem dX0_owner_47 : decode cX0_owner 47 = .ok (.iload_n 1, 1) := dk_27 (dk_at dksX0_owner_2 7 rfl rfl)
theorem dX0_owner_48 : decode cX0_owner 48 = .ok (.iaload, 1) := dk_46 (dk_at dksX0_owner_2 8 rfl rfl)
theorem dX0_owner_49 : decode cX0_owner 49 = .ok (.ireturn, 1) := dk_172 (dk_at dksX0_owner_2 9 rfl rfl)
theorem dX0_owner_50 : decode cX0_owner 50 = .ok (.aload_n 0, 1) := dk_42 (dk_at dksX0_owner_2 10 rfl rfl)
theorem dX0_owner_51 : decode cX0_owner 51 = .ok (.getfield 153, 3) := dk_180 0 153 (dk_at dksX0_owner_2 11 rfl rfl)
theorem dX0_owner_54 : decode cX0_owner 54 = .ok (.getfield 182, 3) := dk_180 0 182 (dk_at dksX0_owner_2 14 rfl rfl)
theorem dX0_owner_57 : decode cX0_owner 57 = .ok (.iload_n 1, 1) := dk_27 (dk_at dksX0_owner_2 17 rfl rfl)
theorem dX0_owner_58 : decode cX0_owner 58 = .ok (.iaload, 1) := dk_46 (dk_at dksX0_owner_2 18 rfl rfl)
theorem dX0_owner_59 : decode cX0_owner 59 = .ok (.ireturn, 1) := dk_172 (dk_at dksX0_owner_2 19 rfl rfl)
theorem dX0_owner_60 : decode cX0_owner 60 = .ok (.aload_n 0, 1) := dk_42 (dk_at dksX0_owner_2 20 rfl rfl)
theorem dX0_owner_61 : decode cX0_owner 61 = .ok (.getfield 153, 3) := dk_180 0 153 (dk_at dksX0_owner_2 21 rfl rfl)
theorem dX0_owner_64 : decode cX0_owner 64 = .ok (.getfield 185, 3) := dk_180 0 185 (dk_at dksX0_owner_3 0 rfl rfl)
theorem dX0_owner_67 : decode cX0_owner 67 = .ok (.iload_n 1, 1) := dk_27 (dk_at dksX0_owner_3 3 rfl rfl)
theorem dX0_owner_68 : decode cX0_owner 68 = .ok (.iaload, 1) := dk_46 (dk_at dksX0_owner_3 4 rfl rfl)
theorem dX0_owner_69 : decode cX0_owner 69 = .ok (.ireturn, 1) := dk_172 (dk_at dksX0_owner_3 5 rfl rfl)
theorem dX0_owner_70 : decode cX0_owner 70 = .ok (.aload_n 0, 1) := dk_42 (dk_at dksX0_owner_3 6 rfl rfl)
theorem dX0_owner_71 : decode cX0_owner 71 = .ok (.getfield 153, 3) := dk_180 0 153 (dk_at dksX0_owner_3 7 rfl rfl)
theorem dX0_owner_74 : decode cX0_owner 74 = .ok (.aload_n 0, 1) := dk_42 (dk_at dksX0_owner_3 10 rfl rfl)
theorem dX0_owner_75 : decode cX0_owner 75 = .ok (.getfield 153, 3) := dk_180 0 153 (dk_at dksX0_owner_3 11 rfl rfl)
theorem dX0_owner_78 : decode cX0_owner 78 = .ok (.invokevirtual 187, 3) := dk_182 0 187 (dk_at dksX0_owner_3 14 rfl rfl)
theorem dX0_owner_81 : decode cX0_owner 81 = .ok (.invokevirtual 190, 3) := dk_182 0 190 (dk_at dksX0_owner_3 17 rfl rfl)
theorem dX0_owner_84 : decode cX0_owner 84 = .ok (.aload_n 0, 1) := dk_42 (dk_at dksX0_owner_3 20 rfl rfl)
theorem dX0_owner_85 : decode cX0_owner 85 = .ok (.getfield 153, 3) := dk_180 0 153 (dk_at dksX0_owner_3 21 rfl rfl)
theorem dX0_owner_88 : decode cX0_owner 88 = .ok (.iload_n 1, 1) := dk_27 (dk_at dksX0_owner_4 0 rfl rfl)
theorem dX0_owner_89 : decode cX0_owner 89 = .ok (.invokevirtual 193, 3) := dk_182 0 193 (dk_at dksX0_owner_4 1 rfl rfl)
theorem dX0_owner_92 : decode cX0_owner 92 = .ok (.ireturn, 1) := dk_172 (dk_at dksX0_owner_4 4 rfl rfl)
theorem dX0_owner_93 : decode cX0_owner 93 = .ok (.iconst (-1), 1) := dk_2 (dk_at dksX0_owner_4 5 rfl rfl)
theorem dX0_owner_94 : decode cX0_owner 94 = .ok (.ireturn, 1) := dk_172 (dk_at dksX0_owner_4 6 rfl rfl)
abbrev cX0_isOwner : ByteArray := prog_1_method_11_code
def yX0_isOwner : MethodName := ⟨RX0, "isOwner", "(I)Z"⟩
def dkwX0_isOwner_1 : List UInt8 := [167, 0, 4, 3, 172]
abbrev dktX0_isOwner_1 : List UInt8 := dkwX0_isOwner_1 ++ []
def dkwX0_isOwner_0 : List UInt8 := [42, 180, 0, 153, 198, 0, 22, 27, 155, 0, 18, 27, 42, 180, 0, 153, 180, 0, 170, 162, 0, 7, 4]
abbrev dktX0_isOwner_0 : List UInt8 := dkwX0_isOwner_0 ++ dktX0_isOwner_1
theorem dksX0_isOwner_0 : cX0_isOwner.data.toList.drop 0 = dktX0_isOwner_0 := by decide +kernel
theorem dksX0_isOwner_1 : cX0_isOwner.data.toList.drop 23 = dktX0_isOwner_1 := dk_seg dksX0_isOwner_0 23 rfl rfl
theorem dX0_isOwner_0 : decode cX0_isOwner 0 = .ok (.aload_n 0, 1) := dk_42 (dk_at dksX0_isOwner_0 0 rfl rfl)
theorem dX0_isOwner_1 : decode cX0_isOwner 1 = .ok (.getfield 153, 3) := dk_180 0 153 (dk_at dksX0_isOwner_0 1 rfl rfl)
theorem dX0_isOwner_4 : decode cX0_isOwner 4 = .ok (.ifnull 22, 3) := dk_198 0 22 (dk_at dksX0_isOwner_0 4 rfl rfl)
theorem dX0_isOwner_7 : decode cX0_isOwner 7 = .ok (.iload_n 1, 1) := dk_27 (dk_at dksX0_isOwner_0 7 rfl rfl)
theorem dX0_isOwner_8 : decode cX0_isOwner 8 = .ok (.ifCond .lt 18, 3) := dk_155 0 18 (dk_at dksX0_isOwner_0 8 rfl rfl)
theorem dX0_isOwner_11 : decode cX0_isOwner 11 = .ok (.iload_n 1, 1) := dk_27 (dk_at dksX0_isOwner_0 11 rfl rfl)
theorem dX0_isOwner_12 : decode cX0_isOwner 12 = .ok (.aload_n 0, 1) := dk_42 (dk_at dksX0_isOwner_0 12 rfl rfl)
theorem dX0_isOwner_13 : decode cX0_isOwner 13 = .ok (.getfield 153, 3) := dk_180 0 153 (dk_at dksX0_isOwner_0 13 rfl rfl)
theorem dX0_isOwner_16 : decode cX0_isOwner 16 = .ok (.getfield 170, 3) := dk_180 0 170 (dk_at dksX0_isOwner_0 16 rfl rfl)
theorem dX0_isOwner_19 : decode cX0_isOwner 19 = .ok (.if_icmp .ge 7, 3) := dk_162 0 7 (dk_at dksX0_isOwner_0 19 rfl rfl)
theorem dX0_isOwner_22 : decode cX0_isOwner 22 = .ok (.iconst 1, 1) := dk_4 (dk_at dksX0_isOwner_0 22 rfl rfl)
theorem dX0_isOwner_23 : decode cX0_isOwner 23 = .ok (.goto 4, 3) := dk_167 0 4 (dk_at dksX0_isOwner_1 0 rfl rfl)
theorem dX0_isOwner_26 : decode cX0_isOwner 26 = .ok (.iconst 0, 1) := dk_3 (dk_at dksX0_isOwner_1 3 rfl rfl)
theorem dX0_isOwner_27 : decode cX0_isOwner 27 = .ok (.ireturn, 1) := dk_172 (dk_at dksX0_isOwner_1 4 rfl rfl)
abbrev cX0_has : ByteArray := prog_1_method_2_code
def yX0_has : MethodName := ⟨RX0, "has", "(II)Z"⟩
def dkwX0_has_0 : List UInt8 := [26, 27, 122, 4, 126, 4, 160, 0, 7, 4, 167, 0, 4, 3, 172]
abbrev dktX0_has_0 : List UInt8 := dkwX0_has_0 ++ []
theorem dksX0_has_0 : cX0_has.data.toList.drop 0 = dktX0_has_0 := by decide +kernel
theorem dX0_has_0 : decode cX0_has 0 = .ok (.iload_n 0, 1) := dk_26 (dk_at dksX0_has_0 0 rfl rfl)
theorem dX0_has_1 : decode cX0_has 1 = .ok (.iload_n 1, 1) := dk_27 (dk_at dksX0_has_0 1 rfl rfl)
theorem dX0_has_2 : decode cX0_has 2 = .ok (.ishr, 1) := dk_122 (dk_at dksX0_has_0 2 rfl rfl)
theorem dX0_has_3 : decode cX0_has 3 = .ok (.iconst 1, 1) := dk_4 (dk_at dksX0_has_0 3 rfl rfl)
theorem dX0_has_4 : decode cX0_has 4 = .ok (.iand, 1) := dk_126 (dk_at dksX0_has_0 4 rfl rfl)
theorem dX0_has_5 : decode cX0_has 5 = .ok (.iconst 1, 1) := dk_4 (dk_at dksX0_has_0 5 rfl rfl)
theorem dX0_has_6 : decode cX0_has 6 = .ok (.if_icmp .ne 7, 3) := dk_160 0 7 (dk_at dksX0_has_0 6 rfl rfl)
theorem dX0_has_9 : decode cX0_has 9 = .ok (.iconst 1, 1) := dk_4 (dk_at dksX0_has_0 9 rfl rfl)
theorem dX0_has_10 : decode cX0_has 10 = .ok (.goto 4, 3) := dk_167 0 4 (dk_at dksX0_has_0 10 rfl rfl)
theorem dX0_has_13 : decode cX0_has 13 = .ok (.iconst 0, 1) := dk_3 (dk_at dksX0_has_0 13 rfl rfl)
theorem dX0_has_14 : decode cX0_has 14 = .ok (.ireturn, 1) := dk_172 (dk_at dksX0_has_0 14 rfl rfl)
abbrev cX0_thing : ByteArray := prog_1_method_15_code
def yX0_thing : MethodName := ⟨RX0, "thing", "(II)I"⟩
def dkwX0_thing_5 : List UInt8 := [172]
abbrev dktX0_thing_5 : List UInt8 := dkwX0_thing_5 ++ []
def dkwX0_thing_4 : List UInt8 := [46, 172, 42, 27, 182, 0, 212, 153, 0, 14, 42, 180, 0, 153, 27, 182, 0, 213, 167, 0, 4, 3, 172, 2]
abbrev dktX0_thing_4 : List UInt8 := dkwX0_thing_4 ++ dktX0_thing_5
def dkwX0_thing_3 : List UInt8 := [180, 0, 204, 27, 46, 172, 42, 180, 0, 153, 180, 0, 207, 27, 46, 172, 42, 180, 0, 153, 180, 0, 209, 27]
abbrev dktX0_thing_3 : List UInt8 := dkwX0_thing_3 ++ dktX0_thing_4
def dkwX0_thing_2 : List UInt8 := [42, 180, 0, 153, 180, 0, 200, 27, 46, 172, 42, 180, 0, 153, 180, 0, 202, 27, 46, 172, 42, 180, 0, 153]
abbrev dktX0_thing_2 : List UInt8 := dkwX0_thing_2 ++ dktX0_thing_3
def dkwX0_thing_1 : List UInt8 := [170, 0, 0, 0, 108, 0, 0, 0, 0, 0, 0, 0, 5, 0, 0, 0, 37, 0, 0, 0, 47, 0, 0, 0, 57, 0, 0, 0, 67, 0, 0, 0, 77, 0, 0, 0, 87]
abbrev dktX0_thing_1 : List UInt8 := dkwX0_thing_1 ++ dktX0_thing_2
def dkwX0_thing_0 : List UInt8 := [42, 27, 182, 0, 197, 154, 0, 5, 2, 172, 28]
abbrev dktX0_thing_0 : List UInt8 := dkwX0_thing_0 ++ dktX0_thing_1
theorem dksX0_thing_0 : cX0_thing.data.toList.drop 0 = dktX0_thing_0 := by decide +kernel
theorem dksX0_thing_1 : cX0_thing.data.toList.drop 11 = dktX0_thing_1 := dk_seg dksX0_thing_0 11 rfl rfl
theorem dksX0_thing_2 : cX0_thing.data.toList.drop 48 = dktX0_thing_2 := dk_seg dksX0_thing_1 37 rfl rfl
theorem dksX0_thing_3 : cX0_thing.data.toList.drop 72 = dktX0_thing_3 := dk_seg dksX0_thing_2 24 rfl rfl
theorem dksX0_thing_4 : cX0_thing.data.toList.drop 96 = dktX0_thing_4 := dk_seg dksX0_thing_3 24 rfl rfl
theorem dksX0_thing_5 : cX0_thing.data.toList.drop 120 = dktX0_thing_5 := dk_seg dksX0_thing_4 24 rfl rfl
theorem dX0_thing_0 : decode cX0_thing 0 = .ok (.aload_n 0, 1) := dk_42 (dk_at dksX0_thing_0 0 rfl rfl)
theorem dX0_thing_1 : decode cX0_thing 1 = .ok (.iload_n 1, 1) := dk_27 (dk_at dksX0_thing_0 1 rfl rfl)
theorem dX0_thing_2 : decode cX0_thing 2 = .ok (.invokevirtual 197, 3) := dk_182 0 197 (dk_at dksX0_thing_0 2 rfl rfl)
theorem dX0_thing_5 : decode cX0_thing 5 = .ok (.ifCond .ne 5, 3) := dk_154 0 5 (dk_at dksX0_thing_0 5 rfl rfl)
theorem dX0_thing_8 : decode cX0_thing 8 = .ok (.iconst (-1), 1) := dk_2 (dk_at dksX0_thing_0 8 rfl rfl)
theorem dX0_thing_9 : decode cX0_thing 9 = .ok (.ireturn, 1) := dk_172 (dk_at dksX0_thing_0 9 rfl rfl)
theorem dX0_thing_10 : decode cX0_thing 10 = .ok (.iload_n 2, 1) := dk_28 (dk_at dksX0_thing_0 10 rfl rfl)
theorem dX0_thing_11 : decode cX0_thing 11 = .ok (.tableswitch 108 0 5 #[37, 47, 57, 67, 77, 87], 37) := by decide +kernel
theorem dX0_thing_48 : decode cX0_thing 48 = .ok (.aload_n 0, 1) := dk_42 (dk_at dksX0_thing_2 0 rfl rfl)
theorem dX0_thing_49 : decode cX0_thing 49 = .ok (.getfield 153, 3) := dk_180 0 153 (dk_at dksX0_thing_2 1 rfl rfl)
theorem dX0_thing_52 : decode cX0_thing 52 = .ok (.getfield 200, 3) := dk_180 0 200 (dk_at dksX0_thing_2 4 rfl rfl)
theorem dX0_thing_55 : decode cX0_thing 55 = .ok (.iload_n 1, 1) := dk_27 (dk_at dksX0_thing_2 7 rfl rfl)
theorem dX0_thing_56 : decode cX0_thing 56 = .ok (.iaload, 1) := dk_46 (dk_at dksX0_thing_2 8 rfl rfl)
theorem dX0_thing_57 : decode cX0_thing 57 = .ok (.ireturn, 1) := dk_172 (dk_at dksX0_thing_2 9 rfl rfl)
theorem dX0_thing_58 : decode cX0_thing 58 = .ok (.aload_n 0, 1) := dk_42 (dk_at dksX0_thing_2 10 rfl rfl)
theorem dX0_thing_59 : decode cX0_thing 59 = .ok (.getfield 153, 3) := dk_180 0 153 (dk_at dksX0_thing_2 11 rfl rfl)
theorem dX0_thing_62 : decode cX0_thing 62 = .ok (.getfield 202, 3) := dk_180 0 202 (dk_at dksX0_thing_2 14 rfl rfl)
theorem dX0_thing_65 : decode cX0_thing 65 = .ok (.iload_n 1, 1) := dk_27 (dk_at dksX0_thing_2 17 rfl rfl)
theorem dX0_thing_66 : decode cX0_thing 66 = .ok (.iaload, 1) := dk_46 (dk_at dksX0_thing_2 18 rfl rfl)
theorem dX0_thing_67 : decode cX0_thing 67 = .ok (.ireturn, 1) := dk_172 (dk_at dksX0_thing_2 19 rfl rfl)
theorem dX0_thing_68 : decode cX0_thing 68 = .ok (.aload_n 0, 1) := dk_42 (dk_at dksX0_thing_2 20 rfl rfl)
theorem dX0_thing_69 : decode cX0_thing 69 = .ok (.getfield 153, 3) := dk_180 0 153 (dk_at dksX0_thing_2 21 rfl rfl)
theorem dX0_thing_72 : decode cX0_thing 72 = .ok (.getfield 204, 3) := dk_180 0 204 (dk_at dksX0_thing_3 0 rfl rfl)
theorem dX0_thing_75 : decode cX0_thing 75 = .ok (.iload_n 1, 1) := dk_27 (dk_at dksX0_thing_3 3 rfl rfl)
theorem dX0_thing_76 : decode cX0_thing 76 = .ok (.iaload, 1) := dk_46 (dk_at dksX0_thing_3 4 rfl rfl)
theorem dX0_thing_77 : decode cX0_thing 77 = .ok (.ireturn, 1) := dk_172 (dk_at dksX0_thing_3 5 rfl rfl)
theorem dX0_thing_78 : decode cX0_thing 78 = .ok (.aload_n 0, 1) := dk_42 (dk_at dksX0_thing_3 6 rfl rfl)
theorem dX0_thing_79 : decode cX0_thing 79 = .ok (.getfield 153, 3) := dk_180 0 153 (dk_at dksX0_thing_3 7 rfl rfl)
theorem dX0_thing_82 : decode cX0_thing 82 = .ok (.getfield 207, 3) := dk_180 0 207 (dk_at dksX0_thing_3 10 rfl rfl)
theorem dX0_thing_85 : decode cX0_thing 85 = .ok (.iload_n 1, 1) := dk_27 (dk_at dksX0_thing_3 13 rfl rfl)
theorem dX0_thing_86 : decode cX0_thing 86 = .ok (.iaload, 1) := dk_46 (dk_at dksX0_thing_3 14 rfl rfl)
theorem dX0_thing_87 : decode cX0_thing 87 = .ok (.ireturn, 1) := dk_172 (dk_at dksX0_thing_3 15 rfl rfl)
theorem dX0_thing_88 : decode cX0_thing 88 = .ok (.aload_n 0, 1) := dk_42 (dk_at dksX0_thing_3 16 rfl rfl)
theorem dX0_thing_89 : decode cX0_thing 89 = .ok (.getfield 153, 3) := dk_180 0 153 (dk_at dksX0_thing_3 17 rfl rfl)
theorem dX0_thing_92 : decode cX0_thing 92 = .ok (.getfield 209, 3) := dk_180 0 209 (dk_at dksX0_thing_3 20 rfl rfl)
theorem dX0_thing_95 : decode cX0_thing 95 = .ok (.iload_n 1, 1) := dk_27 (dk_at dksX0_thing_3 23 rfl rfl)
theorem dX0_thing_96 : decode cX0_thing 96 = .ok (.iaload, 1) := dk_46 (dk_at dksX0_thing_4 0 rfl rfl)
theorem dX0_thing_97 : decode cX0_thing 97 = .ok (.ireturn, 1) := dk_172 (dk_at dksX0_thing_4 1 rfl rfl)
theorem dX0_thing_98 : decode cX0_thing 98 = .ok (.aload_n 0, 1) := dk_42 (dk_at dksX0_thing_4 2 rfl rfl)
theorem dX0_thing_99 : decode cX0_thing 99 = .ok (.iload_n 1, 1) := dk_27 (dk_at dksX0_thing_4 3 rfl rfl)
theorem dX0_thing_100 : decode cX0_thing 100 = .ok (.invokevirtual 212, 3) := dk_182 0 212 (dk_at dksX0_thing_4 4 rfl rfl)
theorem dX0_thing_103 : decode cX0_thing 103 = .ok (.ifCond .eq 14, 3) := dk_153 0 14 (dk_at dksX0_thing_4 7 rfl rfl)
theorem dX0_thing_106 : decode cX0_thing 106 = .ok (.aload_n 0, 1) := dk_42 (dk_at dksX0_thing_4 10 rfl rfl)
theorem dX0_thing_107 : decode cX0_thing 107 = .ok (.getfield 153, 3) := dk_180 0 153 (dk_at dksX0_thing_4 11 rfl rfl)
theorem dX0_thing_110 : decode cX0_thing 110 = .ok (.iload_n 1, 1) := dk_27 (dk_at dksX0_thing_4 14 rfl rfl)
theorem dX0_thing_111 : decode cX0_thing 111 = .ok (.invokevirtual 213, 3) := dk_182 0 213 (dk_at dksX0_thing_4 15 rfl rfl)
theorem dX0_thing_114 : decode cX0_thing 114 = .ok (.goto 4, 3) := dk_167 0 4 (dk_at dksX0_thing_4 18 rfl rfl)
theorem dX0_thing_117 : decode cX0_thing 117 = .ok (.iconst 0, 1) := dk_3 (dk_at dksX0_thing_4 21 rfl rfl)
theorem dX0_thing_118 : decode cX0_thing 118 = .ok (.ireturn, 1) := dk_172 (dk_at dksX0_thing_4 22 rfl rfl)
theorem dX0_thing_119 : decode cX0_thing 119 = .ok (.iconst (-1), 1) := dk_2 (dk_at dksX0_thing_4 23 rfl rfl)
theorem dX0_thing_120 : decode cX0_thing 120 = .ok (.ireturn, 1) := dk_172 (dk_at dksX0_thing_5 0 rfl rfl)
abbrev cX0_isThing : ByteArray := prog_1_method_12_code
def yX0_isThing : MethodName := ⟨RX0, "isThing", "(I)Z"⟩
def dkwX0_isThing_1 : List UInt8 := [167, 0, 4, 3, 172]
abbrev dktX0_isThing_1 : List UInt8 := dkwX0_isThing_1 ++ []
def dkwX0_isThing_0 : List UInt8 := [42, 180, 0, 153, 198, 0, 22, 27, 155, 0, 18, 27, 42, 180, 0, 153, 180, 0, 156, 162, 0, 7, 4]
abbrev dktX0_isThing_0 : List UInt8 := dkwX0_isThing_0 ++ dktX0_isThing_1
theorem dksX0_isThing_0 : cX0_isThing.data.toList.drop 0 = dktX0_isThing_0 := by decide +kernel
theorem dksX0_isThing_1 : cX0_isThing.data.toList.drop 23 = dktX0_isThing_1 := dk_seg dksX0_isThing_0 23 rfl rfl
theorem dX0_isThing_0 : decode cX0_isThing 0 = .ok (.aload_n 0, 1) := dk_42 (dk_at dksX0_isThing_0 0 rfl rfl)
theorem dX0_isThing_1 : decode cX0_isThing 1 = .ok (.getfield 153, 3) := dk_180 0 153 (dk_at dksX0_isThing_0 1 rfl rfl)
theorem dX0_isThing_4 : decode cX0_isThing 4 = .ok (.ifnull 22, 3) := dk_198 0 22 (dk_at dksX0_isThing_0 4 rfl rfl)
theorem dX0_isThing_7 : decode cX0_isThing 7 = .ok (.iload_n 1, 1) := dk_27 (dk_at dksX0_isThing_0 7 rfl rfl)
theorem dX0_isThing_8 : decode cX0_isThing 8 = .ok (.ifCond .lt 18, 3) := dk_155 0 18 (dk_at dksX0_isThing_0 8 rfl rfl)
theorem dX0_isThing_11 : decode cX0_isThing 11 = .ok (.iload_n 1, 1) := dk_27 (dk_at dksX0_isThing_0 11 rfl rfl)
theorem dX0_isThing_12 : decode cX0_isThing 12 = .ok (.aload_n 0, 1) := dk_42 (dk_at dksX0_isThing_0 12 rfl rfl)
theorem dX0_isThing_13 : decode cX0_isThing 13 = .ok (.getfield 153, 3) := dk_180 0 153 (dk_at dksX0_isThing_0 13 rfl rfl)
theorem dX0_isThing_16 : decode cX0_isThing 16 = .ok (.getfield 156, 3) := dk_180 0 156 (dk_at dksX0_isThing_0 16 rfl rfl)
theorem dX0_isThing_19 : decode cX0_isThing 19 = .ok (.if_icmp .ge 7, 3) := dk_162 0 7 (dk_at dksX0_isThing_0 19 rfl rfl)
theorem dX0_isThing_22 : decode cX0_isThing 22 = .ok (.iconst 1, 1) := dk_4 (dk_at dksX0_isThing_0 22 rfl rfl)
theorem dX0_isThing_23 : decode cX0_isThing 23 = .ok (.goto 4, 3) := dk_167 0 4 (dk_at dksX0_isThing_1 0 rfl rfl)
theorem dX0_isThing_26 : decode cX0_isThing 26 = .ok (.iconst 0, 1) := dk_3 (dk_at dksX0_isThing_1 3 rfl rfl)
theorem dX0_isThing_27 : decode cX0_isThing 27 = .ok (.ireturn, 1) := dk_172 (dk_at dksX0_isThing_1 4 rfl rfl)
abbrev cX0_isAfloat : ByteArray := prog_1_method_13_code
def yX0_isAfloat : MethodName := ⟨RX0, "isAfloat", "(I)Z"⟩
def dkwX0_isAfloat_0 : List UInt8 := [42, 180, 0, 153, 198, 0, 18, 42, 180, 0, 153, 27, 182, 0, 173, 153, 0, 7, 4, 167, 0, 4, 3, 172]
abbrev dktX0_isAfloat_0 : List UInt8 := dkwX0_isAfloat_0 ++ []
theorem dksX0_isAfloat_0 : cX0_isAfloat.data.toList.drop 0 = dktX0_isAfloat_0 := by decide +kernel
theorem dX0_isAfloat_0 : decode cX0_isAfloat 0 = .ok (.aload_n 0, 1) := dk_42 (dk_at dksX0_isAfloat_0 0 rfl rfl)
theorem dX0_isAfloat_1 : decode cX0_isAfloat 1 = .ok (.getfield 153, 3) := dk_180 0 153 (dk_at dksX0_isAfloat_0 1 rfl rfl)
theorem dX0_isAfloat_4 : decode cX0_isAfloat 4 = .ok (.ifnull 18, 3) := dk_198 0 18 (dk_at dksX0_isAfloat_0 4 rfl rfl)
theorem dX0_isAfloat_7 : decode cX0_isAfloat 7 = .ok (.aload_n 0, 1) := dk_42 (dk_at dksX0_isAfloat_0 7 rfl rfl)
theorem dX0_isAfloat_8 : decode cX0_isAfloat 8 = .ok (.getfield 153, 3) := dk_180 0 153 (dk_at dksX0_isAfloat_0 8 rfl rfl)
theorem dX0_isAfloat_11 : decode cX0_isAfloat 11 = .ok (.iload_n 1, 1) := dk_27 (dk_at dksX0_isAfloat_0 11 rfl rfl)
theorem dX0_isAfloat_12 : decode cX0_isAfloat 12 = .ok (.invokevirtual 173, 3) := dk_182 0 173 (dk_at dksX0_isAfloat_0 12 rfl rfl)
theorem dX0_isAfloat_15 : decode cX0_isAfloat 15 = .ok (.ifCond .eq 7, 3) := dk_153 0 7 (dk_at dksX0_isAfloat_0 15 rfl rfl)
theorem dX0_isAfloat_18 : decode cX0_isAfloat 18 = .ok (.iconst 1, 1) := dk_4 (dk_at dksX0_isAfloat_0 18 rfl rfl)
theorem dX0_isAfloat_19 : decode cX0_isAfloat 19 = .ok (.goto 4, 3) := dk_167 0 4 (dk_at dksX0_isAfloat_0 19 rfl rfl)
theorem dX0_isAfloat_22 : decode cX0_isAfloat 22 = .ok (.iconst 0, 1) := dk_3 (dk_at dksX0_isAfloat_0 22 rfl rfl)
theorem dX0_isAfloat_23 : decode cX0_isAfloat 23 = .ok (.ireturn, 1) := dk_172 (dk_at dksX0_isAfloat_0 23 rfl rfl)
abbrev cX0_rope : ByteArray := prog_1_method_17_code
def yX0_rope : MethodName := ⟨RX0, "rope", "(II)I"⟩
def dkwX0_rope_3 : List UInt8 := [180, 0, 228, 27, 46, 172, 2, 172]
abbrev dktX0_rope_3 : List UInt8 := dkwX0_rope_3 ++ []
def dkwX0_rope_2 : List UInt8 := [42, 180, 0, 153, 180, 0, 222, 27, 46, 172, 42, 180, 0, 153, 180, 0, 225, 27, 46, 172, 42, 180, 0, 153]
abbrev dktX0_rope_2 : List UInt8 := dkwX0_rope_2 ++ dktX0_rope_3
def dkwX0_rope_1 : List UInt8 := [170, 0, 0, 0, 55, 0, 0, 0, 0, 0, 0, 0, 2, 0, 0, 0, 25, 0, 0, 0, 35, 0, 0, 0, 45]
abbrev dktX0_rope_1 : List UInt8 := dkwX0_rope_1 ++ dktX0_rope_2
def dkwX0_rope_0 : List UInt8 := [42, 27, 182, 0, 219, 154, 0, 5, 2, 172, 28]
abbrev dktX0_rope_0 : List UInt8 := dkwX0_rope_0 ++ dktX0_rope_1
theorem dksX0_rope_0 : cX0_rope.data.toList.drop 0 = dktX0_rope_0 := by decide +kernel
theorem dksX0_rope_1 : cX0_rope.data.toList.drop 11 = dktX0_rope_1 := dk_seg dksX0_rope_0 11 rfl rfl
theorem dksX0_rope_2 : cX0_rope.data.toList.drop 36 = dktX0_rope_2 := dk_seg dksX0_rope_1 25 rfl rfl
theorem dksX0_rope_3 : cX0_rope.data.toList.drop 60 = dktX0_rope_3 := dk_seg dksX0_rope_2 24 rfl rfl
theorem dX0_rope_0 : decode cX0_rope 0 = .ok (.aload_n 0, 1) := dk_42 (dk_at dksX0_rope_0 0 rfl rfl)
theorem dX0_rope_1 : decode cX0_rope 1 = .ok (.iload_n 1, 1) := dk_27 (dk_at dksX0_rope_0 1 rfl rfl)
theorem dX0_rope_2 : decode cX0_rope 2 = .ok (.invokevirtual 219, 3) := dk_182 0 219 (dk_at dksX0_rope_0 2 rfl rfl)
theorem dX0_rope_5 : decode cX0_rope 5 = .ok (.ifCond .ne 5, 3) := dk_154 0 5 (dk_at dksX0_rope_0 5 rfl rfl)
theorem dX0_rope_8 : decode cX0_rope 8 = .ok (.iconst (-1), 1) := dk_2 (dk_at dksX0_rope_0 8 rfl rfl)
theorem dX0_rope_9 : decode cX0_rope 9 = .ok (.ireturn, 1) := dk_172 (dk_at dksX0_rope_0 9 rfl rfl)
theorem dX0_rope_10 : decode cX0_rope 10 = .ok (.iload_n 2, 1) := dk_28 (dk_at dksX0_rope_0 10 rfl rfl)
theorem dX0_rope_11 : decode cX0_rope 11 = .ok (.tableswitch 55 0 2 #[25, 35, 45], 25) := by decide +kernel
theorem dX0_rope_36 : decode cX0_rope 36 = .ok (.aload_n 0, 1) := dk_42 (dk_at dksX0_rope_2 0 rfl rfl)
theorem dX0_rope_37 : decode cX0_rope 37 = .ok (.getfield 153, 3) := dk_180 0 153 (dk_at dksX0_rope_2 1 rfl rfl)
theorem dX0_rope_40 : decode cX0_rope 40 = .ok (.getfield 222, 3) := dk_180 0 222 (dk_at dksX0_rope_2 4 rfl rfl)
theorem dX0_rope_43 : decode cX0_rope 43 = .ok (.iload_n 1, 1) := dk_27 (dk_at dksX0_rope_2 7 rfl rfl)
theorem dX0_rope_44 : decode cX0_rope 44 = .ok (.iaload, 1) := dk_46 (dk_at dksX0_rope_2 8 rfl rfl)
theorem dX0_rope_45 : decode cX0_rope 45 = .ok (.ireturn, 1) := dk_172 (dk_at dksX0_rope_2 9 rfl rfl)
theorem dX0_rope_46 : decode cX0_rope 46 = .ok (.aload_n 0, 1) := dk_42 (dk_at dksX0_rope_2 10 rfl rfl)
theorem dX0_rope_47 : decode cX0_rope 47 = .ok (.getfield 153, 3) := dk_180 0 153 (dk_at dksX0_rope_2 11 rfl rfl)
theorem dX0_rope_50 : decode cX0_rope 50 = .ok (.getfield 225, 3) := dk_180 0 225 (dk_at dksX0_rope_2 14 rfl rfl)
theorem dX0_rope_53 : decode cX0_rope 53 = .ok (.iload_n 1, 1) := dk_27 (dk_at dksX0_rope_2 17 rfl rfl)
theorem dX0_rope_54 : decode cX0_rope 54 = .ok (.iaload, 1) := dk_46 (dk_at dksX0_rope_2 18 rfl rfl)
theorem dX0_rope_55 : decode cX0_rope 55 = .ok (.ireturn, 1) := dk_172 (dk_at dksX0_rope_2 19 rfl rfl)
theorem dX0_rope_56 : decode cX0_rope 56 = .ok (.aload_n 0, 1) := dk_42 (dk_at dksX0_rope_2 20 rfl rfl)
theorem dX0_rope_57 : decode cX0_rope 57 = .ok (.getfield 153, 3) := dk_180 0 153 (dk_at dksX0_rope_2 21 rfl rfl)
theorem dX0_rope_60 : decode cX0_rope 60 = .ok (.getfield 228, 3) := dk_180 0 228 (dk_at dksX0_rope_3 0 rfl rfl)
theorem dX0_rope_63 : decode cX0_rope 63 = .ok (.iload_n 1, 1) := dk_27 (dk_at dksX0_rope_3 3 rfl rfl)
theorem dX0_rope_64 : decode cX0_rope 64 = .ok (.iaload, 1) := dk_46 (dk_at dksX0_rope_3 4 rfl rfl)
theorem dX0_rope_65 : decode cX0_rope 65 = .ok (.ireturn, 1) := dk_172 (dk_at dksX0_rope_3 5 rfl rfl)
theorem dX0_rope_66 : decode cX0_rope 66 = .ok (.iconst (-1), 1) := dk_2 (dk_at dksX0_rope_3 6 rfl rfl)
theorem dX0_rope_67 : decode cX0_rope 67 = .ok (.ireturn, 1) := dk_172 (dk_at dksX0_rope_3 7 rfl rfl)
abbrev cX0_isRope : ByteArray := prog_1_method_16_code
def yX0_isRope : MethodName := ⟨RX0, "isRope", "(I)Z"⟩
def dkwX0_isRope_1 : List UInt8 := [167, 0, 4, 3, 172]
abbrev dktX0_isRope_1 : List UInt8 := dkwX0_isRope_1 ++ []
def dkwX0_isRope_0 : List UInt8 := [42, 180, 0, 153, 198, 0, 22, 27, 155, 0, 18, 27, 42, 180, 0, 153, 180, 0, 216, 162, 0, 7, 4]
abbrev dktX0_isRope_0 : List UInt8 := dkwX0_isRope_0 ++ dktX0_isRope_1
theorem dksX0_isRope_0 : cX0_isRope.data.toList.drop 0 = dktX0_isRope_0 := by decide +kernel
theorem dksX0_isRope_1 : cX0_isRope.data.toList.drop 23 = dktX0_isRope_1 := dk_seg dksX0_isRope_0 23 rfl rfl
theorem dX0_isRope_0 : decode cX0_isRope 0 = .ok (.aload_n 0, 1) := dk_42 (dk_at dksX0_isRope_0 0 rfl rfl)
theorem dX0_isRope_1 : decode cX0_isRope 1 = .ok (.getfield 153, 3) := dk_180 0 153 (dk_at dksX0_isRope_0 1 rfl rfl)
theorem dX0_isRope_4 : decode cX0_isRope 4 = .ok (.ifnull 22, 3) := dk_198 0 22 (dk_at dksX0_isRope_0 4 rfl rfl)
theorem dX0_isRope_7 : decode cX0_isRope 7 = .ok (.iload_n 1, 1) := dk_27 (dk_at dksX0_isRope_0 7 rfl rfl)
theorem dX0_isRope_8 : decode cX0_isRope 8 = .ok (.ifCond .lt 18, 3) := dk_155 0 18 (dk_at dksX0_isRope_0 8 rfl rfl)
theorem dX0_isRope_11 : decode cX0_isRope 11 = .ok (.iload_n 1, 1) := dk_27 (dk_at dksX0_isRope_0 11 rfl rfl)
theorem dX0_isRope_12 : decode cX0_isRope 12 = .ok (.aload_n 0, 1) := dk_42 (dk_at dksX0_isRope_0 12 rfl rfl)
theorem dX0_isRope_13 : decode cX0_isRope 13 = .ok (.getfield 153, 3) := dk_180 0 153 (dk_at dksX0_isRope_0 13 rfl rfl)
theorem dX0_isRope_16 : decode cX0_isRope 16 = .ok (.getfield 216, 3) := dk_180 0 216 (dk_at dksX0_isRope_0 16 rfl rfl)
theorem dX0_isRope_19 : decode cX0_isRope 19 = .ok (.if_icmp .ge 7, 3) := dk_162 0 7 (dk_at dksX0_isRope_0 19 rfl rfl)
theorem dX0_isRope_22 : decode cX0_isRope 22 = .ok (.iconst 1, 1) := dk_4 (dk_at dksX0_isRope_0 22 rfl rfl)
theorem dX0_isRope_23 : decode cX0_isRope 23 = .ok (.goto 4, 3) := dk_167 0 4 (dk_at dksX0_isRope_1 0 rfl rfl)
theorem dX0_isRope_26 : decode cX0_isRope 26 = .ok (.iconst 0, 1) := dk_3 (dk_at dksX0_isRope_1 3 rfl rfl)
theorem dX0_isRope_27 : decode cX0_isRope 27 = .ok (.ireturn, 1) := dk_172 (dk_at dksX0_isRope_1 4 rfl rfl)
abbrev cX0_rapid : ByteArray := prog_1_method_18_code
def yX0_rapid : MethodName := ⟨RX0, "rapid", "(I)I"⟩
def dkwX0_rapid_1 : List UInt8 := [2, 167, 0, 11, 42, 180, 0, 153, 27, 182, 0, 238, 172]
abbrev dktX0_rapid_1 : List UInt8 := dkwX0_rapid_1 ++ []
def dkwX0_rapid_0 : List UInt8 := [42, 180, 0, 153, 198, 0, 20, 27, 133, 9, 42, 180, 0, 153, 180, 0, 231, 133, 184, 0, 234, 154, 0, 7]
abbrev dktX0_rapid_0 : List UInt8 := dkwX0_rapid_0 ++ dktX0_rapid_1
theorem dksX0_rapid_0 : cX0_rapid.data.toList.drop 0 = dktX0_rapid_0 := by decide +kernel
theorem dksX0_rapid_1 : cX0_rapid.data.toList.drop 24 = dktX0_rapid_1 := dk_seg dksX0_rapid_0 24 rfl rfl
theorem dX0_rapid_0 : decode cX0_rapid 0 = .ok (.aload_n 0, 1) := dk_42 (dk_at dksX0_rapid_0 0 rfl rfl)
theorem dX0_rapid_1 : decode cX0_rapid 1 = .ok (.getfield 153, 3) := dk_180 0 153 (dk_at dksX0_rapid_0 1 rfl rfl)
theorem dX0_rapid_4 : decode cX0_rapid 4 = .ok (.ifnull 20, 3) := dk_198 0 20 (dk_at dksX0_rapid_0 4 rfl rfl)
theorem dX0_rapid_7 : decode cX0_rapid 7 = .ok (.iload_n 1, 1) := dk_27 (dk_at dksX0_rapid_0 7 rfl rfl)
theorem dX0_rapid_8 : decode cX0_rapid 8 = .ok (.i2l, 1) := dk_133 (dk_at dksX0_rapid_0 8 rfl rfl)
theorem dX0_rapid_9 : decode cX0_rapid 9 = .ok (.lconst 0, 1) := dk_9 (dk_at dksX0_rapid_0 9 rfl rfl)
theorem dX0_rapid_10 : decode cX0_rapid 10 = .ok (.aload_n 0, 1) := dk_42 (dk_at dksX0_rapid_0 10 rfl rfl)
theorem dX0_rapid_11 : decode cX0_rapid 11 = .ok (.getfield 153, 3) := dk_180 0 153 (dk_at dksX0_rapid_0 11 rfl rfl)
theorem dX0_rapid_14 : decode cX0_rapid 14 = .ok (.getfield 231, 3) := dk_180 0 231 (dk_at dksX0_rapid_0 14 rfl rfl)
theorem dX0_rapid_17 : decode cX0_rapid 17 = .ok (.i2l, 1) := dk_133 (dk_at dksX0_rapid_0 17 rfl rfl)
theorem dX0_rapid_18 : decode cX0_rapid 18 = .ok (.invokestatic 234, 3) := dk_184 0 234 (dk_at dksX0_rapid_0 18 rfl rfl)
theorem dX0_rapid_21 : decode cX0_rapid 21 = .ok (.ifCond .ne 7, 3) := dk_154 0 7 (dk_at dksX0_rapid_0 21 rfl rfl)
theorem dX0_rapid_24 : decode cX0_rapid 24 = .ok (.iconst (-1), 1) := dk_2 (dk_at dksX0_rapid_1 0 rfl rfl)
theorem dX0_rapid_25 : decode cX0_rapid 25 = .ok (.goto 11, 3) := dk_167 0 11 (dk_at dksX0_rapid_1 1 rfl rfl)
theorem dX0_rapid_28 : decode cX0_rapid 28 = .ok (.aload_n 0, 1) := dk_42 (dk_at dksX0_rapid_1 4 rfl rfl)
theorem dX0_rapid_29 : decode cX0_rapid 29 = .ok (.getfield 153, 3) := dk_180 0 153 (dk_at dksX0_rapid_1 5 rfl rfl)
theorem dX0_rapid_32 : decode cX0_rapid 32 = .ok (.iload_n 1, 1) := dk_27 (dk_at dksX0_rapid_1 8 rfl rfl)
theorem dX0_rapid_33 : decode cX0_rapid 33 = .ok (.invokevirtual 238, 3) := dk_182 0 238 (dk_at dksX0_rapid_1 9 rfl rfl)
theorem dX0_rapid_36 : decode cX0_rapid 36 = .ok (.ireturn, 1) := dk_172 (dk_at dksX0_rapid_1 12 rfl rfl)
abbrev cX0_margin : ByteArray := prog_1_method_19_code
def yX0_margin : MethodName := ⟨RX0, "margin", "(I)I"⟩
def dkwX0_margin_0 : List UInt8 := [42, 27, 182, 0, 212, 153, 0, 14, 42, 180, 0, 153, 27, 182, 0, 241, 167, 0, 6, 17, 216, 240, 172]
abbrev dktX0_margin_0 : List UInt8 := dkwX0_margin_0 ++ []
theorem dksX0_margin_0 : cX0_margin.data.toList.drop 0 = dktX0_margin_0 := by decide +kernel
theorem dX0_margin_0 : decode cX0_margin 0 = .ok (.aload_n 0, 1) := dk_42 (dk_at dksX0_margin_0 0 rfl rfl)
theorem dX0_margin_1 : decode cX0_margin 1 = .ok (.iload_n 1, 1) := dk_27 (dk_at dksX0_margin_0 1 rfl rfl)
theorem dX0_margin_2 : decode cX0_margin 2 = .ok (.invokevirtual 212, 3) := dk_182 0 212 (dk_at dksX0_margin_0 2 rfl rfl)
theorem dX0_margin_5 : decode cX0_margin 5 = .ok (.ifCond .eq 14, 3) := dk_153 0 14 (dk_at dksX0_margin_0 5 rfl rfl)
theorem dX0_margin_8 : decode cX0_margin 8 = .ok (.aload_n 0, 1) := dk_42 (dk_at dksX0_margin_0 8 rfl rfl)
theorem dX0_margin_9 : decode cX0_margin 9 = .ok (.getfield 153, 3) := dk_180 0 153 (dk_at dksX0_margin_0 9 rfl rfl)
theorem dX0_margin_12 : decode cX0_margin 12 = .ok (.iload_n 1, 1) := dk_27 (dk_at dksX0_margin_0 12 rfl rfl)
theorem dX0_margin_13 : decode cX0_margin 13 = .ok (.invokevirtual 241, 3) := dk_182 0 241 (dk_at dksX0_margin_0 13 rfl rfl)
theorem dX0_margin_16 : decode cX0_margin 16 = .ok (.goto 6, 3) := dk_167 0 6 (dk_at dksX0_margin_0 16 rfl rfl)
theorem dX0_margin_19 : decode cX0_margin 19 = .ok (.sipush (-10000), 3) := dk_17 216 240 (dk_at dksX0_margin_0 19 rfl rfl)
theorem dX0_margin_22 : decode cX0_margin 22 = .ok (.ireturn, 1) := dk_172 (dk_at dksX0_margin_0 22 rfl rfl)
abbrev cX0_undo : ByteArray := prog_1_method_21_code
def yX0_undo : MethodName := ⟨RX0, "undo", "()I"⟩
def dkwX0_undo_2 : List UInt8 := [180, 0, 153, 180, 0, 244, 172]
abbrev dktX0_undo_2 : List UInt8 := dkwX0_undo_2 ++ []
def dkwX0_undo_1 : List UInt8 := [89, 180, 0, 244, 4, 100, 181, 0, 244, 42, 180, 0, 153, 42, 180, 0, 153, 180, 0, 244, 182, 1, 3, 42]
abbrev dktX0_undo_1 : List UInt8 := dkwX0_undo_1 ++ dktX0_undo_2
def dkwX0_undo_0 : List UInt8 := [42, 180, 0, 153, 198, 0, 13, 42, 180, 0, 153, 180, 0, 244, 154, 0, 6, 16, 254, 172, 42, 180, 0, 153]
abbrev dktX0_undo_0 : List UInt8 := dkwX0_undo_0 ++ dktX0_undo_1
theorem dksX0_undo_0 : cX0_undo.data.toList.drop 0 = dktX0_undo_0 := by decide +kernel
theorem dksX0_undo_1 : cX0_undo.data.toList.drop 24 = dktX0_undo_1 := dk_seg dksX0_undo_0 24 rfl rfl
theorem dksX0_undo_2 : cX0_undo.data.toList.drop 48 = dktX0_undo_2 := dk_seg dksX0_undo_1 24 rfl rfl
theorem dX0_undo_0 : decode cX0_undo 0 = .ok (.aload_n 0, 1) := dk_42 (dk_at dksX0_undo_0 0 rfl rfl)
theorem dX0_undo_1 : decode cX0_undo 1 = .ok (.getfield 153, 3) := dk_180 0 153 (dk_at dksX0_undo_0 1 rfl rfl)
theorem dX0_undo_4 : decode cX0_undo 4 = .ok (.ifnull 13, 3) := dk_198 0 13 (dk_at dksX0_undo_0 4 rfl rfl)
theorem dX0_undo_7 : decode cX0_undo 7 = .ok (.aload_n 0, 1) := dk_42 (dk_at dksX0_undo_0 7 rfl rfl)
theorem dX0_undo_8 : decode cX0_undo 8 = .ok (.getfield 153, 3) := dk_180 0 153 (dk_at dksX0_undo_0 8 rfl rfl)
theorem dX0_undo_11 : decode cX0_undo 11 = .ok (.getfield 244, 3) := dk_180 0 244 (dk_at dksX0_undo_0 11 rfl rfl)
theorem dX0_undo_14 : decode cX0_undo 14 = .ok (.ifCond .ne 6, 3) := dk_154 0 6 (dk_at dksX0_undo_0 14 rfl rfl)
theorem dX0_undo_17 : decode cX0_undo 17 = .ok (.bipush (-2), 2) := dk_16 254 (dk_at dksX0_undo_0 17 rfl rfl)
theorem dX0_undo_19 : decode cX0_undo 19 = .ok (.ireturn, 1) := dk_172 (dk_at dksX0_undo_0 19 rfl rfl)
theorem dX0_undo_20 : decode cX0_undo 20 = .ok (.aload_n 0, 1) := dk_42 (dk_at dksX0_undo_0 20 rfl rfl)
theorem dX0_undo_21 : decode cX0_undo 21 = .ok (.getfield 153, 3) := dk_180 0 153 (dk_at dksX0_undo_0 21 rfl rfl)
theorem dX0_undo_24 : decode cX0_undo 24 = .ok (.dup, 1) := dk_89 (dk_at dksX0_undo_1 0 rfl rfl)
theorem dX0_undo_25 : decode cX0_undo 25 = .ok (.getfield 244, 3) := dk_180 0 244 (dk_at dksX0_undo_1 1 rfl rfl)
theorem dX0_undo_28 : decode cX0_undo 28 = .ok (.iconst 1, 1) := dk_4 (dk_at dksX0_undo_1 4 rfl rfl)
theorem dX0_undo_29 : decode cX0_undo 29 = .ok (.isub, 1) := dk_100 (dk_at dksX0_undo_1 5 rfl rfl)
theorem dX0_undo_30 : decode cX0_undo 30 = .ok (.putfield 244, 3) := dk_181 0 244 (dk_at dksX0_undo_1 6 rfl rfl)
theorem dX0_undo_33 : decode cX0_undo 33 = .ok (.aload_n 0, 1) := dk_42 (dk_at dksX0_undo_1 9 rfl rfl)
theorem dX0_undo_34 : decode cX0_undo 34 = .ok (.getfield 153, 3) := dk_180 0 153 (dk_at dksX0_undo_1 10 rfl rfl)
theorem dX0_undo_37 : decode cX0_undo 37 = .ok (.aload_n 0, 1) := dk_42 (dk_at dksX0_undo_1 13 rfl rfl)
theorem dX0_undo_38 : decode cX0_undo 38 = .ok (.getfield 153, 3) := dk_180 0 153 (dk_at dksX0_undo_1 14 rfl rfl)
theorem dX0_undo_41 : decode cX0_undo 41 = .ok (.getfield 244, 3) := dk_180 0 244 (dk_at dksX0_undo_1 17 rfl rfl)
theorem dX0_undo_44 : decode cX0_undo 44 = .ok (.invokevirtual 259, 3) := dk_182 1 3 (dk_at dksX0_undo_1 20 rfl rfl)
theorem dX0_undo_47 : decode cX0_undo 47 = .ok (.aload_n 0, 1) := dk_42 (dk_at dksX0_undo_1 23 rfl rfl)
theorem dX0_undo_48 : decode cX0_undo 48 = .ok (.getfield 153, 3) := dk_180 0 153 (dk_at dksX0_undo_2 0 rfl rfl)
theorem dX0_undo_51 : decode cX0_undo 51 = .ok (.getfield 244, 3) := dk_180 0 244 (dk_at dksX0_undo_2 3 rfl rfl)
theorem dX0_undo_54 : decode cX0_undo 54 = .ok (.ireturn, 1) := dk_172 (dk_at dksX0_undo_2 6 rfl rfl)
abbrev cX0_mile : ByteArray := prog_1_method_22_code
def yX0_mile : MethodName := ⟨RX0, "mile", "()I"⟩
def dkwX0_mile_1 : List UInt8 := [2, 172, 42, 182, 1, 9, 42, 180, 0, 153, 182, 1, 12, 172]
abbrev dktX0_mile_1 : List UInt8 := dkwX0_mile_1 ++ []
def dkwX0_mile_0 : List UInt8 := [42, 180, 0, 153, 198, 0, 20, 42, 180, 0, 153, 180, 1, 6, 42, 180, 0, 153, 180, 0, 231, 160, 0, 5]
abbrev dktX0_mile_0 : List UInt8 := dkwX0_mile_0 ++ dktX0_mile_1
theorem dksX0_mile_0 : cX0_mile.data.toList.drop 0 = dktX0_mile_0 := by decide +kernel
theorem dksX0_mile_1 : cX0_mile.data.toList.drop 24 = dktX0_mile_1 := dk_seg dksX0_mile_0 24 rfl rfl
theorem dX0_mile_0 : decode cX0_mile 0 = .ok (.aload_n 0, 1) := dk_42 (dk_at dksX0_mile_0 0 rfl rfl)
theorem dX0_mile_1 : decode cX0_mile 1 = .ok (.getfield 153, 3) := dk_180 0 153 (dk_at dksX0_mile_0 1 rfl rfl)
theorem dX0_mile_4 : decode cX0_mile 4 = .ok (.ifnull 20, 3) := dk_198 0 20 (dk_at dksX0_mile_0 4 rfl rfl)
theorem dX0_mile_7 : decode cX0_mile 7 = .ok (.aload_n 0, 1) := dk_42 (dk_at dksX0_mile_0 7 rfl rfl)
theorem dX0_mile_8 : decode cX0_mile 8 = .ok (.getfield 153, 3) := dk_180 0 153 (dk_at dksX0_mile_0 8 rfl rfl)
theorem dX0_mile_11 : decode cX0_mile 11 = .ok (.getfield 262, 3) := dk_180 1 6 (dk_at dksX0_mile_0 11 rfl rfl)
theorem dX0_mile_14 : decode cX0_mile 14 = .ok (.aload_n 0, 1) := dk_42 (dk_at dksX0_mile_0 14 rfl rfl)
theorem dX0_mile_15 : decode cX0_mile 15 = .ok (.getfield 153, 3) := dk_180 0 153 (dk_at dksX0_mile_0 15 rfl rfl)
theorem dX0_mile_18 : decode cX0_mile 18 = .ok (.getfield 231, 3) := dk_180 0 231 (dk_at dksX0_mile_0 18 rfl rfl)
theorem dX0_mile_21 : decode cX0_mile 21 = .ok (.if_icmp .ne 5, 3) := dk_160 0 5 (dk_at dksX0_mile_0 21 rfl rfl)
theorem dX0_mile_24 : decode cX0_mile 24 = .ok (.iconst (-1), 1) := dk_2 (dk_at dksX0_mile_1 0 rfl rfl)
theorem dX0_mile_25 : decode cX0_mile 25 = .ok (.ireturn, 1) := dk_172 (dk_at dksX0_mile_1 1 rfl rfl)
theorem dX0_mile_26 : decode cX0_mile 26 = .ok (.aload_n 0, 1) := dk_42 (dk_at dksX0_mile_1 2 rfl rfl)
theorem dX0_mile_27 : decode cX0_mile 27 = .ok (.invokevirtual 265, 3) := dk_182 1 9 (dk_at dksX0_mile_1 3 rfl rfl)
theorem dX0_mile_30 : decode cX0_mile 30 = .ok (.aload_n 0, 1) := dk_42 (dk_at dksX0_mile_1 6 rfl rfl)
theorem dX0_mile_31 : decode cX0_mile 31 = .ok (.getfield 153, 3) := dk_180 0 153 (dk_at dksX0_mile_1 7 rfl rfl)
theorem dX0_mile_34 : decode cX0_mile 34 = .ok (.invokevirtual 268, 3) := dk_182 1 12 (dk_at dksX0_mile_1 10 rfl rfl)
theorem dX0_mile_37 : decode cX0_mile 37 = .ok (.ireturn, 1) := dk_172 (dk_at dksX0_mile_1 13 rfl rfl)
abbrev cX0_keepsAct : ByteArray := prog_1_method_20_code
def yX0_keepsAct : MethodName := ⟨RX0, "keepsAct", "()V"⟩
def dkwX0_keepsAct_3 : List UInt8 := [180, 0, 244, 4, 96, 181, 0, 244, 177]
abbrev dktX0_keepsAct_3 : List UInt8 := dkwX0_keepsAct_3 ++ []
def dkwX0_keepsAct_2 : List UInt8 := [181, 0, 244, 42, 180, 0, 153, 42, 180, 0, 153, 180, 0, 244, 182, 1, 0, 42, 180, 0, 153, 89]
abbrev dktX0_keepsAct_2 : List UInt8 := dkwX0_keepsAct_2 ++ dktX0_keepsAct_3
def dkwX0_keepsAct_1 : List UInt8 := [180, 0, 153, 180, 0, 247, 3, 17, 5, 183, 184, 0, 250, 42, 180, 0, 153, 89, 180, 0, 244, 4, 100]
abbrev dktX0_keepsAct_1 : List UInt8 := dkwX0_keepsAct_1 ++ dktX0_keepsAct_2
def dkwX0_keepsAct_0 : List UInt8 := [42, 180, 0, 153, 180, 0, 244, 16, 20, 160, 0, 39, 42, 180, 0, 153, 180, 0, 247, 16, 77, 42]
abbrev dktX0_keepsAct_0 : List UInt8 := dkwX0_keepsAct_0 ++ dktX0_keepsAct_1
theorem dksX0_keepsAct_0 : cX0_keepsAct.data.toList.drop 0 = dktX0_keepsAct_0 := by decide +kernel
theorem dksX0_keepsAct_1 : cX0_keepsAct.data.toList.drop 22 = dktX0_keepsAct_1 := dk_seg dksX0_keepsAct_0 22 rfl rfl
theorem dksX0_keepsAct_2 : cX0_keepsAct.data.toList.drop 45 = dktX0_keepsAct_2 := dk_seg dksX0_keepsAct_1 23 rfl rfl
theorem dksX0_keepsAct_3 : cX0_keepsAct.data.toList.drop 67 = dktX0_keepsAct_3 := dk_seg dksX0_keepsAct_2 22 rfl rfl
theorem dX0_keepsAct_0 : decode cX0_keepsAct 0 = .ok (.aload_n 0, 1) := dk_42 (dk_at dksX0_keepsAct_0 0 rfl rfl)
theorem dX0_keepsAct_1 : decode cX0_keepsAct 1 = .ok (.getfield 153, 3) := dk_180 0 153 (dk_at dksX0_keepsAct_0 1 rfl rfl)
theorem dX0_keepsAct_4 : decode cX0_keepsAct 4 = .ok (.getfield 244, 3) := dk_180 0 244 (dk_at dksX0_keepsAct_0 4 rfl rfl)
theorem dX0_keepsAct_7 : decode cX0_keepsAct 7 = .ok (.bipush 20, 2) := dk_16 20 (dk_at dksX0_keepsAct_0 7 rfl rfl)
theorem dX0_keepsAct_9 : decode cX0_keepsAct 9 = .ok (.if_icmp .ne 39, 3) := dk_160 0 39 (dk_at dksX0_keepsAct_0 9 rfl rfl)
theorem dX0_keepsAct_12 : decode cX0_keepsAct 12 = .ok (.aload_n 0, 1) := dk_42 (dk_at dksX0_keepsAct_0 12 rfl rfl)
theorem dX0_keepsAct_13 : decode cX0_keepsAct 13 = .ok (.getfield 153, 3) := dk_180 0 153 (dk_at dksX0_keepsAct_0 13 rfl rfl)
theorem dX0_keepsAct_16 : decode cX0_keepsAct 16 = .ok (.getfield 247, 3) := dk_180 0 247 (dk_at dksX0_keepsAct_0 16 rfl rfl)
theorem dX0_keepsAct_19 : decode cX0_keepsAct 19 = .ok (.bipush 77, 2) := dk_16 77 (dk_at dksX0_keepsAct_0 19 rfl rfl)
theorem dX0_keepsAct_21 : decode cX0_keepsAct 21 = .ok (.aload_n 0, 1) := dk_42 (dk_at dksX0_keepsAct_0 21 rfl rfl)
theorem dX0_keepsAct_22 : decode cX0_keepsAct 22 = .ok (.getfield 153, 3) := dk_180 0 153 (dk_at dksX0_keepsAct_1 0 rfl rfl)
theorem dX0_keepsAct_25 : decode cX0_keepsAct 25 = .ok (.getfield 247, 3) := dk_180 0 247 (dk_at dksX0_keepsAct_1 3 rfl rfl)
theorem dX0_keepsAct_28 : decode cX0_keepsAct 28 = .ok (.iconst 0, 1) := dk_3 (dk_at dksX0_keepsAct_1 6 rfl rfl)
theorem dX0_keepsAct_29 : decode cX0_keepsAct 29 = .ok (.sipush 1463, 3) := dk_17 5 183 (dk_at dksX0_keepsAct_1 7 rfl rfl)
theorem dX0_keepsAct_32 : decode cX0_keepsAct 32 = .ok (.invokestatic 250, 3) := dk_184 0 250 (dk_at dksX0_keepsAct_1 10 rfl rfl)
theorem dX0_keepsAct_35 : decode cX0_keepsAct 35 = .ok (.aload_n 0, 1) := dk_42 (dk_at dksX0_keepsAct_1 13 rfl rfl)
theorem dX0_keepsAct_36 : decode cX0_keepsAct 36 = .ok (.getfield 153, 3) := dk_180 0 153 (dk_at dksX0_keepsAct_1 14 rfl rfl)
theorem dX0_keepsAct_39 : decode cX0_keepsAct 39 = .ok (.dup, 1) := dk_89 (dk_at dksX0_keepsAct_1 17 rfl rfl)
theorem dX0_keepsAct_40 : decode cX0_keepsAct 40 = .ok (.getfield 244, 3) := dk_180 0 244 (dk_at dksX0_keepsAct_1 18 rfl rfl)
theorem dX0_keepsAct_43 : decode cX0_keepsAct 43 = .ok (.iconst 1, 1) := dk_4 (dk_at dksX0_keepsAct_1 21 rfl rfl)
theorem dX0_keepsAct_44 : decode cX0_keepsAct 44 = .ok (.isub, 1) := dk_100 (dk_at dksX0_keepsAct_1 22 rfl rfl)
theorem dX0_keepsAct_45 : decode cX0_keepsAct 45 = .ok (.putfield 244, 3) := dk_181 0 244 (dk_at dksX0_keepsAct_2 0 rfl rfl)
theorem dX0_keepsAct_48 : decode cX0_keepsAct 48 = .ok (.aload_n 0, 1) := dk_42 (dk_at dksX0_keepsAct_2 3 rfl rfl)
theorem dX0_keepsAct_49 : decode cX0_keepsAct 49 = .ok (.getfield 153, 3) := dk_180 0 153 (dk_at dksX0_keepsAct_2 4 rfl rfl)
theorem dX0_keepsAct_52 : decode cX0_keepsAct 52 = .ok (.aload_n 0, 1) := dk_42 (dk_at dksX0_keepsAct_2 7 rfl rfl)
theorem dX0_keepsAct_53 : decode cX0_keepsAct 53 = .ok (.getfield 153, 3) := dk_180 0 153 (dk_at dksX0_keepsAct_2 8 rfl rfl)
theorem dX0_keepsAct_56 : decode cX0_keepsAct 56 = .ok (.getfield 244, 3) := dk_180 0 244 (dk_at dksX0_keepsAct_2 11 rfl rfl)
theorem dX0_keepsAct_59 : decode cX0_keepsAct 59 = .ok (.invokevirtual 256, 3) := dk_182 1 0 (dk_at dksX0_keepsAct_2 14 rfl rfl)
theorem dX0_keepsAct_62 : decode cX0_keepsAct 62 = .ok (.aload_n 0, 1) := dk_42 (dk_at dksX0_keepsAct_2 17 rfl rfl)
theorem dX0_keepsAct_63 : decode cX0_keepsAct 63 = .ok (.getfield 153, 3) := dk_180 0 153 (dk_at dksX0_keepsAct_2 18 rfl rfl)
theorem dX0_keepsAct_66 : decode cX0_keepsAct 66 = .ok (.dup, 1) := dk_89 (dk_at dksX0_keepsAct_2 21 rfl rfl)
theorem dX0_keepsAct_67 : decode cX0_keepsAct 67 = .ok (.getfield 244, 3) := dk_180 0 244 (dk_at dksX0_keepsAct_3 0 rfl rfl)
theorem dX0_keepsAct_70 : decode cX0_keepsAct 70 = .ok (.iconst 1, 1) := dk_4 (dk_at dksX0_keepsAct_3 3 rfl rfl)
theorem dX0_keepsAct_71 : decode cX0_keepsAct 71 = .ok (.iadd, 1) := dk_96 (dk_at dksX0_keepsAct_3 4 rfl rfl)
theorem dX0_keepsAct_72 : decode cX0_keepsAct 72 = .ok (.putfield 244, 3) := dk_181 0 244 (dk_at dksX0_keepsAct_3 5 rfl rfl)
theorem dX0_keepsAct_75 : decode cX0_keepsAct 75 = .ok (.return_, 1) := dk_177 (dk_at dksX0_keepsAct_3 8 rfl rfl)
abbrev cX0_bind : ByteArray := prog_1_method_23_code
def yX0_bind : MethodName := ⟨RX0, "bind", "(III)I"⟩
def dkwX0_bind_4 : List UInt8 := [100, 181, 1, 21, 42, 180, 0, 153, 180, 0, 216, 4, 100, 172]
abbrev dktX0_bind_4 : List UInt8 := dkwX0_bind_4 ++ []
def dkwX0_bind_3 : List UInt8 := [172, 42, 182, 1, 9, 42, 180, 0, 153, 27, 28, 29, 182, 1, 23, 42, 180, 0, 153, 89, 180, 1, 21, 29]
abbrev dktX0_bind_3 : List UInt8 := dkwX0_bind_3 ++ dktX0_bind_4
def dkwX0_bind_2 : List UInt8 := [29, 42, 180, 0, 153, 180, 1, 21, 163, 0, 15, 42, 180, 0, 153, 180, 0, 216, 16, 12, 160, 0, 5, 2]
abbrev dktX0_bind_2 : List UInt8 := dkwX0_bind_2 ++ dktX0_bind_3
def dkwX0_bind_1 : List UInt8 := [20, 1, 15, 184, 0, 234, 154, 0, 5, 2, 172, 42, 180, 0, 153, 27, 28, 182, 1, 17, 2, 160, 0, 26]
abbrev dktX0_bind_1 : List UInt8 := dkwX0_bind_1 ++ dktX0_bind_2
def dkwX0_bind_0 : List UInt8 := [42, 27, 182, 0, 212, 153, 0, 28, 42, 28, 182, 0, 212, 153, 0, 20, 27, 28, 159, 0, 15, 29, 133, 10]
abbrev dktX0_bind_0 : List UInt8 := dkwX0_bind_0 ++ dktX0_bind_1
theorem dksX0_bind_0 : cX0_bind.data.toList.drop 0 = dktX0_bind_0 := by decide +kernel
theorem dksX0_bind_1 : cX0_bind.data.toList.drop 24 = dktX0_bind_1 := dk_seg dksX0_bind_0 24 rfl rfl
theorem dksX0_bind_2 : cX0_bind.data.toList.drop 48 = dktX0_bind_2 := dk_seg dksX0_bind_1 24 rfl rfl
theorem dksX0_bind_3 : cX0_bind.data.toList.drop 72 = dktX0_bind_3 := dk_seg dksX0_bind_2 24 rfl rfl
theorem dksX0_bind_4 : cX0_bind.data.toList.drop 96 = dktX0_bind_4 := dk_seg dksX0_bind_3 24 rfl rfl
theorem dX0_bind_0 : decode cX0_bind 0 = .ok (.aload_n 0, 1) := dk_42 (dk_at dksX0_bind_0 0 rfl rfl)
theorem dX0_bind_1 : decode cX0_bind 1 = .ok (.iload_n 1, 1) := dk_27 (dk_at dksX0_bind_0 1 rfl rfl)
theorem dX0_bind_2 : decode cX0_bind 2 = .ok (.invokevirtual 212, 3) := dk_182 0 212 (dk_at dksX0_bind_0 2 rfl rfl)
theorem dX0_bind_5 : decode cX0_bind 5 = .ok (.ifCond .eq 28, 3) := dk_153 0 28 (dk_at dksX0_bind_0 5 rfl rfl)
theorem dX0_bind_8 : decode cX0_bind 8 = .ok (.aload_n 0, 1) := dk_42 (dk_at dksX0_bind_0 8 rfl rfl)
theorem dX0_bind_9 : decode cX0_bind 9 = .ok (.iload_n 2, 1) := dk_28 (dk_at dksX0_bind_0 9 rfl rfl)
theorem dX0_bind_10 : decode cX0_bind 10 = .ok (.invokevirtual 212, 3) := dk_182 0 212 (dk_at dksX0_bind_0 10 rfl rfl)
theorem dX0_bind_13 : decode cX0_bind 13 = .ok (.ifCond .eq 20, 3) := dk_153 0 20 (dk_at dksX0_bind_0 13 rfl rfl)
theorem dX0_bind_16 : decode cX0_bind 16 = .ok (.iload_n 1, 1) := dk_27 (dk_at dksX0_bind_0 16 rfl rfl)
theorem dX0_bind_17 : decode cX0_bind 17 = .ok (.iload_n 2, 1) := dk_28 (dk_at dksX0_bind_0 17 rfl rfl)
theorem dX0_bind_18 : decode cX0_bind 18 = .ok (.if_icmp .eq 15, 3) := dk_159 0 15 (dk_at dksX0_bind_0 18 rfl rfl)
theorem dX0_bind_21 : decode cX0_bind 21 = .ok (.iload_n 3, 1) := dk_29 (dk_at dksX0_bind_0 21 rfl rfl)
theorem dX0_bind_22 : decode cX0_bind 22 = .ok (.i2l, 1) := dk_133 (dk_at dksX0_bind_0 22 rfl rfl)
theorem dX0_bind_23 : decode cX0_bind 23 = .ok (.lconst 1, 1) := dk_10 (dk_at dksX0_bind_0 23 rfl rfl)
theorem dX0_bind_24 : decode cX0_bind 24 = .ok (.ldc2_w 271, 3) := dk_20 1 15 (dk_at dksX0_bind_1 0 rfl rfl)
theorem dX0_bind_27 : decode cX0_bind 27 = .ok (.invokestatic 234, 3) := dk_184 0 234 (dk_at dksX0_bind_1 3 rfl rfl)
theorem dX0_bind_30 : decode cX0_bind 30 = .ok (.ifCond .ne 5, 3) := dk_154 0 5 (dk_at dksX0_bind_1 6 rfl rfl)
theorem dX0_bind_33 : decode cX0_bind 33 = .ok (.iconst (-1), 1) := dk_2 (dk_at dksX0_bind_1 9 rfl rfl)
theorem dX0_bind_34 : decode cX0_bind 34 = .ok (.ireturn, 1) := dk_172 (dk_at dksX0_bind_1 10 rfl rfl)
theorem dX0_bind_35 : decode cX0_bind 35 = .ok (.aload_n 0, 1) := dk_42 (dk_at dksX0_bind_1 11 rfl rfl)
theorem dX0_bind_36 : decode cX0_bind 36 = .ok (.getfield 153, 3) := dk_180 0 153 (dk_at dksX0_bind_1 12 rfl rfl)
theorem dX0_bind_39 : decode cX0_bind 39 = .ok (.iload_n 1, 1) := dk_27 (dk_at dksX0_bind_1 15 rfl rfl)
theorem dX0_bind_40 : decode cX0_bind 40 = .ok (.iload_n 2, 1) := dk_28 (dk_at dksX0_bind_1 16 rfl rfl)
theorem dX0_bind_41 : decode cX0_bind 41 = .ok (.invokevirtual 273, 3) := dk_182 1 17 (dk_at dksX0_bind_1 17 rfl rfl)
theorem dX0_bind_44 : decode cX0_bind 44 = .ok (.iconst (-1), 1) := dk_2 (dk_at dksX0_bind_1 20 rfl rfl)
theorem dX0_bind_45 : decode cX0_bind 45 = .ok (.if_icmp .ne 26, 3) := dk_160 0 26 (dk_at dksX0_bind_1 21 rfl rfl)
theorem dX0_bind_48 : decode cX0_bind 48 = .ok (.iload_n 3, 1) := dk_29 (dk_at dksX0_bind_2 0 rfl rfl)
theorem dX0_bind_49 : decode cX0_bind 49 = .ok (.aload_n 0, 1) := dk_42 (dk_at dksX0_bind_2 1 rfl rfl)
theorem dX0_bind_50 : decode cX0_bind 50 = .ok (.getfield 153, 3) := dk_180 0 153 (dk_at dksX0_bind_2 2 rfl rfl)
theorem dX0_bind_53 : decode cX0_bind 53 = .ok (.getfield 277, 3) := dk_180 1 21 (dk_at dksX0_bind_2 5 rfl rfl)
theorem dX0_bind_56 : decode cX0_bind 56 = .ok (.if_icmp .gt 15, 3) := dk_163 0 15 (dk_at dksX0_bind_2 8 rfl rfl)
theorem dX0_bind_59 : decode cX0_bind 59 = .ok (.aload_n 0, 1) := dk_42 (dk_at dksX0_bind_2 11 rfl rfl)
theorem dX0_bind_60 : decode cX0_bind 60 = .ok (.getfield 153, 3) := dk_180 0 153 (dk_at dksX0_bind_2 12 rfl rfl)
theorem dX0_bind_63 : decode cX0_bind 63 = .ok (.getfield 216, 3) := dk_180 0 216 (dk_at dksX0_bind_2 15 rfl rfl)
theorem dX0_bind_66 : decode cX0_bind 66 = .ok (.bipush 12, 2) := dk_16 12 (dk_at dksX0_bind_2 18 rfl rfl)
theorem dX0_bind_68 : decode cX0_bind 68 = .ok (.if_icmp .ne 5, 3) := dk_160 0 5 (dk_at dksX0_bind_2 20 rfl rfl)
theorem dX0_bind_71 : decode cX0_bind 71 = .ok (.iconst (-1), 1) := dk_2 (dk_at dksX0_bind_2 23 rfl rfl)
theorem dX0_bind_72 : decode cX0_bind 72 = .ok (.ireturn, 1) := dk_172 (dk_at dksX0_bind_3 0 rfl rfl)
theorem dX0_bind_73 : decode cX0_bind 73 = .ok (.aload_n 0, 1) := dk_42 (dk_at dksX0_bind_3 1 rfl rfl)
theorem dX0_bind_74 : decode cX0_bind 74 = .ok (.invokevirtual 265, 3) := dk_182 1 9 (dk_at dksX0_bind_3 2 rfl rfl)
theorem dX0_bind_77 : decode cX0_bind 77 = .ok (.aload_n 0, 1) := dk_42 (dk_at dksX0_bind_3 5 rfl rfl)
theorem dX0_bind_78 : decode cX0_bind 78 = .ok (.getfield 153, 3) := dk_180 0 153 (dk_at dksX0_bind_3 6 rfl rfl)
theorem dX0_bind_81 : decode cX0_bind 81 = .ok (.iload_n 1, 1) := dk_27 (dk_at dksX0_bind_3 9 rfl rfl)
theorem dX0_bind_82 : decode cX0_bind 82 = .ok (.iload_n 2, 1) := dk_28 (dk_at dksX0_bind_3 10 rfl rfl)
theorem dX0_bind_83 : decode cX0_bind 83 = .ok (.iload_n 3, 1) := dk_29 (dk_at dksX0_bind_3 11 rfl rfl)
theorem dX0_bind_84 : decode cX0_bind 84 = .ok (.invokevirtual 279, 3) := dk_182 1 23 (dk_at dksX0_bind_3 12 rfl rfl)
theorem dX0_bind_87 : decode cX0_bind 87 = .ok (.aload_n 0, 1) := dk_42 (dk_at dksX0_bind_3 15 rfl rfl)
theorem dX0_bind_88 : decode cX0_bind 88 = .ok (.getfield 153, 3) := dk_180 0 153 (dk_at dksX0_bind_3 16 rfl rfl)
theorem dX0_bind_91 : decode cX0_bind 91 = .ok (.dup, 1) := dk_89 (dk_at dksX0_bind_3 19 rfl rfl)
theorem dX0_bind_92 : decode cX0_bind 92 = .ok (.getfield 277, 3) := dk_180 1 21 (dk_at dksX0_bind_3 20 rfl rfl)
theorem dX0_bind_95 : decode cX0_bind 95 = .ok (.iload_n 3, 1) := dk_29 (dk_at dksX0_bind_3 23 rfl rfl)
theorem dX0_bind_96 : decode cX0_bind 96 = .ok (.isub, 1) := dk_100 (dk_at dksX0_bind_4 0 rfl rfl)
theorem dX0_bind_97 : decode cX0_bind 97 = .ok (.putfield 277, 3) := dk_181 1 21 (dk_at dksX0_bind_4 1 rfl rfl)
theorem dX0_bind_100 : decode cX0_bind 100 = .ok (.aload_n 0, 1) := dk_42 (dk_at dksX0_bind_4 4 rfl rfl)
theorem dX0_bind_101 : decode cX0_bind 101 = .ok (.getfield 153, 3) := dk_180 0 153 (dk_at dksX0_bind_4 5 rfl rfl)
theorem dX0_bind_104 : decode cX0_bind 104 = .ok (.getfield 216, 3) := dk_180 0 216 (dk_at dksX0_bind_4 8 rfl rfl)
theorem dX0_bind_107 : decode cX0_bind 107 = .ok (.iconst 1, 1) := dk_4 (dk_at dksX0_bind_4 11 rfl rfl)
theorem dX0_bind_108 : decode cX0_bind 108 = .ok (.isub, 1) := dk_100 (dk_at dksX0_bind_4 12 rfl rfl)
theorem dX0_bind_109 : decode cX0_bind 109 = .ok (.ireturn, 1) := dk_172 (dk_at dksX0_bind_4 13 rfl rfl)
abbrev cX0_cut : ByteArray := prog_1_method_24_code
def yX0_cut : MethodName := ⟨RX0, "cut", "(I)I"⟩
def dkwX0_cut_1 : List UInt8 := [180, 0, 153, 4, 27, 120, 182, 1, 27, 96, 181, 1, 21, 42, 180, 0, 153, 180, 1, 21, 172]
abbrev dktX0_cut_1 : List UInt8 := dkwX0_cut_1 ++ []
def dkwX0_cut_0 : List UInt8 := [42, 27, 182, 0, 219, 154, 0, 5, 2, 172, 42, 182, 1, 9, 42, 180, 0, 153, 89, 180, 1, 21, 42]
abbrev dktX0_cut_0 : List UInt8 := dkwX0_cut_0 ++ dktX0_cut_1
theorem dksX0_cut_0 : cX0_cut.data.toList.drop 0 = dktX0_cut_0 := by decide +kernel
theorem dksX0_cut_1 : cX0_cut.data.toList.drop 23 = dktX0_cut_1 := dk_seg dksX0_cut_0 23 rfl rfl
theorem dX0_cut_0 : decode cX0_cut 0 = .ok (.aload_n 0, 1) := dk_42 (dk_at dksX0_cut_0 0 rfl rfl)
theorem dX0_cut_1 : decode cX0_cut 1 = .ok (.iload_n 1, 1) := dk_27 (dk_at dksX0_cut_0 1 rfl rfl)
theorem dX0_cut_2 : decode cX0_cut 2 = .ok (.invokevirtual 219, 3) := dk_182 0 219 (dk_at dksX0_cut_0 2 rfl rfl)
theorem dX0_cut_5 : decode cX0_cut 5 = .ok (.ifCond .ne 5, 3) := dk_154 0 5 (dk_at dksX0_cut_0 5 rfl rfl)
theorem dX0_cut_8 : decode cX0_cut 8 = .ok (.iconst (-1), 1) := dk_2 (dk_at dksX0_cut_0 8 rfl rfl)
theorem dX0_cut_9 : decode cX0_cut 9 = .ok (.ireturn, 1) := dk_172 (dk_at dksX0_cut_0 9 rfl rfl)
theorem dX0_cut_10 : decode cX0_cut 10 = .ok (.aload_n 0, 1) := dk_42 (dk_at dksX0_cut_0 10 rfl rfl)
theorem dX0_cut_11 : decode cX0_cut 11 = .ok (.invokevirtual 265, 3) := dk_182 1 9 (dk_at dksX0_cut_0 11 rfl rfl)
theorem dX0_cut_14 : decode cX0_cut 14 = .ok (.aload_n 0, 1) := dk_42 (dk_at dksX0_cut_0 14 rfl rfl)
theorem dX0_cut_15 : decode cX0_cut 15 = .ok (.getfield 153, 3) := dk_180 0 153 (dk_at dksX0_cut_0 15 rfl rfl)
theorem dX0_cut_18 : decode cX0_cut 18 = .ok (.dup, 1) := dk_89 (dk_at dksX0_cut_0 18 rfl rfl)
theorem dX0_cut_19 : decode cX0_cut 19 = .ok (.getfield 277, 3) := dk_180 1 21 (dk_at dksX0_cut_0 19 rfl rfl)
theorem dX0_cut_22 : decode cX0_cut 22 = .ok (.aload_n 0, 1) := dk_42 (dk_at dksX0_cut_0 22 rfl rfl)
theorem dX0_cut_23 : decode cX0_cut 23 = .ok (.getfield 153, 3) := dk_180 0 153 (dk_at dksX0_cut_1 0 rfl rfl)
theorem dX0_cut_26 : decode cX0_cut 26 = .ok (.iconst 1, 1) := dk_4 (dk_at dksX0_cut_1 3 rfl rfl)
theorem dX0_cut_27 : decode cX0_cut 27 = .ok (.iload_n 1, 1) := dk_27 (dk_at dksX0_cut_1 4 rfl rfl)
theorem dX0_cut_28 : decode cX0_cut 28 = .ok (.ishl, 1) := dk_120 (dk_at dksX0_cut_1 5 rfl rfl)
theorem dX0_cut_29 : decode cX0_cut 29 = .ok (.invokevirtual 283, 3) := dk_182 1 27 (dk_at dksX0_cut_1 6 rfl rfl)
theorem dX0_cut_32 : decode cX0_cut 32 = .ok (.iadd, 1) := dk_96 (dk_at dksX0_cut_1 9 rfl rfl)
theorem dX0_cut_33 : decode cX0_cut 33 = .ok (.putfield 277, 3) := dk_181 1 21 (dk_at dksX0_cut_1 10 rfl rfl)
theorem dX0_cut_36 : decode cX0_cut 36 = .ok (.aload_n 0, 1) := dk_42 (dk_at dksX0_cut_1 13 rfl rfl)
theorem dX0_cut_37 : decode cX0_cut 37 = .ok (.getfield 153, 3) := dk_180 0 153 (dk_at dksX0_cut_1 14 rfl rfl)
theorem dX0_cut_40 : decode cX0_cut 40 = .ok (.getfield 277, 3) := dk_180 1 21 (dk_at dksX0_cut_1 17 rfl rfl)
theorem dX0_cut_43 : decode cX0_cut 43 = .ok (.ireturn, 1) := dk_172 (dk_at dksX0_cut_1 20 rfl rfl)
abbrev cX0_saw : ByteArray := prog_1_method_25_code
def yX0_saw : MethodName := ⟨RX0, "saw", "(I)I"⟩
def dkwX0_saw_1 : List UInt8 := [61, 42, 180, 0, 153, 28, 182, 1, 27, 87, 28, 184, 1, 33, 172]
abbrev dktX0_saw_1 : List UInt8 := dkwX0_saw_1 ++ []
def dkwX0_saw_0 : List UInt8 := [42, 27, 182, 0, 212, 154, 0, 5, 2, 172, 42, 182, 1, 9, 42, 180, 0, 153, 4, 27, 120, 182, 1, 30]
abbrev dktX0_saw_0 : List UInt8 := dkwX0_saw_0 ++ dktX0_saw_1
theorem dksX0_saw_0 : cX0_saw.data.toList.drop 0 = dktX0_saw_0 := by decide +kernel
theorem dksX0_saw_1 : cX0_saw.data.toList.drop 24 = dktX0_saw_1 := dk_seg dksX0_saw_0 24 rfl rfl
theorem dX0_saw_0 : decode cX0_saw 0 = .ok (.aload_n 0, 1) := dk_42 (dk_at dksX0_saw_0 0 rfl rfl)
theorem dX0_saw_1 : decode cX0_saw 1 = .ok (.iload_n 1, 1) := dk_27 (dk_at dksX0_saw_0 1 rfl rfl)
theorem dX0_saw_2 : decode cX0_saw 2 = .ok (.invokevirtual 212, 3) := dk_182 0 212 (dk_at dksX0_saw_0 2 rfl rfl)
theorem dX0_saw_5 : decode cX0_saw 5 = .ok (.ifCond .ne 5, 3) := dk_154 0 5 (dk_at dksX0_saw_0 5 rfl rfl)
theorem dX0_saw_8 : decode cX0_saw 8 = .ok (.iconst (-1), 1) := dk_2 (dk_at dksX0_saw_0 8 rfl rfl)
theorem dX0_saw_9 : decode cX0_saw 9 = .ok (.ireturn, 1) := dk_172 (dk_at dksX0_saw_0 9 rfl rfl)
theorem dX0_saw_10 : decode cX0_saw 10 = .ok (.aload_n 0, 1) := dk_42 (dk_at dksX0_saw_0 10 rfl rfl)
theorem dX0_saw_11 : decode cX0_saw 11 = .ok (.invokevirtual 265, 3) := dk_182 1 9 (dk_at dksX0_saw_0 11 rfl rfl)
theorem dX0_saw_14 : decode cX0_saw 14 = .ok (.aload_n 0, 1) := dk_42 (dk_at dksX0_saw_0 14 rfl rfl)
theorem dX0_saw_15 : decode cX0_saw 15 = .ok (.getfield 153, 3) := dk_180 0 153 (dk_at dksX0_saw_0 15 rfl rfl)
theorem dX0_saw_18 : decode cX0_saw 18 = .ok (.iconst 1, 1) := dk_4 (dk_at dksX0_saw_0 18 rfl rfl)
theorem dX0_saw_19 : decode cX0_saw 19 = .ok (.iload_n 1, 1) := dk_27 (dk_at dksX0_saw_0 19 rfl rfl)
theorem dX0_saw_20 : decode cX0_saw 20 = .ok (.ishl, 1) := dk_120 (dk_at dksX0_saw_0 20 rfl rfl)
theorem dX0_saw_21 : decode cX0_saw 21 = .ok (.invokevirtual 286, 3) := dk_182 1 30 (dk_at dksX0_saw_0 21 rfl rfl)
theorem dX0_saw_24 : decode cX0_saw 24 = .ok (.istore_n 2, 1) := dk_61 (dk_at dksX0_saw_1 0 rfl rfl)
theorem dX0_saw_25 : decode cX0_saw 25 = .ok (.aload_n 0, 1) := dk_42 (dk_at dksX0_saw_1 1 rfl rfl)
theorem dX0_saw_26 : decode cX0_saw 26 = .ok (.getfield 153, 3) := dk_180 0 153 (dk_at dksX0_saw_1 2 rfl rfl)
theorem dX0_saw_29 : decode cX0_saw 29 = .ok (.iload_n 2, 1) := dk_28 (dk_at dksX0_saw_1 5 rfl rfl)
theorem dX0_saw_30 : decode cX0_saw 30 = .ok (.invokevirtual 283, 3) := dk_182 1 27 (dk_at dksX0_saw_1 6 rfl rfl)
theorem dX0_saw_33 : decode cX0_saw 33 = .ok (.pop, 1) := dk_87 (dk_at dksX0_saw_1 9 rfl rfl)
theorem dX0_saw_34 : decode cX0_saw 34 = .ok (.iload_n 2, 1) := dk_28 (dk_at dksX0_saw_1 10 rfl rfl)
theorem dX0_saw_35 : decode cX0_saw 35 = .ok (.invokestatic 289, 3) := dk_184 1 33 (dk_at dksX0_saw_1 11 rfl rfl)
theorem dX0_saw_38 : decode cX0_saw 38 = .ok (.ireturn, 1) := dk_172 (dk_at dksX0_saw_1 14 rfl rfl)
abbrev cX0_push : ByteArray := prog_1_method_26_code
def yX0_push : MethodName := ⟨RX0, "push", "(II)I"⟩
def dkwX0_push_2 : List UInt8 := [180, 0, 153, 180, 0, 200, 27, 28, 79, 29, 172]
abbrev dktX0_push_2 : List UInt8 := dkwX0_push_2 ++ []
def dkwX0_push_1 : List UInt8 := [46, 28, 160, 0, 5, 2, 172, 42, 182, 1, 9, 42, 180, 0, 153, 180, 0, 200, 27, 46, 62, 42]
abbrev dktX0_push_1 : List UInt8 := dkwX0_push_1 ++ dktX0_push_2
def dkwX0_push_0 : List UInt8 := [42, 27, 182, 0, 212, 153, 0, 24, 42, 28, 182, 0, 177, 153, 0, 16, 42, 180, 0, 153, 180, 0, 200, 27]
abbrev dktX0_push_0 : List UInt8 := dkwX0_push_0 ++ dktX0_push_1
theorem dksX0_push_0 : cX0_push.data.toList.drop 0 = dktX0_push_0 := by decide +kernel
theorem dksX0_push_1 : cX0_push.data.toList.drop 24 = dktX0_push_1 := dk_seg dksX0_push_0 24 rfl rfl
theorem dksX0_push_2 : cX0_push.data.toList.drop 46 = dktX0_push_2 := dk_seg dksX0_push_1 22 rfl rfl
theorem dX0_push_0 : decode cX0_push 0 = .ok (.aload_n 0, 1) := dk_42 (dk_at dksX0_push_0 0 rfl rfl)
theorem dX0_push_1 : decode cX0_push 1 = .ok (.iload_n 1, 1) := dk_27 (dk_at dksX0_push_0 1 rfl rfl)
theorem dX0_push_2 : decode cX0_push 2 = .ok (.invokevirtual 212, 3) := dk_182 0 212 (dk_at dksX0_push_0 2 rfl rfl)
theorem dX0_push_5 : decode cX0_push 5 = .ok (.ifCond .eq 24, 3) := dk_153 0 24 (dk_at dksX0_push_0 5 rfl rfl)
theorem dX0_push_8 : decode cX0_push 8 = .ok (.aload_n 0, 1) := dk_42 (dk_at dksX0_push_0 8 rfl rfl)
theorem dX0_push_9 : decode cX0_push 9 = .ok (.iload_n 2, 1) := dk_28 (dk_at dksX0_push_0 9 rfl rfl)
theorem dX0_push_10 : decode cX0_push 10 = .ok (.invokevirtual 177, 3) := dk_182 0 177 (dk_at dksX0_push_0 10 rfl rfl)
theorem dX0_push_13 : decode cX0_push 13 = .ok (.ifCond .eq 16, 3) := dk_153 0 16 (dk_at dksX0_push_0 13 rfl rfl)
theorem dX0_push_16 : decode cX0_push 16 = .ok (.aload_n 0, 1) := dk_42 (dk_at dksX0_push_0 16 rfl rfl)
theorem dX0_push_17 : decode cX0_push 17 = .ok (.getfield 153, 3) := dk_180 0 153 (dk_at dksX0_push_0 17 rfl rfl)
theorem dX0_push_20 : decode cX0_push 20 = .ok (.getfield 200, 3) := dk_180 0 200 (dk_at dksX0_push_0 20 rfl rfl)
theorem dX0_push_23 : decode cX0_push 23 = .ok (.iload_n 1, 1) := dk_27 (dk_at dksX0_push_0 23 rfl rfl)
theorem dX0_push_24 : decode cX0_push 24 = .ok (.iaload, 1) := dk_46 (dk_at dksX0_push_1 0 rfl rfl)
theorem dX0_push_25 : decode cX0_push 25 = .ok (.iload_n 2, 1) := dk_28 (dk_at dksX0_push_1 1 rfl rfl)
theorem dX0_push_26 : decode cX0_push 26 = .ok (.if_icmp .ne 5, 3) := dk_160 0 5 (dk_at dksX0_push_1 2 rfl rfl)
theorem dX0_push_29 : decode cX0_push 29 = .ok (.iconst (-1), 1) := dk_2 (dk_at dksX0_push_1 5 rfl rfl)
theorem dX0_push_30 : decode cX0_push 30 = .ok (.ireturn, 1) := dk_172 (dk_at dksX0_push_1 6 rfl rfl)
theorem dX0_push_31 : decode cX0_push 31 = .ok (.aload_n 0, 1) := dk_42 (dk_at dksX0_push_1 7 rfl rfl)
theorem dX0_push_32 : decode cX0_push 32 = .ok (.invokevirtual 265, 3) := dk_182 1 9 (dk_at dksX0_push_1 8 rfl rfl)
theorem dX0_push_35 : decode cX0_push 35 = .ok (.aload_n 0, 1) := dk_42 (dk_at dksX0_push_1 11 rfl rfl)
theorem dX0_push_36 : decode cX0_push 36 = .ok (.getfield 153, 3) := dk_180 0 153 (dk_at dksX0_push_1 12 rfl rfl)
theorem dX0_push_39 : decode cX0_push 39 = .ok (.getfield 200, 3) := dk_180 0 200 (dk_at dksX0_push_1 15 rfl rfl)
theorem dX0_push_42 : decode cX0_push 42 = .ok (.iload_n 1, 1) := dk_27 (dk_at dksX0_push_1 18 rfl rfl)
theorem dX0_push_43 : decode cX0_push 43 = .ok (.iaload, 1) := dk_46 (dk_at dksX0_push_1 19 rfl rfl)
theorem dX0_push_44 : decode cX0_push 44 = .ok (.istore_n 3, 1) := dk_62 (dk_at dksX0_push_1 20 rfl rfl)
theorem dX0_push_45 : decode cX0_push 45 = .ok (.aload_n 0, 1) := dk_42 (dk_at dksX0_push_1 21 rfl rfl)
theorem dX0_push_46 : decode cX0_push 46 = .ok (.getfield 153, 3) := dk_180 0 153 (dk_at dksX0_push_2 0 rfl rfl)
theorem dX0_push_49 : decode cX0_push 49 = .ok (.getfield 200, 3) := dk_180 0 200 (dk_at dksX0_push_2 3 rfl rfl)
theorem dX0_push_52 : decode cX0_push 52 = .ok (.iload_n 1, 1) := dk_27 (dk_at dksX0_push_2 6 rfl rfl)
theorem dX0_push_53 : decode cX0_push 53 = .ok (.iload_n 2, 1) := dk_28 (dk_at dksX0_push_2 7 rfl rfl)
theorem dX0_push_54 : decode cX0_push 54 = .ok (.iastore, 1) := dk_79 (dk_at dksX0_push_2 8 rfl rfl)
theorem dX0_push_55 : decode cX0_push 55 = .ok (.iload_n 3, 1) := dk_29 (dk_at dksX0_push_2 9 rfl rfl)
theorem dX0_push_56 : decode cX0_push 56 = .ok (.ireturn, 1) := dk_172 (dk_at dksX0_push_2 10 rfl rfl)
abbrev cX0_run : ByteArray := prog_1_method_30_code
def yX0_run : MethodName := ⟨RX0, "run", "(III)I"⟩
def dkwX0_run_5 : List UInt8 := [54, 4, 132, 5, 1, 167, 255, 201, 21, 4, 172]
abbrev dktX0_run_5 : List UInt8 := dkwX0_run_5 ++ []
def dkwX0_run_4 : List UInt8 := [162, 0, 14, 42, 42, 180, 0, 86, 27, 50, 29, 182, 1, 64, 21, 4, 42, 180, 0, 153, 182, 1, 12, 96]
abbrev dktX0_run_4 : List UInt8 := dkwX0_run_4 ++ dktX0_run_5
def dkwX0_run_3 : List UInt8 := [28, 162, 0, 55, 29, 42, 180, 0, 153, 180, 1, 21, 163, 0, 26, 42, 180, 0, 153, 180, 0, 216, 16, 12]
abbrev dktX0_run_3 : List UInt8 := dkwX0_run_3 ++ dktX0_run_4
def dkwX0_run_2 : List UInt8 := [184, 0, 234, 154, 0, 5, 2, 172, 42, 180, 0, 153, 3, 181, 0, 244, 3, 54, 4, 3, 54, 5, 21, 5]
abbrev dktX0_run_2 : List UInt8 := dkwX0_run_2 ++ dktX0_run_3
def dkwX0_run_1 : List UInt8 := [180, 0, 231, 42, 180, 0, 153, 180, 1, 6, 100, 133, 184, 0, 234, 153, 0, 15, 29, 133, 10, 20, 1, 15]
abbrev dktX0_run_1 : List UInt8 := dkwX0_run_1 ++ dktX0_run_2
def dkwX0_run_0 : List UInt8 := [42, 180, 0, 153, 198, 0, 48, 42, 27, 182, 1, 61, 153, 0, 40, 28, 133, 10, 42, 180, 0, 153]
abbrev dktX0_run_0 : List UInt8 := dkwX0_run_0 ++ dktX0_run_1
theorem dksX0_run_0 : cX0_run.data.toList.drop 0 = dktX0_run_0 := by decide +kernel
theorem dksX0_run_1 : cX0_run.data.toList.drop 22 = dktX0_run_1 := dk_seg dksX0_run_0 22 rfl rfl
theorem dksX0_run_2 : cX0_run.data.toList.drop 46 = dktX0_run_2 := dk_seg dksX0_run_1 24 rfl rfl
theorem dksX0_run_3 : cX0_run.data.toList.drop 70 = dktX0_run_3 := dk_seg dksX0_run_2 24 rfl rfl
theorem dksX0_run_4 : cX0_run.data.toList.drop 94 = dktX0_run_4 := dk_seg dksX0_run_3 24 rfl rfl
theorem dksX0_run_5 : cX0_run.data.toList.drop 118 = dktX0_run_5 := dk_seg dksX0_run_4 24 rfl rfl
theorem dX0_run_0 : decode cX0_run 0 = .ok (.aload_n 0, 1) := dk_42 (dk_at dksX0_run_0 0 rfl rfl)
theorem dX0_run_1 : decode cX0_run 1 = .ok (.getfield 153, 3) := dk_180 0 153 (dk_at dksX0_run_0 1 rfl rfl)
theorem dX0_run_4 : decode cX0_run 4 = .ok (.ifnull 48, 3) := dk_198 0 48 (dk_at dksX0_run_0 4 rfl rfl)
theorem dX0_run_7 : decode cX0_run 7 = .ok (.aload_n 0, 1) := dk_42 (dk_at dksX0_run_0 7 rfl rfl)
theorem dX0_run_8 : decode cX0_run 8 = .ok (.iload_n 1, 1) := dk_27 (dk_at dksX0_run_0 8 rfl rfl)
theorem dX0_run_9 : decode cX0_run 9 = .ok (.invokevirtual 317, 3) := dk_182 1 61 (dk_at dksX0_run_0 9 rfl rfl)
theorem dX0_run_12 : decode cX0_run 12 = .ok (.ifCond .eq 40, 3) := dk_153 0 40 (dk_at dksX0_run_0 12 rfl rfl)
theorem dX0_run_15 : decode cX0_run 15 = .ok (.iload_n 2, 1) := dk_28 (dk_at dksX0_run_0 15 rfl rfl)
theorem dX0_run_16 : decode cX0_run 16 = .ok (.i2l, 1) := dk_133 (dk_at dksX0_run_0 16 rfl rfl)
theorem dX0_run_17 : decode cX0_run 17 = .ok (.lconst 1, 1) := dk_10 (dk_at dksX0_run_0 17 rfl rfl)
theorem dX0_run_18 : decode cX0_run 18 = .ok (.aload_n 0, 1) := dk_42 (dk_at dksX0_run_0 18 rfl rfl)
theorem dX0_run_19 : decode cX0_run 19 = .ok (.getfield 153, 3) := dk_180 0 153 (dk_at dksX0_run_0 19 rfl rfl)
theorem dX0_run_22 : decode cX0_run 22 = .ok (.getfield 231, 3) := dk_180 0 231 (dk_at dksX0_run_1 0 rfl rfl)
theorem dX0_run_25 : decode cX0_run 25 = .ok (.aload_n 0, 1) := dk_42 (dk_at dksX0_run_1 3 rfl rfl)
theorem dX0_run_26 : decode cX0_run 26 = .ok (.getfield 153, 3) := dk_180 0 153 (dk_at dksX0_run_1 4 rfl rfl)
theorem dX0_run_29 : decode cX0_run 29 = .ok (.getfield 262, 3) := dk_180 1 6 (dk_at dksX0_run_1 7 rfl rfl)
theorem dX0_run_32 : decode cX0_run 32 = .ok (.isub, 1) := dk_100 (dk_at dksX0_run_1 10 rfl rfl)
theorem dX0_run_33 : decode cX0_run 33 = .ok (.i2l, 1) := dk_133 (dk_at dksX0_run_1 11 rfl rfl)
theorem dX0_run_34 : decode cX0_run 34 = .ok (.invokestatic 234, 3) := dk_184 0 234 (dk_at dksX0_run_1 12 rfl rfl)
theorem dX0_run_37 : decode cX0_run 37 = .ok (.ifCond .eq 15, 3) := dk_153 0 15 (dk_at dksX0_run_1 15 rfl rfl)
theorem dX0_run_40 : decode cX0_run 40 = .ok (.iload_n 3, 1) := dk_29 (dk_at dksX0_run_1 18 rfl rfl)
theorem dX0_run_41 : decode cX0_run 41 = .ok (.i2l, 1) := dk_133 (dk_at dksX0_run_1 19 rfl rfl)
theorem dX0_run_42 : decode cX0_run 42 = .ok (.lconst 1, 1) := dk_10 (dk_at dksX0_run_1 20 rfl rfl)
theorem dX0_run_43 : decode cX0_run 43 = .ok (.ldc2_w 271, 3) := dk_20 1 15 (dk_at dksX0_run_1 21 rfl rfl)
theorem dX0_run_46 : decode cX0_run 46 = .ok (.invokestatic 234, 3) := dk_184 0 234 (dk_at dksX0_run_2 0 rfl rfl)
theorem dX0_run_49 : decode cX0_run 49 = .ok (.ifCond .ne 5, 3) := dk_154 0 5 (dk_at dksX0_run_2 3 rfl rfl)
theorem dX0_run_52 : decode cX0_run 52 = .ok (.iconst (-1), 1) := dk_2 (dk_at dksX0_run_2 6 rfl rfl)
theorem dX0_run_53 : decode cX0_run 53 = .ok (.ireturn, 1) := dk_172 (dk_at dksX0_run_2 7 rfl rfl)
theorem dX0_run_54 : decode cX0_run 54 = .ok (.aload_n 0, 1) := dk_42 (dk_at dksX0_run_2 8 rfl rfl)
theorem dX0_run_55 : decode cX0_run 55 = .ok (.getfield 153, 3) := dk_180 0 153 (dk_at dksX0_run_2 9 rfl rfl)
theorem dX0_run_58 : decode cX0_run 58 = .ok (.iconst 0, 1) := dk_3 (dk_at dksX0_run_2 12 rfl rfl)
theorem dX0_run_59 : decode cX0_run 59 = .ok (.putfield 244, 3) := dk_181 0 244 (dk_at dksX0_run_2 13 rfl rfl)
theorem dX0_run_62 : decode cX0_run 62 = .ok (.iconst 0, 1) := dk_3 (dk_at dksX0_run_2 16 rfl rfl)
theorem dX0_run_63 : decode cX0_run 63 = .ok (.istore 4, 2) := dk_54 4 (dk_at dksX0_run_2 17 rfl rfl)
theorem dX0_run_65 : decode cX0_run 65 = .ok (.iconst 0, 1) := dk_3 (dk_at dksX0_run_2 19 rfl rfl)
theorem dX0_run_66 : decode cX0_run 66 = .ok (.istore 5, 2) := dk_54 5 (dk_at dksX0_run_2 20 rfl rfl)
theorem dX0_run_68 : decode cX0_run 68 = .ok (.iload 5, 2) := dk_21 5 (dk_at dksX0_run_2 22 rfl rfl)
theorem dX0_run_70 : decode cX0_run 70 = .ok (.iload_n 2, 1) := dk_28 (dk_at dksX0_run_3 0 rfl rfl)
theorem dX0_run_71 : decode cX0_run 71 = .ok (.if_icmp .ge 55, 3) := dk_162 0 55 (dk_at dksX0_run_3 1 rfl rfl)
theorem dX0_run_74 : decode cX0_run 74 = .ok (.iload_n 3, 1) := dk_29 (dk_at dksX0_run_3 4 rfl rfl)
theorem dX0_run_75 : decode cX0_run 75 = .ok (.aload_n 0, 1) := dk_42 (dk_at dksX0_run_3 5 rfl rfl)
theorem dX0_run_76 : decode cX0_run 76 = .ok (.getfield 153, 3) := dk_180 0 153 (dk_at dksX0_run_3 6 rfl rfl)
theorem dX0_run_79 : decode cX0_run 79 = .ok (.getfield 277, 3) := dk_180 1 21 (dk_at dksX0_run_3 9 rfl rfl)
theorem dX0_run_82 : decode cX0_run 82 = .ok (.if_icmp .gt 26, 3) := dk_163 0 26 (dk_at dksX0_run_3 12 rfl rfl)
theorem dX0_run_85 : decode cX0_run 85 = .ok (.aload_n 0, 1) := dk_42 (dk_at dksX0_run_3 15 rfl rfl)
theorem dX0_run_86 : decode cX0_run 86 = .ok (.getfield 153, 3) := dk_180 0 153 (dk_at dksX0_run_3 16 rfl rfl)
theorem dX0_run_89 : decode cX0_run 89 = .ok (.getfield 216, 3) := dk_180 0 216 (dk_at dksX0_run_3 19 rfl rfl)
theorem dX0_run_92 : decode cX0_run 92 = .ok (.bipush 12, 2) := dk_16 12 (dk_at dksX0_run_3 22 rfl rfl)
theorem dX0_run_94 : decode cX0_run 94 = .ok (.if_icmp .ge 14, 3) := dk_162 0 14 (dk_at dksX0_run_4 0 rfl rfl)
theorem dX0_run_97 : decode cX0_run 97 = .ok (.aload_n 0, 1) := dk_42 (dk_at dksX0_run_4 3 rfl rfl)
theorem dX0_run_98 : decode cX0_run 98 = .ok (.aload_n 0, 1) := dk_42 (dk_at dksX0_run_4 4 rfl rfl)
theorem dX0_run_99 : decode cX0_run 99 = .ok (.getfield 86, 3) := dk_180 0 86 (dk_at dksX0_run_4 5 rfl rfl)
theorem dX0_run_102 : decode cX0_run 102 = .ok (.iload_n 1, 1) := dk_27 (dk_at dksX0_run_4 8 rfl rfl)
theorem dX0_run_103 : decode cX0_run 103 = .ok (.aaload, 1) := dk_50 (dk_at dksX0_run_4 9 rfl rfl)
theorem dX0_run_104 : decode cX0_run 104 = .ok (.iload_n 3, 1) := dk_29 (dk_at dksX0_run_4 10 rfl rfl)
theorem dX0_run_105 : decode cX0_run 105 = .ok (.invokevirtual 320, 3) := dk_182 1 64 (dk_at dksX0_run_4 11 rfl rfl)
theorem dX0_run_108 : decode cX0_run 108 = .ok (.iload 4, 2) := dk_21 4 (dk_at dksX0_run_4 14 rfl rfl)
theorem dX0_run_110 : decode cX0_run 110 = .ok (.aload_n 0, 1) := dk_42 (dk_at dksX0_run_4 16 rfl rfl)
theorem dX0_run_111 : decode cX0_run 111 = .ok (.getfield 153, 3) := dk_180 0 153 (dk_at dksX0_run_4 17 rfl rfl)
theorem dX0_run_114 : decode cX0_run 114 = .ok (.invokevirtual 268, 3) := dk_182 1 12 (dk_at dksX0_run_4 20 rfl rfl)
theorem dX0_run_117 : decode cX0_run 117 = .ok (.iadd, 1) := dk_96 (dk_at dksX0_run_4 23 rfl rfl)
theorem dX0_run_118 : decode cX0_run 118 = .ok (.istore 4, 2) := dk_54 4 (dk_at dksX0_run_5 0 rfl rfl)
theorem dX0_run_120 : decode cX0_run 120 = .ok (.iinc 5 1, 3) := dk_132 5 1 (dk_at dksX0_run_5 2 rfl rfl)
theorem dX0_run_123 : decode cX0_run 123 = .ok (.goto (-55), 3) := dk_167 255 201 (dk_at dksX0_run_5 5 rfl rfl)
theorem dX0_run_126 : decode cX0_run 126 = .ok (.iload 4, 2) := dk_21 4 (dk_at dksX0_run_5 8 rfl rfl)
theorem dX0_run_128 : decode cX0_run 128 = .ok (.ireturn, 1) := dk_172 (dk_at dksX0_run_5 10 rfl rfl)
abbrev cX0_isRule : ByteArray := prog_1_method_10_code
def yX0_isRule : MethodName := ⟨RX0, "isRule", "(I)Z"⟩
def dkwX0_isRule_0 : List UInt8 := [27, 155, 0, 15, 27, 42, 180, 0, 163, 162, 0, 7, 4, 167, 0, 4, 3, 172]
abbrev dktX0_isRule_0 : List UInt8 := dkwX0_isRule_0 ++ []
theorem dksX0_isRule_0 : cX0_isRule.data.toList.drop 0 = dktX0_isRule_0 := by decide +kernel
theorem dX0_isRule_0 : decode cX0_isRule 0 = .ok (.iload_n 1, 1) := dk_27 (dk_at dksX0_isRule_0 0 rfl rfl)
theorem dX0_isRule_1 : decode cX0_isRule 1 = .ok (.ifCond .lt 15, 3) := dk_155 0 15 (dk_at dksX0_isRule_0 1 rfl rfl)
theorem dX0_isRule_4 : decode cX0_isRule 4 = .ok (.iload_n 1, 1) := dk_27 (dk_at dksX0_isRule_0 4 rfl rfl)
theorem dX0_isRule_5 : decode cX0_isRule 5 = .ok (.aload_n 0, 1) := dk_42 (dk_at dksX0_isRule_0 5 rfl rfl)
theorem dX0_isRule_6 : decode cX0_isRule 6 = .ok (.getfield 163, 3) := dk_180 0 163 (dk_at dksX0_isRule_0 6 rfl rfl)
theorem dX0_isRule_9 : decode cX0_isRule 9 = .ok (.if_icmp .ge 7, 3) := dk_162 0 7 (dk_at dksX0_isRule_0 9 rfl rfl)
theorem dX0_isRule_12 : decode cX0_isRule 12 = .ok (.iconst 1, 1) := dk_4 (dk_at dksX0_isRule_0 12 rfl rfl)
theorem dX0_isRule_13 : decode cX0_isRule 13 = .ok (.goto 4, 3) := dk_167 0 4 (dk_at dksX0_isRule_0 13 rfl rfl)
theorem dX0_isRule_16 : decode cX0_isRule 16 = .ok (.iconst 0, 1) := dk_3 (dk_at dksX0_isRule_0 16 rfl rfl)
theorem dX0_isRule_17 : decode cX0_isRule 17 = .ok (.ireturn, 1) := dk_172 (dk_at dksX0_isRule_0 17 rfl rfl)
abbrev cX0_tiesBy : ByteArray := prog_1_method_29_code
def yX0_tiesBy : MethodName := ⟨RX0, "tiesBy", "(LPartyRaft$Rule;I)V"⟩
def dkwX0_tiesBy_6 : List UInt8 := [16, 8, 112, 28, 182, 1, 23, 42, 180, 0, 153, 89, 180, 1, 21, 28, 100, 181, 1, 21, 177]
abbrev dktX0_tiesBy_6 : List UInt8 := dkwX0_tiesBy_6 ++ []
def dkwX0_tiesBy_5 : List UInt8 := [167, 255, 167, 132, 6, 1, 167, 255, 143, 29, 2, 160, 0, 4, 177, 42, 180, 0, 153, 29, 16, 8, 108, 29]
abbrev dktX0_tiesBy_5 : List UInt8 := dkwX0_tiesBy_5 ++ dktX0_tiesBy_6
def dkwX0_tiesBy_4 : List UInt8 := [157, 0, 6, 167, 0, 16, 16, 8, 21, 6, 104, 21, 7, 96, 62, 22, 8, 55, 4, 132, 7, 1]
abbrev dktX0_tiesBy_4 : List UInt8 := dkwX0_tiesBy_4 ++ dktX0_tiesBy_5
def dkwX0_tiesBy_3 : List UInt8 := [167, 0, 41, 43, 42, 21, 6, 21, 7, 182, 1, 53, 182, 1, 57, 55, 8, 22, 8, 22, 4, 148]
abbrev dktX0_tiesBy_3 : List UInt8 := dkwX0_tiesBy_3 ++ dktX0_tiesBy_4
def dkwX0_tiesBy_2 : List UInt8 := [21, 7, 182, 0, 212, 153, 0, 59, 42, 180, 0, 153, 21, 6, 21, 7, 182, 1, 17, 2, 159, 0, 6]
abbrev dktX0_tiesBy_2 : List UInt8 := dkwX0_tiesBy_2 ++ dktX0_tiesBy_3
def dkwX0_tiesBy_1 : List UInt8 := [54, 7, 21, 7, 42, 180, 0, 153, 180, 0, 156, 162, 0, 83, 42, 21, 6, 182, 0, 212, 153, 0, 68, 42]
abbrev dktX0_tiesBy_1 : List UInt8 := dkwX0_tiesBy_1 ++ dktX0_tiesBy_2
def dkwX0_tiesBy_0 : List UInt8 := [2, 62, 9, 55, 4, 3, 54, 6, 21, 6, 42, 180, 0, 153, 180, 0, 156, 162, 0, 107, 21, 6, 4, 96]
abbrev dktX0_tiesBy_0 : List UInt8 := dkwX0_tiesBy_0 ++ dktX0_tiesBy_1
theorem dksX0_tiesBy_0 : cX0_tiesBy.data.toList.drop 0 = dktX0_tiesBy_0 := by decide +kernel
theorem dksX0_tiesBy_1 : cX0_tiesBy.data.toList.drop 24 = dktX0_tiesBy_1 := dk_seg dksX0_tiesBy_0 24 rfl rfl
theorem dksX0_tiesBy_2 : cX0_tiesBy.data.toList.drop 48 = dktX0_tiesBy_2 := dk_seg dksX0_tiesBy_1 24 rfl rfl
theorem dksX0_tiesBy_3 : cX0_tiesBy.data.toList.drop 71 = dktX0_tiesBy_3 := dk_seg dksX0_tiesBy_2 23 rfl rfl
theorem dksX0_tiesBy_4 : cX0_tiesBy.data.toList.drop 93 = dktX0_tiesBy_4 := dk_seg dksX0_tiesBy_3 22 rfl rfl
theorem dksX0_tiesBy_5 : cX0_tiesBy.data.toList.drop 115 = dktX0_tiesBy_5 := dk_seg dksX0_tiesBy_4 22 rfl rfl
theorem dksX0_tiesBy_6 : cX0_tiesBy.data.toList.drop 139 = dktX0_tiesBy_6 := dk_seg dksX0_tiesBy_5 24 rfl rfl
theorem dX0_tiesBy_0 : decode cX0_tiesBy 0 = .ok (.iconst (-1), 1) := dk_2 (dk_at dksX0_tiesBy_0 0 rfl rfl)
theorem dX0_tiesBy_1 : decode cX0_tiesBy 1 = .ok (.istore_n 3, 1) := dk_62 (dk_at dksX0_tiesBy_0 1 rfl rfl)
theorem dX0_tiesBy_2 : decode cX0_tiesBy 2 = .ok (.lconst 0, 1) := dk_9 (dk_at dksX0_tiesBy_0 2 rfl rfl)
theorem dX0_tiesBy_3 : decode cX0_tiesBy 3 = .ok (.lstore 4, 2) := dk_55 4 (dk_at dksX0_tiesBy_0 3 rfl rfl)
theorem dX0_tiesBy_5 : decode cX0_tiesBy 5 = .ok (.iconst 0, 1) := dk_3 (dk_at dksX0_tiesBy_0 5 rfl rfl)
theorem dX0_tiesBy_6 : decode cX0_tiesBy 6 = .ok (.istore 6, 2) := dk_54 6 (dk_at dksX0_tiesBy_0 6 rfl rfl)
theorem dX0_tiesBy_8 : decode cX0_tiesBy 8 = .ok (.iload 6, 2) := dk_21 6 (dk_at dksX0_tiesBy_0 8 rfl rfl)
theorem dX0_tiesBy_10 : decode cX0_tiesBy 10 = .ok (.aload_n 0, 1) := dk_42 (dk_at dksX0_tiesBy_0 10 rfl rfl)
theorem dX0_tiesBy_11 : decode cX0_tiesBy 11 = .ok (.getfield 153, 3) := dk_180 0 153 (dk_at dksX0_tiesBy_0 11 rfl rfl)
theorem dX0_tiesBy_14 : decode cX0_tiesBy 14 = .ok (.getfield 156, 3) := dk_180 0 156 (dk_at dksX0_tiesBy_0 14 rfl rfl)
theorem dX0_tiesBy_17 : decode cX0_tiesBy 17 = .ok (.if_icmp .ge 107, 3) := dk_162 0 107 (dk_at dksX0_tiesBy_0 17 rfl rfl)
theorem dX0_tiesBy_20 : decode cX0_tiesBy 20 = .ok (.iload 6, 2) := dk_21 6 (dk_at dksX0_tiesBy_0 20 rfl rfl)
theorem dX0_tiesBy_22 : decode cX0_tiesBy 22 = .ok (.iconst 1, 1) := dk_4 (dk_at dksX0_tiesBy_0 22 rfl rfl)
theorem dX0_tiesBy_23 : decode cX0_tiesBy 23 = .ok (.iadd, 1) := dk_96 (dk_at dksX0_tiesBy_0 23 rfl rfl)
theorem dX0_tiesBy_24 : decode cX0_tiesBy 24 = .ok (.istore 7, 2) := dk_54 7 (dk_at dksX0_tiesBy_1 0 rfl rfl)
theorem dX0_tiesBy_26 : decode cX0_tiesBy 26 = .ok (.iload 7, 2) := dk_21 7 (dk_at dksX0_tiesBy_1 2 rfl rfl)
theorem dX0_tiesBy_28 : decode cX0_tiesBy 28 = .ok (.aload_n 0, 1) := dk_42 (dk_at dksX0_tiesBy_1 4 rfl rfl)
theorem dX0_tiesBy_29 : decode cX0_tiesBy 29 = .ok (.getfield 153, 3) := dk_180 0 153 (dk_at dksX0_tiesBy_1 5 rfl rfl)
theorem dX0_tiesBy_32 : decode cX0_tiesBy 32 = .ok (.getfield 156, 3) := dk_180 0 156 (dk_at dksX0_tiesBy_1 8 rfl rfl)
theorem dX0_tiesBy_35 : decode cX0_tiesBy 35 = .ok (.if_icmp .ge 83, 3) := dk_162 0 83 (dk_at dksX0_tiesBy_1 11 rfl rfl)
theorem dX0_tiesBy_38 : decode cX0_tiesBy 38 = .ok (.aload_n 0, 1) := dk_42 (dk_at dksX0_tiesBy_1 14 rfl rfl)
theorem dX0_tiesBy_39 : decode cX0_tiesBy 39 = .ok (.iload 6, 2) := dk_21 6 (dk_at dksX0_tiesBy_1 15 rfl rfl)
theorem dX0_tiesBy_41 : decode cX0_tiesBy 41 = .ok (.invokevirtual 212, 3) := dk_182 0 212 (dk_at dksX0_tiesBy_1 17 rfl rfl)
theorem dX0_tiesBy_44 : decode cX0_tiesBy 44 = .ok (.ifCond .eq 68, 3) := dk_153 0 68 (dk_at dksX0_tiesBy_1 20 rfl rfl)
theorem dX0_tiesBy_47 : decode cX0_tiesBy 47 = .ok (.aload_n 0, 1) := dk_42 (dk_at dksX0_tiesBy_1 23 rfl rfl)
theorem dX0_tiesBy_48 : decode cX0_tiesBy 48 = .ok (.iload 7, 2) := dk_21 7 (dk_at dksX0_tiesBy_2 0 rfl rfl)
theorem dX0_tiesBy_50 : decode cX0_tiesBy 50 = .ok (.invokevirtual 212, 3) := dk_182 0 212 (dk_at dksX0_tiesBy_2 2 rfl rfl)
theorem dX0_tiesBy_53 : decode cX0_tiesBy 53 = .ok (.ifCond .eq 59, 3) := dk_153 0 59 (dk_at dksX0_tiesBy_2 5 rfl rfl)
theorem dX0_tiesBy_56 : decode cX0_tiesBy 56 = .ok (.aload_n 0, 1) := dk_42 (dk_at dksX0_tiesBy_2 8 rfl rfl)
theorem dX0_tiesBy_57 : decode cX0_tiesBy 57 = .ok (.getfield 153, 3) := dk_180 0 153 (dk_at dksX0_tiesBy_2 9 rfl rfl)
theorem dX0_tiesBy_60 : decode cX0_tiesBy 60 = .ok (.iload 6, 2) := dk_21 6 (dk_at dksX0_tiesBy_2 12 rfl rfl)
theorem dX0_tiesBy_62 : decode cX0_tiesBy 62 = .ok (.iload 7, 2) := dk_21 7 (dk_at dksX0_tiesBy_2 14 rfl rfl)
theorem dX0_tiesBy_64 : decode cX0_tiesBy 64 = .ok (.invokevirtual 273, 3) := dk_182 1 17 (dk_at dksX0_tiesBy_2 16 rfl rfl)
theorem dX0_tiesBy_67 : decode cX0_tiesBy 67 = .ok (.iconst (-1), 1) := dk_2 (dk_at dksX0_tiesBy_2 19 rfl rfl)
theorem dX0_tiesBy_68 : decode cX0_tiesBy 68 = .ok (.if_icmp .eq 6, 3) := dk_159 0 6 (dk_at dksX0_tiesBy_2 20 rfl rfl)
theorem dX0_tiesBy_71 : decode cX0_tiesBy 71 = .ok (.goto 41, 3) := dk_167 0 41 (dk_at dksX0_tiesBy_3 0 rfl rfl)
theorem dX0_tiesBy_74 : decode cX0_tiesBy 74 = .ok (.aload_n 1, 1) := dk_43 (dk_at dksX0_tiesBy_3 3 rfl rfl)
theorem dX0_tiesBy_75 : decode cX0_tiesBy 75 = .ok (.aload_n 0, 1) := dk_42 (dk_at dksX0_tiesBy_3 4 rfl rfl)
theorem dX0_tiesBy_76 : decode cX0_tiesBy 76 = .ok (.iload 6, 2) := dk_21 6 (dk_at dksX0_tiesBy_3 5 rfl rfl)
theorem dX0_tiesBy_78 : decode cX0_tiesBy 78 = .ok (.iload 7, 2) := dk_21 7 (dk_at dksX0_tiesBy_3 7 rfl rfl)
theorem dX0_tiesBy_80 : decode cX0_tiesBy 80 = .ok (.invokevirtual 309, 3) := dk_182 1 53 (dk_at dksX0_tiesBy_3 9 rfl rfl)
theorem dX0_tiesBy_83 : decode cX0_tiesBy 83 = .ok (.invokevirtual 313, 3) := dk_182 1 57 (dk_at dksX0_tiesBy_3 12 rfl rfl)
theorem dX0_tiesBy_86 : decode cX0_tiesBy 86 = .ok (.lstore 8, 2) := dk_55 8 (dk_at dksX0_tiesBy_3 15 rfl rfl)
theorem dX0_tiesBy_88 : decode cX0_tiesBy 88 = .ok (.lload 8, 2) := dk_22 8 (dk_at dksX0_tiesBy_3 17 rfl rfl)
theorem dX0_tiesBy_90 : decode cX0_tiesBy 90 = .ok (.lload 4, 2) := dk_22 4 (dk_at dksX0_tiesBy_3 19 rfl rfl)
theorem dX0_tiesBy_92 : decode cX0_tiesBy 92 = .ok (.lcmp, 1) := dk_148 (dk_at dksX0_tiesBy_3 21 rfl rfl)
theorem dX0_tiesBy_93 : decode cX0_tiesBy 93 = .ok (.ifCond .gt 6, 3) := dk_157 0 6 (dk_at dksX0_tiesBy_4 0 rfl rfl)
theorem dX0_tiesBy_96 : decode cX0_tiesBy 96 = .ok (.goto 16, 3) := dk_167 0 16 (dk_at dksX0_tiesBy_4 3 rfl rfl)
theorem dX0_tiesBy_99 : decode cX0_tiesBy 99 = .ok (.bipush 8, 2) := dk_16 8 (dk_at dksX0_tiesBy_4 6 rfl rfl)
theorem dX0_tiesBy_101 : decode cX0_tiesBy 101 = .ok (.iload 6, 2) := dk_21 6 (dk_at dksX0_tiesBy_4 8 rfl rfl)
theorem dX0_tiesBy_103 : decode cX0_tiesBy 103 = .ok (.imul, 1) := dk_104 (dk_at dksX0_tiesBy_4 10 rfl rfl)
theorem dX0_tiesBy_104 : decode cX0_tiesBy 104 = .ok (.iload 7, 2) := dk_21 7 (dk_at dksX0_tiesBy_4 11 rfl rfl)
theorem dX0_tiesBy_106 : decode cX0_tiesBy 106 = .ok (.iadd, 1) := dk_96 (dk_at dksX0_tiesBy_4 13 rfl rfl)
theorem dX0_tiesBy_107 : decode cX0_tiesBy 107 = .ok (.istore_n 3, 1) := dk_62 (dk_at dksX0_tiesBy_4 14 rfl rfl)
theorem dX0_tiesBy_108 : decode cX0_tiesBy 108 = .ok (.lload 8, 2) := dk_22 8 (dk_at dksX0_tiesBy_4 15 rfl rfl)
theorem dX0_tiesBy_110 : decode cX0_tiesBy 110 = .ok (.lstore 4, 2) := dk_55 4 (dk_at dksX0_tiesBy_4 17 rfl rfl)
theorem dX0_tiesBy_112 : decode cX0_tiesBy 112 = .ok (.iinc 7 1, 3) := dk_132 7 1 (dk_at dksX0_tiesBy_4 19 rfl rfl)
theorem dX0_tiesBy_115 : decode cX0_tiesBy 115 = .ok (.goto (-89), 3) := dk_167 255 167 (dk_at dksX0_tiesBy_5 0 rfl rfl)
theorem dX0_tiesBy_118 : decode cX0_tiesBy 118 = .ok (.iinc 6 1, 3) := dk_132 6 1 (dk_at dksX0_tiesBy_5 3 rfl rfl)
theorem dX0_tiesBy_121 : decode cX0_tiesBy 121 = .ok (.goto (-113), 3) := dk_167 255 143 (dk_at dksX0_tiesBy_5 6 rfl rfl)
theorem dX0_tiesBy_124 : decode cX0_tiesBy 124 = .ok (.iload_n 3, 1) := dk_29 (dk_at dksX0_tiesBy_5 9 rfl rfl)
theorem dX0_tiesBy_125 : decode cX0_tiesBy 125 = .ok (.iconst (-1), 1) := dk_2 (dk_at dksX0_tiesBy_5 10 rfl rfl)
theorem dX0_tiesBy_126 : decode cX0_tiesBy 126 = .ok (.if_icmp .ne 4, 3) := dk_160 0 4 (dk_at dksX0_tiesBy_5 11 rfl rfl)
theorem dX0_tiesBy_129 : decode cX0_tiesBy 129 = .ok (.return_, 1) := dk_177 (dk_at dksX0_tiesBy_5 14 rfl rfl)
theorem dX0_tiesBy_130 : decode cX0_tiesBy 130 = .ok (.aload_n 0, 1) := dk_42 (dk_at dksX0_tiesBy_5 15 rfl rfl)
theorem dX0_tiesBy_131 : decode cX0_tiesBy 131 = .ok (.getfield 153, 3) := dk_180 0 153 (dk_at dksX0_tiesBy_5 16 rfl rfl)
theorem dX0_tiesBy_134 : decode cX0_tiesBy 134 = .ok (.iload_n 3, 1) := dk_29 (dk_at dksX0_tiesBy_5 19 rfl rfl)
theorem dX0_tiesBy_135 : decode cX0_tiesBy 135 = .ok (.bipush 8, 2) := dk_16 8 (dk_at dksX0_tiesBy_5 20 rfl rfl)
theorem dX0_tiesBy_137 : decode cX0_tiesBy 137 = .ok (.idiv, 1) := dk_108 (dk_at dksX0_tiesBy_5 22 rfl rfl)
theorem dX0_tiesBy_138 : decode cX0_tiesBy 138 = .ok (.iload_n 3, 1) := dk_29 (dk_at dksX0_tiesBy_5 23 rfl rfl)
theorem dX0_tiesBy_139 : decode cX0_tiesBy 139 = .ok (.bipush 8, 2) := dk_16 8 (dk_at dksX0_tiesBy_6 0 rfl rfl)
theorem dX0_tiesBy_141 : decode cX0_tiesBy 141 = .ok (.irem, 1) := dk_112 (dk_at dksX0_tiesBy_6 2 rfl rfl)
theorem dX0_tiesBy_142 : decode cX0_tiesBy 142 = .ok (.iload_n 2, 1) := dk_28 (dk_at dksX0_tiesBy_6 3 rfl rfl)
theorem dX0_tiesBy_143 : decode cX0_tiesBy 143 = .ok (.invokevirtual 279, 3) := dk_182 1 23 (dk_at dksX0_tiesBy_6 4 rfl rfl)
theorem dX0_tiesBy_146 : decode cX0_tiesBy 146 = .ok (.aload_n 0, 1) := dk_42 (dk_at dksX0_tiesBy_6 7 rfl rfl)
theorem dX0_tiesBy_147 : decode cX0_tiesBy 147 = .ok (.getfield 153, 3) := dk_180 0 153 (dk_at dksX0_tiesBy_6 8 rfl rfl)
theorem dX0_tiesBy_150 : decode cX0_tiesBy 150 = .ok (.dup, 1) := dk_89 (dk_at dksX0_tiesBy_6 11 rfl rfl)
theorem dX0_tiesBy_151 : decode cX0_tiesBy 151 = .ok (.getfield 277, 3) := dk_180 1 21 (dk_at dksX0_tiesBy_6 12 rfl rfl)
theorem dX0_tiesBy_154 : decode cX0_tiesBy 154 = .ok (.iload_n 2, 1) := dk_28 (dk_at dksX0_tiesBy_6 15 rfl rfl)
theorem dX0_tiesBy_155 : decode cX0_tiesBy 155 = .ok (.isub, 1) := dk_100 (dk_at dksX0_tiesBy_6 16 rfl rfl)
theorem dX0_tiesBy_156 : decode cX0_tiesBy 156 = .ok (.putfield 277, 3) := dk_181 1 21 (dk_at dksX0_tiesBy_6 17 rfl rfl)
theorem dX0_tiesBy_159 : decode cX0_tiesBy 159 = .ok (.return_, 1) := dk_177 (dk_at dksX0_tiesBy_6 20 rfl rfl)
abbrev cX0_wordsOf : ByteArray := prog_1_method_28_code
def yX0_wordsOf : MethodName := ⟨RX0, "wordsOf", "(II)[J"⟩
def dkwX0_wordsOf_11 : List UInt8 := [80, 42, 180, 0, 90, 176]
abbrev dktX0_wordsOf_11 : List UInt8 := dkwX0_wordsOf_11 ++ []
def dkwX0_wordsOf_10 : List UInt8 := [46, 46, 184, 1, 45, 133, 80, 42, 180, 0, 90, 16, 11, 42, 180, 0, 153, 182, 1, 50, 184, 1, 33, 133]
abbrev dktX0_wordsOf_10 : List UInt8 := dkwX0_wordsOf_10 ++ dktX0_wordsOf_11
def dkwX0_wordsOf_9 : List UInt8 := [180, 0, 153, 180, 0, 200, 27, 46, 46, 42, 180, 0, 153, 180, 0, 180, 42, 180, 0, 153, 180, 0, 200, 28]
abbrev dktX0_wordsOf_9 : List UInt8 := dkwX0_wordsOf_9 ++ dktX0_wordsOf_10
def dkwX0_wordsOf_8 : List UInt8 := [180, 0, 153, 180, 1, 6, 133, 80, 42, 180, 0, 90, 16, 10, 42, 180, 0, 153, 180, 0, 180, 42]
abbrev dktX0_wordsOf_8 : List UInt8 := dkwX0_wordsOf_8 ++ dktX0_wordsOf_9
def dkwX0_wordsOf_7 : List UInt8 := [133, 80, 42, 180, 0, 90, 16, 8, 42, 180, 0, 153, 180, 1, 21, 133, 80, 42, 180, 0, 90, 16, 9, 42]
abbrev dktX0_wordsOf_7 : List UInt8 := dkwX0_wordsOf_7 ++ dktX0_wordsOf_8
def dkwX0_wordsOf_6 : List UInt8 := [184, 1, 38, 153, 0, 7, 9, 167, 0, 4, 10, 80, 42, 180, 0, 90, 16, 7, 42, 27, 28, 182, 1, 42]
abbrev dktX0_wordsOf_6 : List UInt8 := dkwX0_wordsOf_6 ++ dktX0_wordsOf_7
def dkwX0_wordsOf_5 : List UInt8 := [160, 0, 7, 10, 167, 0, 4, 9, 80, 42, 180, 0, 90, 16, 6, 42, 180, 0, 153, 27, 182, 0, 213, 28]
abbrev dktX0_wordsOf_5 : List UInt8 := dkwX0_wordsOf_5 ++ dktX0_wordsOf_6
def dkwX0_wordsOf_4 : List UInt8 := [80, 42, 180, 0, 90, 8, 42, 180, 0, 153, 180, 0, 200, 27, 46, 42, 180, 0, 153, 180, 0, 200, 28, 46]
abbrev dktX0_wordsOf_4 : List UInt8 := dkwX0_wordsOf_4 ++ dktX0_wordsOf_5
def dkwX0_wordsOf_3 : List UInt8 := [180, 0, 90, 7, 42, 180, 0, 153, 180, 0, 207, 27, 46, 42, 180, 0, 153, 180, 0, 207, 28, 46, 96, 133]
abbrev dktX0_wordsOf_3 : List UInt8 := dkwX0_wordsOf_3 ++ dktX0_wordsOf_4
def dkwX0_wordsOf_2 : List UInt8 := [6, 42, 180, 0, 153, 180, 0, 202, 27, 46, 42, 180, 0, 153, 180, 0, 202, 28, 46, 96, 133, 80, 42]
abbrev dktX0_wordsOf_2 : List UInt8 := dkwX0_wordsOf_2 ++ dktX0_wordsOf_3
def dkwX0_wordsOf_1 : List UInt8 := [180, 0, 153, 180, 0, 204, 27, 46, 42, 180, 0, 153, 180, 0, 204, 28, 46, 96, 133, 80, 42, 180, 0, 90]
abbrev dktX0_wordsOf_1 : List UInt8 := dkwX0_wordsOf_1 ++ dktX0_wordsOf_2
def dkwX0_wordsOf_0 : List UInt8 := [42, 180, 0, 90, 3, 27, 133, 80, 42, 180, 0, 90, 4, 28, 133, 80, 42, 180, 0, 90, 5, 42]
abbrev dktX0_wordsOf_0 : List UInt8 := dkwX0_wordsOf_0 ++ dktX0_wordsOf_1
theorem dksX0_wordsOf_0 : cX0_wordsOf.data.toList.drop 0 = dktX0_wordsOf_0 := by decide +kernel
theorem dksX0_wordsOf_1 : cX0_wordsOf.data.toList.drop 22 = dktX0_wordsOf_1 := dk_seg dksX0_wordsOf_0 22 rfl rfl
theorem dksX0_wordsOf_2 : cX0_wordsOf.data.toList.drop 46 = dktX0_wordsOf_2 := dk_seg dksX0_wordsOf_1 24 rfl rfl
theorem dksX0_wordsOf_3 : cX0_wordsOf.data.toList.drop 69 = dktX0_wordsOf_3 := dk_seg dksX0_wordsOf_2 23 rfl rfl
theorem dksX0_wordsOf_4 : cX0_wordsOf.data.toList.drop 93 = dktX0_wordsOf_4 := dk_seg dksX0_wordsOf_3 24 rfl rfl
theorem dksX0_wordsOf_5 : cX0_wordsOf.data.toList.drop 117 = dktX0_wordsOf_5 := dk_seg dksX0_wordsOf_4 24 rfl rfl
theorem dksX0_wordsOf_6 : cX0_wordsOf.data.toList.drop 141 = dktX0_wordsOf_6 := dk_seg dksX0_wordsOf_5 24 rfl rfl
theorem dksX0_wordsOf_7 : cX0_wordsOf.data.toList.drop 165 = dktX0_wordsOf_7 := dk_seg dksX0_wordsOf_6 24 rfl rfl
theorem dksX0_wordsOf_8 : cX0_wordsOf.data.toList.drop 189 = dktX0_wordsOf_8 := dk_seg dksX0_wordsOf_7 24 rfl rfl
theorem dksX0_wordsOf_9 : cX0_wordsOf.data.toList.drop 211 = dktX0_wordsOf_9 := dk_seg dksX0_wordsOf_8 22 rfl rfl
theorem dksX0_wordsOf_10 : cX0_wordsOf.data.toList.drop 235 = dktX0_wordsOf_10 := dk_seg dksX0_wordsOf_9 24 rfl rfl
theorem dksX0_wordsOf_11 : cX0_wordsOf.data.toList.drop 259 = dktX0_wordsOf_11 := dk_seg dksX0_wordsOf_10 24 rfl rfl
theorem dX0_wordsOf_0 : decode cX0_wordsOf 0 = .ok (.aload_n 0, 1) := dk_42 (dk_at dksX0_wordsOf_0 0 rfl rfl)
theorem dX0_wordsOf_1 : decode cX0_wordsOf 1 = .ok (.getfield 90, 3) := dk_180 0 90 (dk_at dksX0_wordsOf_0 1 rfl rfl)
theorem dX0_wordsOf_4 : decode cX0_wordsOf 4 = .ok (.iconst 0, 1) := dk_3 (dk_at dksX0_wordsOf_0 4 rfl rfl)
theorem dX0_wordsOf_5 : decode cX0_wordsOf 5 = .ok (.iload_n 1, 1) := dk_27 (dk_at dksX0_wordsOf_0 5 rfl rfl)
theorem dX0_wordsOf_6 : decode cX0_wordsOf 6 = .ok (.i2l, 1) := dk_133 (dk_at dksX0_wordsOf_0 6 rfl rfl)
theorem dX0_wordsOf_7 : decode cX0_wordsOf 7 = .ok (.lastore, 1) := dk_80 (dk_at dksX0_wordsOf_0 7 rfl rfl)
theorem dX0_wordsOf_8 : decode cX0_wordsOf 8 = .ok (.aload_n 0, 1) := dk_42 (dk_at dksX0_wordsOf_0 8 rfl rfl)
theorem dX0_wordsOf_9 : decode cX0_wordsOf 9 = .ok (.getfield 90, 3) := dk_180 0 90 (dk_at dksX0_wordsOf_0 9 rfl rfl)
theorem dX0_wordsOf_12 : decode cX0_wordsOf 12 = .ok (.iconst 1, 1) := dk_4 (dk_at dksX0_wordsOf_0 12 rfl rfl)
theorem dX0_wordsOf_13 : decode cX0_wordsOf 13 = .ok (.iload_n 2, 1) := dk_28 (dk_at dksX0_wordsOf_0 13 rfl rfl)
theorem dX0_wordsOf_14 : decode cX0_wordsOf 14 = .ok (.i2l, 1) := dk_133 (dk_at dksX0_wordsOf_0 14 rfl rfl)
theorem dX0_wordsOf_15 : decode cX0_wordsOf 15 = .ok (.lastore, 1) := dk_80 (dk_at dksX0_wordsOf_0 15 rfl rfl)
theorem dX0_wordsOf_16 : decode cX0_wordsOf 16 = .ok (.aload_n 0, 1) := dk_42 (dk_at dksX0_wordsOf_0 16 rfl rfl)
theorem dX0_wordsOf_17 : decode cX0_wordsOf 17 = .ok (.getfield 90, 3) := dk_180 0 90 (dk_at dksX0_wordsOf_0 17 rfl rfl)
theorem dX0_wordsOf_20 : decode cX0_wordsOf 20 = .ok (.iconst 2, 1) := dk_5 (dk_at dksX0_wordsOf_0 20 rfl rfl)
theorem dX0_wordsOf_21 : decode cX0_wordsOf 21 = .ok (.aload_n 0, 1) := dk_42 (dk_at dksX0_wordsOf_0 21 rfl rfl)
theorem dX0_wordsOf_22 : decode cX0_wordsOf 22 = .ok (.getfield 153, 3) := dk_180 0 153 (dk_at dksX0_wordsOf_1 0 rfl rfl)
theorem dX0_wordsOf_25 : decode cX0_wordsOf 25 = .ok (.getfield 204, 3) := dk_180 0 204 (dk_at dksX0_wordsOf_1 3 rfl rfl)
theorem dX0_wordsOf_28 : decode cX0_wordsOf 28 = .ok (.iload_n 1, 1) := dk_27 (dk_at dksX0_wordsOf_1 6 rfl rfl)
theorem dX0_wordsOf_29 : decode cX0_wordsOf 29 = .ok (.iaload, 1) := dk_46 (dk_at dksX0_wordsOf_1 7 rfl rfl)
theorem dX0_wordsOf_30 : decode cX0_wordsOf 30 = .ok (.aload_n 0, 1) := dk_42 (dk_at dksX0_wordsOf_1 8 rfl rfl)
theorem dX0_wordsOf_31 : decode cX0_wordsOf 31 = .ok (.getfield 153, 3) := dk_180 0 153 (dk_at dksX0_wordsOf_1 9 rfl rfl)
theorem dX0_wordsOf_34 : decode cX0_wordsOf 34 = .ok (.getfield 204, 3) := dk_180 0 204 (dk_at dksX0_wordsOf_1 12 rfl rfl)
theorem dX0_wordsOf_37 : decode cX0_wordsOf 37 = .ok (.iload_n 2, 1) := dk_28 (dk_at dksX0_wordsOf_1 15 rfl rfl)
theorem dX0_wordsOf_38 : decode cX0_wordsOf 38 = .ok (.iaload, 1) := dk_46 (dk_at dksX0_wordsOf_1 16 rfl rfl)
theorem dX0_wordsOf_39 : decode cX0_wordsOf 39 = .ok (.iadd, 1) := dk_96 (dk_at dksX0_wordsOf_1 17 rfl rfl)
theorem dX0_wordsOf_40 : decode cX0_wordsOf 40 = .ok (.i2l, 1) := dk_133 (dk_at dksX0_wordsOf_1 18 rfl rfl)
theorem dX0_wordsOf_41 : decode cX0_wordsOf 41 = .ok (.lastore, 1) := dk_80 (dk_at dksX0_wordsOf_1 19 rfl rfl)
theorem dX0_wordsOf_42 : decode cX0_wordsOf 42 = .ok (.aload_n 0, 1) := dk_42 (dk_at dksX0_wordsOf_1 20 rfl rfl)
theorem dX0_wordsOf_43 : decode cX0_wordsOf 43 = .ok (.getfield 90, 3) := dk_180 0 90 (dk_at dksX0_wordsOf_1 21 rfl rfl)
theorem dX0_wordsOf_46 : decode cX0_wordsOf 46 = .ok (.iconst 3, 1) := dk_6 (dk_at dksX0_wordsOf_2 0 rfl rfl)
theorem dX0_wordsOf_47 : decode cX0_wordsOf 47 = .ok (.aload_n 0, 1) := dk_42 (dk_at dksX0_wordsOf_2 1 rfl rfl)
theorem dX0_wordsOf_48 : decode cX0_wordsOf 48 = .ok (.getfield 153, 3) := dk_180 0 153 (dk_at dksX0_wordsOf_2 2 rfl rfl)
theorem dX0_wordsOf_51 : decode cX0_wordsOf 51 = .ok (.getfield 202, 3) := dk_180 0 202 (dk_at dksX0_wordsOf_2 5 rfl rfl)
theorem dX0_wordsOf_54 : decode cX0_wordsOf 54 = .ok (.iload_n 1, 1) := dk_27 (dk_at dksX0_wordsOf_2 8 rfl rfl)
theorem dX0_wordsOf_55 : decode cX0_wordsOf 55 = .ok (.iaload, 1) := dk_46 (dk_at dksX0_wordsOf_2 9 rfl rfl)
theorem dX0_wordsOf_56 : decode cX0_wordsOf 56 = .ok (.aload_n 0, 1) := dk_42 (dk_at dksX0_wordsOf_2 10 rfl rfl)
theorem dX0_wordsOf_57 : decode cX0_wordsOf 57 = .ok (.getfield 153, 3) := dk_180 0 153 (dk_at dksX0_wordsOf_2 11 rfl rfl)
theorem dX0_wordsOf_60 : decode cX0_wordsOf 60 = .ok (.getfield 202, 3) := dk_180 0 202 (dk_at dksX0_wordsOf_2 14 rfl rfl)
theorem dX0_wordsOf_63 : decode cX0_wordsOf 63 = .ok (.iload_n 2, 1) := dk_28 (dk_at dksX0_wordsOf_2 17 rfl rfl)
theorem dX0_wordsOf_64 : decode cX0_wordsOf 64 = .ok (.iaload, 1) := dk_46 (dk_at dksX0_wordsOf_2 18 rfl rfl)
theorem dX0_wordsOf_65 : decode cX0_wordsOf 65 = .ok (.iadd, 1) := dk_96 (dk_at dksX0_wordsOf_2 19 rfl rfl)
theorem dX0_wordsOf_66 : decode cX0_wordsOf 66 = .ok (.i2l, 1) := dk_133 (dk_at dksX0_wordsOf_2 20 rfl rfl)
theorem dX0_wordsOf_67 : decode cX0_wordsOf 67 = .ok (.lastore, 1) := dk_80 (dk_at dksX0_wordsOf_2 21 rfl rfl)
theorem dX0_wordsOf_68 : decode cX0_wordsOf 68 = .ok (.aload_n 0, 1) := dk_42 (dk_at dksX0_wordsOf_2 22 rfl rfl)
theorem dX0_wordsOf_69 : decode cX0_wordsOf 69 = .ok (.getfield 90, 3) := dk_180 0 90 (dk_at dksX0_wordsOf_3 0 rfl rfl)
theorem dX0_wordsOf_72 : decode cX0_wordsOf 72 = .ok (.iconst 4, 1) := dk_7 (dk_at dksX0_wordsOf_3 3 rfl rfl)
theorem dX0_wordsOf_73 : decode cX0_wordsOf 73 = .ok (.aload_n 0, 1) := dk_42 (dk_at dksX0_wordsOf_3 4 rfl rfl)
theorem dX0_wordsOf_74 : decode cX0_wordsOf 74 = .ok (.getfield 153, 3) := dk_180 0 153 (dk_at dksX0_wordsOf_3 5 rfl rfl)
theorem dX0_wordsOf_77 : decode cX0_wordsOf 77 = .ok (.getfield 207, 3) := dk_180 0 207 (dk_at dksX0_wordsOf_3 8 rfl rfl)
theorem dX0_wordsOf_80 : decode cX0_wordsOf 80 = .ok (.iload_n 1, 1) := dk_27 (dk_at dksX0_wordsOf_3 11 rfl rfl)
theorem dX0_wordsOf_81 : decode cX0_wordsOf 81 = .ok (.iaload, 1) := dk_46 (dk_at dksX0_wordsOf_3 12 rfl rfl)
theorem dX0_wordsOf_82 : decode cX0_wordsOf 82 = .ok (.aload_n 0, 1) := dk_42 (dk_at dksX0_wordsOf_3 13 rfl rfl)
theorem dX0_wordsOf_83 : decode cX0_wordsOf 83 = .ok (.getfield 153, 3) := dk_180 0 153 (dk_at dksX0_wordsOf_3 14 rfl rfl)
theorem dX0_wordsOf_86 : decode cX0_wordsOf 86 = .ok (.getfield 207, 3) := dk_180 0 207 (dk_at dksX0_wordsOf_3 17 rfl rfl)
theorem dX0_wordsOf_89 : decode cX0_wordsOf 89 = .ok (.iload_n 2, 1) := dk_28 (dk_at dksX0_wordsOf_3 20 rfl rfl)
theorem dX0_wordsOf_90 : decode cX0_wordsOf 90 = .ok (.iaload, 1) := dk_46 (dk_at dksX0_wordsOf_3 21 rfl rfl)
theorem dX0_wordsOf_91 : decode cX0_wordsOf 91 = .ok (.iadd, 1) := dk_96 (dk_at dksX0_wordsOf_3 22 rfl rfl)
theorem dX0_wordsOf_92 : decode cX0_wordsOf 92 = .ok (.i2l, 1) := dk_133 (dk_at dksX0_wordsOf_3 23 rfl rfl)
theorem dX0_wordsOf_93 : decode cX0_wordsOf 93 = .ok (.lastore, 1) := dk_80 (dk_at dksX0_wordsOf_4 0 rfl rfl)
theorem dX0_wordsOf_94 : decode cX0_wordsOf 94 = .ok (.aload_n 0, 1) := dk_42 (dk_at dksX0_wordsOf_4 1 rfl rfl)
theorem dX0_wordsOf_95 : decode cX0_wordsOf 95 = .ok (.getfield 90, 3) := dk_180 0 90 (dk_at dksX0_wordsOf_4 2 rfl rfl)
theorem dX0_wordsOf_98 : decode cX0_wordsOf 98 = .ok (.iconst 5, 1) := dk_8 (dk_at dksX0_wordsOf_4 5 rfl rfl)
theorem dX0_wordsOf_99 : decode cX0_wordsOf 99 = .ok (.aload_n 0, 1) := dk_42 (dk_at dksX0_wordsOf_4 6 rfl rfl)
theorem dX0_wordsOf_100 : decode cX0_wordsOf 100 = .ok (.getfield 153, 3) := dk_180 0 153 (dk_at dksX0_wordsOf_4 7 rfl rfl)
theorem dX0_wordsOf_103 : decode cX0_wordsOf 103 = .ok (.getfield 200, 3) := dk_180 0 200 (dk_at dksX0_wordsOf_4 10 rfl rfl)
theorem dX0_wordsOf_106 : decode cX0_wordsOf 106 = .ok (.iload_n 1, 1) := dk_27 (dk_at dksX0_wordsOf_4 13 rfl rfl)
theorem dX0_wordsOf_107 : decode cX0_wordsOf 107 = .ok (.iaload, 1) := dk_46 (dk_at dksX0_wordsOf_4 14 rfl rfl)
theorem dX0_wordsOf_108 : decode cX0_wordsOf 108 = .ok (.aload_n 0, 1) := dk_42 (dk_at dksX0_wordsOf_4 15 rfl rfl)
theorem dX0_wordsOf_109 : decode cX0_wordsOf 109 = .ok (.getfield 153, 3) := dk_180 0 153 (dk_at dksX0_wordsOf_4 16 rfl rfl)
theorem dX0_wordsOf_112 : decode cX0_wordsOf 112 = .ok (.getfield 200, 3) := dk_180 0 200 (dk_at dksX0_wordsOf_4 19 rfl rfl)
theorem dX0_wordsOf_115 : decode cX0_wordsOf 115 = .ok (.iload_n 2, 1) := dk_28 (dk_at dksX0_wordsOf_4 22 rfl rfl)
theorem dX0_wordsOf_116 : decode cX0_wordsOf 116 = .ok (.iaload, 1) := dk_46 (dk_at dksX0_wordsOf_4 23 rfl rfl)
theorem dX0_wordsOf_117 : decode cX0_wordsOf 117 = .ok (.if_icmp .ne 7, 3) := dk_160 0 7 (dk_at dksX0_wordsOf_5 0 rfl rfl)
theorem dX0_wordsOf_120 : decode cX0_wordsOf 120 = .ok (.lconst 1, 1) := dk_10 (dk_at dksX0_wordsOf_5 3 rfl rfl)
theorem dX0_wordsOf_121 : decode cX0_wordsOf 121 = .ok (.goto 4, 3) := dk_167 0 4 (dk_at dksX0_wordsOf_5 4 rfl rfl)
theorem dX0_wordsOf_124 : decode cX0_wordsOf 124 = .ok (.lconst 0, 1) := dk_9 (dk_at dksX0_wordsOf_5 7 rfl rfl)
theorem dX0_wordsOf_125 : decode cX0_wordsOf 125 = .ok (.lastore, 1) := dk_80 (dk_at dksX0_wordsOf_5 8 rfl rfl)
theorem dX0_wordsOf_126 : decode cX0_wordsOf 126 = .ok (.aload_n 0, 1) := dk_42 (dk_at dksX0_wordsOf_5 9 rfl rfl)
theorem dX0_wordsOf_127 : decode cX0_wordsOf 127 = .ok (.getfield 90, 3) := dk_180 0 90 (dk_at dksX0_wordsOf_5 10 rfl rfl)
theorem dX0_wordsOf_130 : decode cX0_wordsOf 130 = .ok (.bipush 6, 2) := dk_16 6 (dk_at dksX0_wordsOf_5 13 rfl rfl)
theorem dX0_wordsOf_132 : decode cX0_wordsOf 132 = .ok (.aload_n 0, 1) := dk_42 (dk_at dksX0_wordsOf_5 15 rfl rfl)
theorem dX0_wordsOf_133 : decode cX0_wordsOf 133 = .ok (.getfield 153, 3) := dk_180 0 153 (dk_at dksX0_wordsOf_5 16 rfl rfl)
theorem dX0_wordsOf_136 : decode cX0_wordsOf 136 = .ok (.iload_n 1, 1) := dk_27 (dk_at dksX0_wordsOf_5 19 rfl rfl)
theorem dX0_wordsOf_137 : decode cX0_wordsOf 137 = .ok (.invokevirtual 213, 3) := dk_182 0 213 (dk_at dksX0_wordsOf_5 20 rfl rfl)
theorem dX0_wordsOf_140 : decode cX0_wordsOf 140 = .ok (.iload_n 2, 1) := dk_28 (dk_at dksX0_wordsOf_5 23 rfl rfl)
theorem dX0_wordsOf_141 : decode cX0_wordsOf 141 = .ok (.invokestatic 294, 3) := dk_184 1 38 (dk_at dksX0_wordsOf_6 0 rfl rfl)
theorem dX0_wordsOf_144 : decode cX0_wordsOf 144 = .ok (.ifCond .eq 7, 3) := dk_153 0 7 (dk_at dksX0_wordsOf_6 3 rfl rfl)
theorem dX0_wordsOf_147 : decode cX0_wordsOf 147 = .ok (.lconst 0, 1) := dk_9 (dk_at dksX0_wordsOf_6 6 rfl rfl)
theorem dX0_wordsOf_148 : decode cX0_wordsOf 148 = .ok (.goto 4, 3) := dk_167 0 4 (dk_at dksX0_wordsOf_6 7 rfl rfl)
theorem dX0_wordsOf_151 : decode cX0_wordsOf 151 = .ok (.lconst 1, 1) := dk_10 (dk_at dksX0_wordsOf_6 10 rfl rfl)
theorem dX0_wordsOf_152 : decode cX0_wordsOf 152 = .ok (.lastore, 1) := dk_80 (dk_at dksX0_wordsOf_6 11 rfl rfl)
theorem dX0_wordsOf_153 : decode cX0_wordsOf 153 = .ok (.aload_n 0, 1) := dk_42 (dk_at dksX0_wordsOf_6 12 rfl rfl)
theorem dX0_wordsOf_154 : decode cX0_wordsOf 154 = .ok (.getfield 90, 3) := dk_180 0 90 (dk_at dksX0_wordsOf_6 13 rfl rfl)
theorem dX0_wordsOf_157 : decode cX0_wordsOf 157 = .ok (.bipush 7, 2) := dk_16 7 (dk_at dksX0_wordsOf_6 16 rfl rfl)
theorem dX0_wordsOf_159 : decode cX0_wordsOf 159 = .ok (.aload_n 0, 1) := dk_42 (dk_at dksX0_wordsOf_6 18 rfl rfl)
theorem dX0_wordsOf_160 : decode cX0_wordsOf 160 = .ok (.iload_n 1, 1) := dk_27 (dk_at dksX0_wordsOf_6 19 rfl rfl)
theorem dX0_wordsOf_161 : decode cX0_wordsOf 161 = .ok (.iload_n 2, 1) := dk_28 (dk_at dksX0_wordsOf_6 20 rfl rfl)
theorem dX0_wordsOf_162 : decode cX0_wordsOf 162 = .ok (.invokevirtual 298, 3) := dk_182 1 42 (dk_at dksX0_wordsOf_6 21 rfl rfl)
theorem dX0_wordsOf_165 : decode cX0_wordsOf 165 = .ok (.i2l, 1) := dk_133 (dk_at dksX0_wordsOf_7 0 rfl rfl)
theorem dX0_wordsOf_166 : decode cX0_wordsOf 166 = .ok (.lastore, 1) := dk_80 (dk_at dksX0_wordsOf_7 1 rfl rfl)
theorem dX0_wordsOf_167 : decode cX0_wordsOf 167 = .ok (.aload_n 0, 1) := dk_42 (dk_at dksX0_wordsOf_7 2 rfl rfl)
theorem dX0_wordsOf_168 : decode cX0_wordsOf 168 = .ok (.getfield 90, 3) := dk_180 0 90 (dk_at dksX0_wordsOf_7 3 rfl rfl)
theorem dX0_wordsOf_171 : decode cX0_wordsOf 171 = .ok (.bipush 8, 2) := dk_16 8 (dk_at dksX0_wordsOf_7 6 rfl rfl)
theorem dX0_wordsOf_173 : decode cX0_wordsOf 173 = .ok (.aload_n 0, 1) := dk_42 (dk_at dksX0_wordsOf_7 8 rfl rfl)
theorem dX0_wordsOf_174 : decode cX0_wordsOf 174 = .ok (.getfield 153, 3) := dk_180 0 153 (dk_at dksX0_wordsOf_7 9 rfl rfl)
theorem dX0_wordsOf_177 : decode cX0_wordsOf 177 = .ok (.getfield 277, 3) := dk_180 1 21 (dk_at dksX0_wordsOf_7 12 rfl rfl)
theorem dX0_wordsOf_180 : decode cX0_wordsOf 180 = .ok (.i2l, 1) := dk_133 (dk_at dksX0_wordsOf_7 15 rfl rfl)
theorem dX0_wordsOf_181 : decode cX0_wordsOf 181 = .ok (.lastore, 1) := dk_80 (dk_at dksX0_wordsOf_7 16 rfl rfl)
theorem dX0_wordsOf_182 : decode cX0_wordsOf 182 = .ok (.aload_n 0, 1) := dk_42 (dk_at dksX0_wordsOf_7 17 rfl rfl)
theorem dX0_wordsOf_183 : decode cX0_wordsOf 183 = .ok (.getfield 90, 3) := dk_180 0 90 (dk_at dksX0_wordsOf_7 18 rfl rfl)
theorem dX0_wordsOf_186 : decode cX0_wordsOf 186 = .ok (.bipush 9, 2) := dk_16 9 (dk_at dksX0_wordsOf_7 21 rfl rfl)
theorem dX0_wordsOf_188 : decode cX0_wordsOf 188 = .ok (.aload_n 0, 1) := dk_42 (dk_at dksX0_wordsOf_7 23 rfl rfl)
theorem dX0_wordsOf_189 : decode cX0_wordsOf 189 = .ok (.getfield 153, 3) := dk_180 0 153 (dk_at dksX0_wordsOf_8 0 rfl rfl)
theorem dX0_wordsOf_192 : decode cX0_wordsOf 192 = .ok (.getfield 262, 3) := dk_180 1 6 (dk_at dksX0_wordsOf_8 3 rfl rfl)
theorem dX0_wordsOf_195 : decode cX0_wordsOf 195 = .ok (.i2l, 1) := dk_133 (dk_at dksX0_wordsOf_8 6 rfl rfl)
theorem dX0_wordsOf_196 : decode cX0_wordsOf 196 = .ok (.lastore, 1) := dk_80 (dk_at dksX0_wordsOf_8 7 rfl rfl)
theorem dX0_wordsOf_197 : decode cX0_wordsOf 197 = .ok (.aload_n 0, 1) := dk_42 (dk_at dksX0_wordsOf_8 8 rfl rfl)
theorem dX0_wordsOf_198 : decode cX0_wordsOf 198 = .ok (.getfield 90, 3) := dk_180 0 90 (dk_at dksX0_wordsOf_8 9 rfl rfl)
theorem dX0_wordsOf_201 : decode cX0_wordsOf 201 = .ok (.bipush 10, 2) := dk_16 10 (dk_at dksX0_wordsOf_8 12 rfl rfl)
theorem dX0_wordsOf_203 : decode cX0_wordsOf 203 = .ok (.aload_n 0, 1) := dk_42 (dk_at dksX0_wordsOf_8 14 rfl rfl)
theorem dX0_wordsOf_204 : decode cX0_wordsOf 204 = .ok (.getfield 153, 3) := dk_180 0 153 (dk_at dksX0_wordsOf_8 15 rfl rfl)
theorem dX0_wordsOf_207 : decode cX0_wordsOf 207 = .ok (.getfield 180, 3) := dk_180 0 180 (dk_at dksX0_wordsOf_8 18 rfl rfl)
theorem dX0_wordsOf_210 : decode cX0_wordsOf 210 = .ok (.aload_n 0, 1) := dk_42 (dk_at dksX0_wordsOf_8 21 rfl rfl)
theorem dX0_wordsOf_211 : decode cX0_wordsOf 211 = .ok (.getfield 153, 3) := dk_180 0 153 (dk_at dksX0_wordsOf_9 0 rfl rfl)
theorem dX0_wordsOf_214 : decode cX0_wordsOf 214 = .ok (.getfield 200, 3) := dk_180 0 200 (dk_at dksX0_wordsOf_9 3 rfl rfl)
theorem dX0_wordsOf_217 : decode cX0_wordsOf 217 = .ok (.iload_n 1, 1) := dk_27 (dk_at dksX0_wordsOf_9 6 rfl rfl)
theorem dX0_wordsOf_218 : decode cX0_wordsOf 218 = .ok (.iaload, 1) := dk_46 (dk_at dksX0_wordsOf_9 7 rfl rfl)
theorem dX0_wordsOf_219 : decode cX0_wordsOf 219 = .ok (.iaload, 1) := dk_46 (dk_at dksX0_wordsOf_9 8 rfl rfl)
theorem dX0_wordsOf_220 : decode cX0_wordsOf 220 = .ok (.aload_n 0, 1) := dk_42 (dk_at dksX0_wordsOf_9 9 rfl rfl)
theorem dX0_wordsOf_221 : decode cX0_wordsOf 221 = .ok (.getfield 153, 3) := dk_180 0 153 (dk_at dksX0_wordsOf_9 10 rfl rfl)
theorem dX0_wordsOf_224 : decode cX0_wordsOf 224 = .ok (.getfield 180, 3) := dk_180 0 180 (dk_at dksX0_wordsOf_9 13 rfl rfl)
theorem dX0_wordsOf_227 : decode cX0_wordsOf 227 = .ok (.aload_n 0, 1) := dk_42 (dk_at dksX0_wordsOf_9 16 rfl rfl)
theorem dX0_wordsOf_228 : decode cX0_wordsOf 228 = .ok (.getfield 153, 3) := dk_180 0 153 (dk_at dksX0_wordsOf_9 17 rfl rfl)
theorem dX0_wordsOf_231 : decode cX0_wordsOf 231 = .ok (.getfield 200, 3) := dk_180 0 200 (dk_at dksX0_wordsOf_9 20 rfl rfl)
theorem dX0_wordsOf_234 : decode cX0_wordsOf 234 = .ok (.iload_n 2, 1) := dk_28 (dk_at dksX0_wordsOf_9 23 rfl rfl)
theorem dX0_wordsOf_235 : decode cX0_wordsOf 235 = .ok (.iaload, 1) := dk_46 (dk_at dksX0_wordsOf_10 0 rfl rfl)
theorem dX0_wordsOf_236 : decode cX0_wordsOf 236 = .ok (.iaload, 1) := dk_46 (dk_at dksX0_wordsOf_10 1 rfl rfl)
theorem dX0_wordsOf_237 : decode cX0_wordsOf 237 = .ok (.invokestatic 301, 3) := dk_184 1 45 (dk_at dksX0_wordsOf_10 2 rfl rfl)
theorem dX0_wordsOf_240 : decode cX0_wordsOf 240 = .ok (.i2l, 1) := dk_133 (dk_at dksX0_wordsOf_10 5 rfl rfl)
theorem dX0_wordsOf_241 : decode cX0_wordsOf 241 = .ok (.lastore, 1) := dk_80 (dk_at dksX0_wordsOf_10 6 rfl rfl)
theorem dX0_wordsOf_242 : decode cX0_wordsOf 242 = .ok (.aload_n 0, 1) := dk_42 (dk_at dksX0_wordsOf_10 7 rfl rfl)
theorem dX0_wordsOf_243 : decode cX0_wordsOf 243 = .ok (.getfield 90, 3) := dk_180 0 90 (dk_at dksX0_wordsOf_10 8 rfl rfl)
theorem dX0_wordsOf_246 : decode cX0_wordsOf 246 = .ok (.bipush 11, 2) := dk_16 11 (dk_at dksX0_wordsOf_10 11 rfl rfl)
theorem dX0_wordsOf_248 : decode cX0_wordsOf 248 = .ok (.aload_n 0, 1) := dk_42 (dk_at dksX0_wordsOf_10 13 rfl rfl)
theorem dX0_wordsOf_249 : decode cX0_wordsOf 249 = .ok (.getfield 153, 3) := dk_180 0 153 (dk_at dksX0_wordsOf_10 14 rfl rfl)
theorem dX0_wordsOf_252 : decode cX0_wordsOf 252 = .ok (.invokevirtual 306, 3) := dk_182 1 50 (dk_at dksX0_wordsOf_10 17 rfl rfl)
theorem dX0_wordsOf_255 : decode cX0_wordsOf 255 = .ok (.invokestatic 289, 3) := dk_184 1 33 (dk_at dksX0_wordsOf_10 20 rfl rfl)
theorem dX0_wordsOf_258 : decode cX0_wordsOf 258 = .ok (.i2l, 1) := dk_133 (dk_at dksX0_wordsOf_10 23 rfl rfl)
theorem dX0_wordsOf_259 : decode cX0_wordsOf 259 = .ok (.lastore, 1) := dk_80 (dk_at dksX0_wordsOf_11 0 rfl rfl)
theorem dX0_wordsOf_260 : decode cX0_wordsOf 260 = .ok (.aload_n 0, 1) := dk_42 (dk_at dksX0_wordsOf_11 1 rfl rfl)
theorem dX0_wordsOf_261 : decode cX0_wordsOf 261 = .ok (.getfield 90, 3) := dk_180 0 90 (dk_at dksX0_wordsOf_11 2 rfl rfl)
theorem dX0_wordsOf_264 : decode cX0_wordsOf 264 = .ok (.areturn, 1) := dk_176 (dk_at dksX0_wordsOf_11 5 rfl rfl)
abbrev cX0_ropesAtBoth : ByteArray := prog_1_method_27_code
def yX0_ropesAtBoth : MethodName := ⟨RX0, "ropesAtBoth", "(II)I"⟩
def dkwX0_ropesAtBoth_0 : List UInt8 := [42, 180, 0, 153, 4, 27, 120, 4, 28, 120, 128, 182, 1, 30, 184, 1, 33, 172]
abbrev dktX0_ropesAtBoth_0 : List UInt8 := dkwX0_ropesAtBoth_0 ++ []
theorem dksX0_ropesAtBoth_0 : cX0_ropesAtBoth.data.toList.drop 0 = dktX0_ropesAtBoth_0 := by decide +kernel
theorem dX0_ropesAtBoth_0 : decode cX0_ropesAtBoth 0 = .ok (.aload_n 0, 1) := dk_42 (dk_at dksX0_ropesAtBoth_0 0 rfl rfl)
theorem dX0_ropesAtBoth_1 : decode cX0_ropesAtBoth 1 = .ok (.getfield 153, 3) := dk_180 0 153 (dk_at dksX0_ropesAtBoth_0 1 rfl rfl)
theorem dX0_ropesAtBoth_4 : decode cX0_ropesAtBoth 4 = .ok (.iconst 1, 1) := dk_4 (dk_at dksX0_ropesAtBoth_0 4 rfl rfl)
theorem dX0_ropesAtBoth_5 : decode cX0_ropesAtBoth 5 = .ok (.iload_n 1, 1) := dk_27 (dk_at dksX0_ropesAtBoth_0 5 rfl rfl)
theorem dX0_ropesAtBoth_6 : decode cX0_ropesAtBoth 6 = .ok (.ishl, 1) := dk_120 (dk_at dksX0_ropesAtBoth_0 6 rfl rfl)
theorem dX0_ropesAtBoth_7 : decode cX0_ropesAtBoth 7 = .ok (.iconst 1, 1) := dk_4 (dk_at dksX0_ropesAtBoth_0 7 rfl rfl)
theorem dX0_ropesAtBoth_8 : decode cX0_ropesAtBoth 8 = .ok (.iload_n 2, 1) := dk_28 (dk_at dksX0_ropesAtBoth_0 8 rfl rfl)
theorem dX0_ropesAtBoth_9 : decode cX0_ropesAtBoth 9 = .ok (.ishl, 1) := dk_120 (dk_at dksX0_ropesAtBoth_0 9 rfl rfl)
theorem dX0_ropesAtBoth_10 : decode cX0_ropesAtBoth 10 = .ok (.ior, 1) := dk_128 (dk_at dksX0_ropesAtBoth_0 10 rfl rfl)
theorem dX0_ropesAtBoth_11 : decode cX0_ropesAtBoth 11 = .ok (.invokevirtual 286, 3) := dk_182 1 30 (dk_at dksX0_ropesAtBoth_0 11 rfl rfl)
theorem dX0_ropesAtBoth_14 : decode cX0_ropesAtBoth 14 = .ok (.invokestatic 289, 3) := dk_184 1 33 (dk_at dksX0_ropesAtBoth_0 14 rfl rfl)
theorem dX0_ropesAtBoth_17 : decode cX0_ropesAtBoth 17 = .ok (.ireturn, 1) := dk_172 (dk_at dksX0_ropesAtBoth_0 17 rfl rfl)
abbrev cX0_ahead : ByteArray := prog_1_method_32_code
def yX0_ahead : MethodName := ⟨RX0, "ahead", "(II)I"⟩
def dkwX0_ahead_5 : List UInt8 := [21, 5, 120, 167, 0, 4, 3, 128, 54, 4, 132, 5, 1, 167, 255, 220, 21, 4, 172]
abbrev dktX0_ahead_5 : List UInt8 := dkwX0_ahead_5 ++ []
def dkwX0_ahead_4 : List UInt8 := [21, 5, 45, 180, 0, 170, 162, 0, 33, 21, 4, 45, 180, 0, 185, 21, 5, 46, 5, 160, 0, 10, 4]
abbrev dktX0_ahead_4 : List UInt8 := dkwX0_ahead_4 ++ dktX0_ahead_5
def dkwX0_ahead_3 : List UInt8 := [87, 132, 4, 1, 167, 255, 242, 28, 6, 162, 0, 9, 45, 28, 184, 1, 70, 172, 3, 54, 4, 3, 54, 5]
abbrev dktX0_ahead_3 : List UInt8 := dkwX0_ahead_3 ++ dktX0_ahead_4
def dkwX0_ahead_2 : List UInt8 := [180, 0, 16, 42, 180, 0, 153, 182, 0, 149, 78, 3, 54, 4, 21, 4, 27, 162, 0, 14, 45, 182, 1, 12]
abbrev dktX0_ahead_2 : List UInt8 := dkwX0_ahead_2 ++ dktX0_ahead_3
def dkwX0_ahead_1 : List UInt8 := [100, 133, 184, 0, 234, 153, 0, 15, 28, 133, 9, 20, 1, 68, 184, 0, 234, 154, 0, 5, 2, 172, 42]
abbrev dktX0_ahead_1 : List UInt8 := dkwX0_ahead_1 ++ dktX0_ahead_2
def dkwX0_ahead_0 : List UInt8 := [42, 180, 0, 153, 198, 0, 40, 27, 133, 9, 42, 180, 0, 153, 180, 0, 231, 42, 180, 0, 153, 180, 1, 6]
abbrev dktX0_ahead_0 : List UInt8 := dkwX0_ahead_0 ++ dktX0_ahead_1
theorem dksX0_ahead_0 : cX0_ahead.data.toList.drop 0 = dktX0_ahead_0 := by decide +kernel
theorem dksX0_ahead_1 : cX0_ahead.data.toList.drop 24 = dktX0_ahead_1 := dk_seg dksX0_ahead_0 24 rfl rfl
theorem dksX0_ahead_2 : cX0_ahead.data.toList.drop 47 = dktX0_ahead_2 := dk_seg dksX0_ahead_1 23 rfl rfl
theorem dksX0_ahead_3 : cX0_ahead.data.toList.drop 71 = dktX0_ahead_3 := dk_seg dksX0_ahead_2 24 rfl rfl
theorem dksX0_ahead_4 : cX0_ahead.data.toList.drop 95 = dktX0_ahead_4 := dk_seg dksX0_ahead_3 24 rfl rfl
theorem dksX0_ahead_5 : cX0_ahead.data.toList.drop 118 = dktX0_ahead_5 := dk_seg dksX0_ahead_4 23 rfl rfl
theorem dX0_ahead_0 : decode cX0_ahead 0 = .ok (.aload_n 0, 1) := dk_42 (dk_at dksX0_ahead_0 0 rfl rfl)
theorem dX0_ahead_1 : decode cX0_ahead 1 = .ok (.getfield 153, 3) := dk_180 0 153 (dk_at dksX0_ahead_0 1 rfl rfl)
theorem dX0_ahead_4 : decode cX0_ahead 4 = .ok (.ifnull 40, 3) := dk_198 0 40 (dk_at dksX0_ahead_0 4 rfl rfl)
theorem dX0_ahead_7 : decode cX0_ahead 7 = .ok (.iload_n 1, 1) := dk_27 (dk_at dksX0_ahead_0 7 rfl rfl)
theorem dX0_ahead_8 : decode cX0_ahead 8 = .ok (.i2l, 1) := dk_133 (dk_at dksX0_ahead_0 8 rfl rfl)
theorem dX0_ahead_9 : decode cX0_ahead 9 = .ok (.lconst 0, 1) := dk_9 (dk_at dksX0_ahead_0 9 rfl rfl)
theorem dX0_ahead_10 : decode cX0_ahead 10 = .ok (.aload_n 0, 1) := dk_42 (dk_at dksX0_ahead_0 10 rfl rfl)
theorem dX0_ahead_11 : decode cX0_ahead 11 = .ok (.getfield 153, 3) := dk_180 0 153 (dk_at dksX0_ahead_0 11 rfl rfl)
theorem dX0_ahead_14 : decode cX0_ahead 14 = .ok (.getfield 231, 3) := dk_180 0 231 (dk_at dksX0_ahead_0 14 rfl rfl)
theorem dX0_ahead_17 : decode cX0_ahead 17 = .ok (.aload_n 0, 1) := dk_42 (dk_at dksX0_ahead_0 17 rfl rfl)
theorem dX0_ahead_18 : decode cX0_ahead 18 = .ok (.getfield 153, 3) := dk_180 0 153 (dk_at dksX0_ahead_0 18 rfl rfl)
theorem dX0_ahead_21 : decode cX0_ahead 21 = .ok (.getfield 262, 3) := dk_180 1 6 (dk_at dksX0_ahead_0 21 rfl rfl)
theorem dX0_ahead_24 : decode cX0_ahead 24 = .ok (.isub, 1) := dk_100 (dk_at dksX0_ahead_1 0 rfl rfl)
theorem dX0_ahead_25 : decode cX0_ahead 25 = .ok (.i2l, 1) := dk_133 (dk_at dksX0_ahead_1 1 rfl rfl)
theorem dX0_ahead_26 : decode cX0_ahead 26 = .ok (.invokestatic 234, 3) := dk_184 0 234 (dk_at dksX0_ahead_1 2 rfl rfl)
theorem dX0_ahead_29 : decode cX0_ahead 29 = .ok (.ifCond .eq 15, 3) := dk_153 0 15 (dk_at dksX0_ahead_1 5 rfl rfl)
theorem dX0_ahead_32 : decode cX0_ahead 32 = .ok (.iload_n 2, 1) := dk_28 (dk_at dksX0_ahead_1 8 rfl rfl)
theorem dX0_ahead_33 : decode cX0_ahead 33 = .ok (.i2l, 1) := dk_133 (dk_at dksX0_ahead_1 9 rfl rfl)
theorem dX0_ahead_34 : decode cX0_ahead 34 = .ok (.lconst 0, 1) := dk_9 (dk_at dksX0_ahead_1 10 rfl rfl)
theorem dX0_ahead_35 : decode cX0_ahead 35 = .ok (.ldc2_w 324, 3) := dk_20 1 68 (dk_at dksX0_ahead_1 11 rfl rfl)
theorem dX0_ahead_38 : decode cX0_ahead 38 = .ok (.invokestatic 234, 3) := dk_184 0 234 (dk_at dksX0_ahead_1 14 rfl rfl)
theorem dX0_ahead_41 : decode cX0_ahead 41 = .ok (.ifCond .ne 5, 3) := dk_154 0 5 (dk_at dksX0_ahead_1 17 rfl rfl)
theorem dX0_ahead_44 : decode cX0_ahead 44 = .ok (.iconst (-1), 1) := dk_2 (dk_at dksX0_ahead_1 20 rfl rfl)
theorem dX0_ahead_45 : decode cX0_ahead 45 = .ok (.ireturn, 1) := dk_172 (dk_at dksX0_ahead_1 21 rfl rfl)
theorem dX0_ahead_46 : decode cX0_ahead 46 = .ok (.aload_n 0, 1) := dk_42 (dk_at dksX0_ahead_1 22 rfl rfl)
theorem dX0_ahead_47 : decode cX0_ahead 47 = .ok (.getfield 16, 3) := dk_180 0 16 (dk_at dksX0_ahead_2 0 rfl rfl)
theorem dX0_ahead_50 : decode cX0_ahead 50 = .ok (.aload_n 0, 1) := dk_42 (dk_at dksX0_ahead_2 3 rfl rfl)
theorem dX0_ahead_51 : decode cX0_ahead 51 = .ok (.getfield 153, 3) := dk_180 0 153 (dk_at dksX0_ahead_2 4 rfl rfl)
theorem dX0_ahead_54 : decode cX0_ahead 54 = .ok (.invokevirtual 149, 3) := dk_182 0 149 (dk_at dksX0_ahead_2 7 rfl rfl)
theorem dX0_ahead_57 : decode cX0_ahead 57 = .ok (.astore_n 3, 1) := dk_78 (dk_at dksX0_ahead_2 10 rfl rfl)
theorem dX0_ahead_58 : decode cX0_ahead 58 = .ok (.iconst 0, 1) := dk_3 (dk_at dksX0_ahead_2 11 rfl rfl)
theorem dX0_ahead_59 : decode cX0_ahead 59 = .ok (.istore 4, 2) := dk_54 4 (dk_at dksX0_ahead_2 12 rfl rfl)
theorem dX0_ahead_61 : decode cX0_ahead 61 = .ok (.iload 4, 2) := dk_21 4 (dk_at dksX0_ahead_2 14 rfl rfl)
theorem dX0_ahead_63 : decode cX0_ahead 63 = .ok (.iload_n 1, 1) := dk_27 (dk_at dksX0_ahead_2 16 rfl rfl)
theorem dX0_ahead_64 : decode cX0_ahead 64 = .ok (.if_icmp .ge 14, 3) := dk_162 0 14 (dk_at dksX0_ahead_2 17 rfl rfl)
theorem dX0_ahead_67 : decode cX0_ahead 67 = .ok (.aload_n 3, 1) := dk_45 (dk_at dksX0_ahead_2 20 rfl rfl)
theorem dX0_ahead_68 : decode cX0_ahead 68 = .ok (.invokevirtual 268, 3) := dk_182 1 12 (dk_at dksX0_ahead_2 21 rfl rfl)
theorem dX0_ahead_71 : decode cX0_ahead 71 = .ok (.pop, 1) := dk_87 (dk_at dksX0_ahead_3 0 rfl rfl)
theorem dX0_ahead_72 : decode cX0_ahead 72 = .ok (.iinc 4 1, 3) := dk_132 4 1 (dk_at dksX0_ahead_3 1 rfl rfl)
theorem dX0_ahead_75 : decode cX0_ahead 75 = .ok (.goto (-14), 3) := dk_167 255 242 (dk_at dksX0_ahead_3 4 rfl rfl)
theorem dX0_ahead_78 : decode cX0_ahead 78 = .ok (.iload_n 2, 1) := dk_28 (dk_at dksX0_ahead_3 7 rfl rfl)
theorem dX0_ahead_79 : decode cX0_ahead 79 = .ok (.iconst 3, 1) := dk_6 (dk_at dksX0_ahead_3 8 rfl rfl)
theorem dX0_ahead_80 : decode cX0_ahead 80 = .ok (.if_icmp .ge 9, 3) := dk_162 0 9 (dk_at dksX0_ahead_3 9 rfl rfl)
theorem dX0_ahead_83 : decode cX0_ahead 83 = .ok (.aload_n 3, 1) := dk_45 (dk_at dksX0_ahead_3 12 rfl rfl)
theorem dX0_ahead_84 : decode cX0_ahead 84 = .ok (.iload_n 2, 1) := dk_28 (dk_at dksX0_ahead_3 13 rfl rfl)
theorem dX0_ahead_85 : decode cX0_ahead 85 = .ok (.invokestatic 326, 3) := dk_184 1 70 (dk_at dksX0_ahead_3 14 rfl rfl)
theorem dX0_ahead_88 : decode cX0_ahead 88 = .ok (.ireturn, 1) := dk_172 (dk_at dksX0_ahead_3 17 rfl rfl)
theorem dX0_ahead_89 : decode cX0_ahead 89 = .ok (.iconst 0, 1) := dk_3 (dk_at dksX0_ahead_3 18 rfl rfl)
theorem dX0_ahead_90 : decode cX0_ahead 90 = .ok (.istore 4, 2) := dk_54 4 (dk_at dksX0_ahead_3 19 rfl rfl)
theorem dX0_ahead_92 : decode cX0_ahead 92 = .ok (.iconst 0, 1) := dk_3 (dk_at dksX0_ahead_3 21 rfl rfl)
theorem dX0_ahead_93 : decode cX0_ahead 93 = .ok (.istore 5, 2) := dk_54 5 (dk_at dksX0_ahead_3 22 rfl rfl)
theorem dX0_ahead_95 : decode cX0_ahead 95 = .ok (.iload 5, 2) := dk_21 5 (dk_at dksX0_ahead_4 0 rfl rfl)
theorem dX0_ahead_97 : decode cX0_ahead 97 = .ok (.aload_n 3, 1) := dk_45 (dk_at dksX0_ahead_4 2 rfl rfl)
theorem dX0_ahead_98 : decode cX0_ahead 98 = .ok (.getfield 170, 3) := dk_180 0 170 (dk_at dksX0_ahead_4 3 rfl rfl)
theorem dX0_ahead_101 : decode cX0_ahead 101 = .ok (.if_icmp .ge 33, 3) := dk_162 0 33 (dk_at dksX0_ahead_4 6 rfl rfl)
theorem dX0_ahead_104 : decode cX0_ahead 104 = .ok (.iload 4, 2) := dk_21 4 (dk_at dksX0_ahead_4 9 rfl rfl)
theorem dX0_ahead_106 : decode cX0_ahead 106 = .ok (.aload_n 3, 1) := dk_45 (dk_at dksX0_ahead_4 11 rfl rfl)
theorem dX0_ahead_107 : decode cX0_ahead 107 = .ok (.getfield 185, 3) := dk_180 0 185 (dk_at dksX0_ahead_4 12 rfl rfl)
theorem dX0_ahead_110 : decode cX0_ahead 110 = .ok (.iload 5, 2) := dk_21 5 (dk_at dksX0_ahead_4 15 rfl rfl)
theorem dX0_ahead_112 : decode cX0_ahead 112 = .ok (.iaload, 1) := dk_46 (dk_at dksX0_ahead_4 17 rfl rfl)
theorem dX0_ahead_113 : decode cX0_ahead 113 = .ok (.iconst 2, 1) := dk_5 (dk_at dksX0_ahead_4 18 rfl rfl)
theorem dX0_ahead_114 : decode cX0_ahead 114 = .ok (.if_icmp .ne 10, 3) := dk_160 0 10 (dk_at dksX0_ahead_4 19 rfl rfl)
theorem dX0_ahead_117 : decode cX0_ahead 117 = .ok (.iconst 1, 1) := dk_4 (dk_at dksX0_ahead_4 22 rfl rfl)
theorem dX0_ahead_118 : decode cX0_ahead 118 = .ok (.iload 5, 2) := dk_21 5 (dk_at dksX0_ahead_5 0 rfl rfl)
theorem dX0_ahead_120 : decode cX0_ahead 120 = .ok (.ishl, 1) := dk_120 (dk_at dksX0_ahead_5 2 rfl rfl)
theorem dX0_ahead_121 : decode cX0_ahead 121 = .ok (.goto 4, 3) := dk_167 0 4 (dk_at dksX0_ahead_5 3 rfl rfl)
theorem dX0_ahead_124 : decode cX0_ahead 124 = .ok (.iconst 0, 1) := dk_3 (dk_at dksX0_ahead_5 6 rfl rfl)
theorem dX0_ahead_125 : decode cX0_ahead 125 = .ok (.ior, 1) := dk_128 (dk_at dksX0_ahead_5 7 rfl rfl)
theorem dX0_ahead_126 : decode cX0_ahead 126 = .ok (.istore 4, 2) := dk_54 4 (dk_at dksX0_ahead_5 8 rfl rfl)
theorem dX0_ahead_128 : decode cX0_ahead 128 = .ok (.iinc 5 1, 3) := dk_132 5 1 (dk_at dksX0_ahead_5 10 rfl rfl)
theorem dX0_ahead_131 : decode cX0_ahead 131 = .ok (.goto (-36), 3) := dk_167 255 220 (dk_at dksX0_ahead_5 13 rfl rfl)
theorem dX0_ahead_134 : decode cX0_ahead 134 = .ok (.iload 4, 2) := dk_21 4 (dk_at dksX0_ahead_5 16 rfl rfl)
theorem dX0_ahead_136 : decode cX0_ahead 136 = .ok (.ireturn, 1) := dk_172 (dk_at dksX0_ahead_5 18 rfl rfl)
abbrev cX0_thingsIn : ByteArray := prog_1_method_31_code
def yX0_thingsIn : MethodName := ⟨RX0, "thingsIn", "(LPartyRaft$Flow;I)I"⟩
def dkwX0_thingsIn_1 : List UInt8 := [29, 120, 167, 0, 4, 3, 128, 61, 132, 3, 1, 167, 255, 225, 28, 172]
abbrev dktX0_thingsIn_1 : List UInt8 := dkwX0_thingsIn_1 ++ []
def dkwX0_thingsIn_0 : List UInt8 := [3, 61, 3, 62, 29, 42, 180, 0, 156, 162, 0, 29, 28, 42, 180, 0, 209, 29, 46, 27, 160, 0, 9, 4]
abbrev dktX0_thingsIn_0 : List UInt8 := dkwX0_thingsIn_0 ++ dktX0_thingsIn_1
theorem dksX0_thingsIn_0 : cX0_thingsIn.data.toList.drop 0 = dktX0_thingsIn_0 := by decide +kernel
theorem dksX0_thingsIn_1 : cX0_thingsIn.data.toList.drop 24 = dktX0_thingsIn_1 := dk_seg dksX0_thingsIn_0 24 rfl rfl
theorem dX0_thingsIn_0 : decode cX0_thingsIn 0 = .ok (.iconst 0, 1) := dk_3 (dk_at dksX0_thingsIn_0 0 rfl rfl)
theorem dX0_thingsIn_1 : decode cX0_thingsIn 1 = .ok (.istore_n 2, 1) := dk_61 (dk_at dksX0_thingsIn_0 1 rfl rfl)
theorem dX0_thingsIn_2 : decode cX0_thingsIn 2 = .ok (.iconst 0, 1) := dk_3 (dk_at dksX0_thingsIn_0 2 rfl rfl)
theorem dX0_thingsIn_3 : decode cX0_thingsIn 3 = .ok (.istore_n 3, 1) := dk_62 (dk_at dksX0_thingsIn_0 3 rfl rfl)
theorem dX0_thingsIn_4 : decode cX0_thingsIn 4 = .ok (.iload_n 3, 1) := dk_29 (dk_at dksX0_thingsIn_0 4 rfl rfl)
theorem dX0_thingsIn_5 : decode cX0_thingsIn 5 = .ok (.aload_n 0, 1) := dk_42 (dk_at dksX0_thingsIn_0 5 rfl rfl)
theorem dX0_thingsIn_6 : decode cX0_thingsIn 6 = .ok (.getfield 156, 3) := dk_180 0 156 (dk_at dksX0_thingsIn_0 6 rfl rfl)
theorem dX0_thingsIn_9 : decode cX0_thingsIn 9 = .ok (.if_icmp .ge 29, 3) := dk_162 0 29 (dk_at dksX0_thingsIn_0 9 rfl rfl)
theorem dX0_thingsIn_12 : decode cX0_thingsIn 12 = .ok (.iload_n 2, 1) := dk_28 (dk_at dksX0_thingsIn_0 12 rfl rfl)
theorem dX0_thingsIn_13 : decode cX0_thingsIn 13 = .ok (.aload_n 0, 1) := dk_42 (dk_at dksX0_thingsIn_0 13 rfl rfl)
theorem dX0_thingsIn_14 : decode cX0_thingsIn 14 = .ok (.getfield 209, 3) := dk_180 0 209 (dk_at dksX0_thingsIn_0 14 rfl rfl)
theorem dX0_thingsIn_17 : decode cX0_thingsIn 17 = .ok (.iload_n 3, 1) := dk_29 (dk_at dksX0_thingsIn_0 17 rfl rfl)
theorem dX0_thingsIn_18 : decode cX0_thingsIn 18 = .ok (.iaload, 1) := dk_46 (dk_at dksX0_thingsIn_0 18 rfl rfl)
theorem dX0_thingsIn_19 : decode cX0_thingsIn 19 = .ok (.iload_n 1, 1) := dk_27 (dk_at dksX0_thingsIn_0 19 rfl rfl)
theorem dX0_thingsIn_20 : decode cX0_thingsIn 20 = .ok (.if_icmp .ne 9, 3) := dk_160 0 9 (dk_at dksX0_thingsIn_0 20 rfl rfl)
theorem dX0_thingsIn_23 : decode cX0_thingsIn 23 = .ok (.iconst 1, 1) := dk_4 (dk_at dksX0_thingsIn_0 23 rfl rfl)
theorem dX0_thingsIn_24 : decode cX0_thingsIn 24 = .ok (.iload_n 3, 1) := dk_29 (dk_at dksX0_thingsIn_1 0 rfl rfl)
theorem dX0_thingsIn_25 : decode cX0_thingsIn 25 = .ok (.ishl, 1) := dk_120 (dk_at dksX0_thingsIn_1 1 rfl rfl)
theorem dX0_thingsIn_26 : decode cX0_thingsIn 26 = .ok (.goto 4, 3) := dk_167 0 4 (dk_at dksX0_thingsIn_1 2 rfl rfl)
theorem dX0_thingsIn_29 : decode cX0_thingsIn 29 = .ok (.iconst 0, 1) := dk_3 (dk_at dksX0_thingsIn_1 5 rfl rfl)
theorem dX0_thingsIn_30 : decode cX0_thingsIn 30 = .ok (.ior, 1) := dk_128 (dk_at dksX0_thingsIn_1 6 rfl rfl)
theorem dX0_thingsIn_31 : decode cX0_thingsIn 31 = .ok (.istore_n 2, 1) := dk_61 (dk_at dksX0_thingsIn_1 7 rfl rfl)
theorem dX0_thingsIn_32 : decode cX0_thingsIn 32 = .ok (.iinc 3 1, 3) := dk_132 3 1 (dk_at dksX0_thingsIn_1 8 rfl rfl)
theorem dX0_thingsIn_35 : decode cX0_thingsIn 35 = .ok (.goto (-31), 3) := dk_167 255 225 (dk_at dksX0_thingsIn_1 11 rfl rfl)
theorem dX0_thingsIn_38 : decode cX0_thingsIn 38 = .ok (.iload_n 2, 1) := dk_28 (dk_at dksX0_thingsIn_1 14 rfl rfl)
theorem dX0_thingsIn_39 : decode cX0_thingsIn 39 = .ok (.ireturn, 1) := dk_172 (dk_at dksX0_thingsIn_1 15 rfl rfl)
abbrev cX0_sinks : ByteArray := prog_1_method_33_code
def yX0_sinks : MethodName := ⟨RX0, "sinks", "(I)I"⟩
def dkwX0_sinks_3 : List UInt8 := [172]
abbrev dktX0_sinks_3 : List UInt8 := dkwX0_sinks_3 ++ []
def dkwX0_sinks_2 : List UInt8 := [167, 255, 231, 44, 180, 0, 209, 27, 46, 5, 160, 0, 12, 44, 180, 1, 74, 27, 46, 167, 0, 5, 16, 254]
abbrev dktX0_sinks_2 : List UInt8 := dkwX0_sinks_2 ++ dktX0_sinks_3
def dkwX0_sinks_1 : List UInt8 := [180, 0, 209, 27, 46, 154, 0, 22, 44, 180, 1, 6, 44, 180, 0, 231, 162, 0, 11, 44, 182, 1, 12, 87]
abbrev dktX0_sinks_1 : List UInt8 := dkwX0_sinks_1 ++ dktX0_sinks_2
def dkwX0_sinks_0 : List UInt8 := [42, 27, 182, 0, 197, 154, 0, 5, 2, 172, 42, 180, 0, 16, 42, 180, 0, 153, 182, 0, 149, 77, 44]
abbrev dktX0_sinks_0 : List UInt8 := dkwX0_sinks_0 ++ dktX0_sinks_1
theorem dksX0_sinks_0 : cX0_sinks.data.toList.drop 0 = dktX0_sinks_0 := by decide +kernel
theorem dksX0_sinks_1 : cX0_sinks.data.toList.drop 23 = dktX0_sinks_1 := dk_seg dksX0_sinks_0 23 rfl rfl
theorem dksX0_sinks_2 : cX0_sinks.data.toList.drop 47 = dktX0_sinks_2 := dk_seg dksX0_sinks_1 24 rfl rfl
theorem dksX0_sinks_3 : cX0_sinks.data.toList.drop 71 = dktX0_sinks_3 := dk_seg dksX0_sinks_2 24 rfl rfl
theorem dX0_sinks_0 : decode cX0_sinks 0 = .ok (.aload_n 0, 1) := dk_42 (dk_at dksX0_sinks_0 0 rfl rfl)
theorem dX0_sinks_1 : decode cX0_sinks 1 = .ok (.iload_n 1, 1) := dk_27 (dk_at dksX0_sinks_0 1 rfl rfl)
theorem dX0_sinks_2 : decode cX0_sinks 2 = .ok (.invokevirtual 197, 3) := dk_182 0 197 (dk_at dksX0_sinks_0 2 rfl rfl)
theorem dX0_sinks_5 : decode cX0_sinks 5 = .ok (.ifCond .ne 5, 3) := dk_154 0 5 (dk_at dksX0_sinks_0 5 rfl rfl)
theorem dX0_sinks_8 : decode cX0_sinks 8 = .ok (.iconst (-1), 1) := dk_2 (dk_at dksX0_sinks_0 8 rfl rfl)
theorem dX0_sinks_9 : decode cX0_sinks 9 = .ok (.ireturn, 1) := dk_172 (dk_at dksX0_sinks_0 9 rfl rfl)
theorem dX0_sinks_10 : decode cX0_sinks 10 = .ok (.aload_n 0, 1) := dk_42 (dk_at dksX0_sinks_0 10 rfl rfl)
theorem dX0_sinks_11 : decode cX0_sinks 11 = .ok (.getfield 16, 3) := dk_180 0 16 (dk_at dksX0_sinks_0 11 rfl rfl)
theorem dX0_sinks_14 : decode cX0_sinks 14 = .ok (.aload_n 0, 1) := dk_42 (dk_at dksX0_sinks_0 14 rfl rfl)
theorem dX0_sinks_15 : decode cX0_sinks 15 = .ok (.getfield 153, 3) := dk_180 0 153 (dk_at dksX0_sinks_0 15 rfl rfl)
theorem dX0_sinks_18 : decode cX0_sinks 18 = .ok (.invokevirtual 149, 3) := dk_182 0 149 (dk_at dksX0_sinks_0 18 rfl rfl)
theorem dX0_sinks_21 : decode cX0_sinks 21 = .ok (.astore_n 2, 1) := dk_77 (dk_at dksX0_sinks_0 21 rfl rfl)
theorem dX0_sinks_22 : decode cX0_sinks 22 = .ok (.aload_n 2, 1) := dk_44 (dk_at dksX0_sinks_0 22 rfl rfl)
theorem dX0_sinks_23 : decode cX0_sinks 23 = .ok (.getfield 209, 3) := dk_180 0 209 (dk_at dksX0_sinks_1 0 rfl rfl)
theorem dX0_sinks_26 : decode cX0_sinks 26 = .ok (.iload_n 1, 1) := dk_27 (dk_at dksX0_sinks_1 3 rfl rfl)
theorem dX0_sinks_27 : decode cX0_sinks 27 = .ok (.iaload, 1) := dk_46 (dk_at dksX0_sinks_1 4 rfl rfl)
theorem dX0_sinks_28 : decode cX0_sinks 28 = .ok (.ifCond .ne 22, 3) := dk_154 0 22 (dk_at dksX0_sinks_1 5 rfl rfl)
theorem dX0_sinks_31 : decode cX0_sinks 31 = .ok (.aload_n 2, 1) := dk_44 (dk_at dksX0_sinks_1 8 rfl rfl)
theorem dX0_sinks_32 : decode cX0_sinks 32 = .ok (.getfield 262, 3) := dk_180 1 6 (dk_at dksX0_sinks_1 9 rfl rfl)
theorem dX0_sinks_35 : decode cX0_sinks 35 = .ok (.aload_n 2, 1) := dk_44 (dk_at dksX0_sinks_1 12 rfl rfl)
theorem dX0_sinks_36 : decode cX0_sinks 36 = .ok (.getfield 231, 3) := dk_180 0 231 (dk_at dksX0_sinks_1 13 rfl rfl)
theorem dX0_sinks_39 : decode cX0_sinks 39 = .ok (.if_icmp .ge 11, 3) := dk_162 0 11 (dk_at dksX0_sinks_1 16 rfl rfl)
theorem dX0_sinks_42 : decode cX0_sinks 42 = .ok (.aload_n 2, 1) := dk_44 (dk_at dksX0_sinks_1 19 rfl rfl)
theorem dX0_sinks_43 : decode cX0_sinks 43 = .ok (.invokevirtual 268, 3) := dk_182 1 12 (dk_at dksX0_sinks_1 20 rfl rfl)
theorem dX0_sinks_46 : decode cX0_sinks 46 = .ok (.pop, 1) := dk_87 (dk_at dksX0_sinks_1 23 rfl rfl)
theorem dX0_sinks_47 : decode cX0_sinks 47 = .ok (.goto (-25), 3) := dk_167 255 231 (dk_at dksX0_sinks_2 0 rfl rfl)
theorem dX0_sinks_50 : decode cX0_sinks 50 = .ok (.aload_n 2, 1) := dk_44 (dk_at dksX0_sinks_2 3 rfl rfl)
theorem dX0_sinks_51 : decode cX0_sinks 51 = .ok (.getfield 209, 3) := dk_180 0 209 (dk_at dksX0_sinks_2 4 rfl rfl)
theorem dX0_sinks_54 : decode cX0_sinks 54 = .ok (.iload_n 1, 1) := dk_27 (dk_at dksX0_sinks_2 7 rfl rfl)
theorem dX0_sinks_55 : decode cX0_sinks 55 = .ok (.iaload, 1) := dk_46 (dk_at dksX0_sinks_2 8 rfl rfl)
theorem dX0_sinks_56 : decode cX0_sinks 56 = .ok (.iconst 2, 1) := dk_5 (dk_at dksX0_sinks_2 9 rfl rfl)
theorem dX0_sinks_57 : decode cX0_sinks 57 = .ok (.if_icmp .ne 12, 3) := dk_160 0 12 (dk_at dksX0_sinks_2 10 rfl rfl)
theorem dX0_sinks_60 : decode cX0_sinks 60 = .ok (.aload_n 2, 1) := dk_44 (dk_at dksX0_sinks_2 13 rfl rfl)
theorem dX0_sinks_61 : decode cX0_sinks 61 = .ok (.getfield 330, 3) := dk_180 1 74 (dk_at dksX0_sinks_2 14 rfl rfl)
theorem dX0_sinks_64 : decode cX0_sinks 64 = .ok (.iload_n 1, 1) := dk_27 (dk_at dksX0_sinks_2 17 rfl rfl)
theorem dX0_sinks_65 : decode cX0_sinks 65 = .ok (.iaload, 1) := dk_46 (dk_at dksX0_sinks_2 18 rfl rfl)
theorem dX0_sinks_66 : decode cX0_sinks 66 = .ok (.goto 5, 3) := dk_167 0 5 (dk_at dksX0_sinks_2 19 rfl rfl)
theorem dX0_sinks_69 : decode cX0_sinks 69 = .ok (.bipush (-2), 2) := dk_16 254 (dk_at dksX0_sinks_2 22 rfl rfl)
theorem dX0_sinks_71 : decode cX0_sinks 71 = .ok (.ireturn, 1) := dk_172 (dk_at dksX0_sinks_3 0 rfl rfl)
abbrev cX0_bearers : ByteArray := prog_1_method_35_code
def yX0_bearers : MethodName := ⟨RX0, "bearers", "(II)I"⟩
def dkwX0_bearers_5 : List UInt8 := [21, 4, 184, 1, 33, 172]
abbrev dktX0_bearers_5 : List UInt8 := dkwX0_bearers_5 ++ []
def dkwX0_bearers_4 : List UInt8 := [132, 5, 1, 167, 255, 197, 21, 4, 16, 254, 159, 0, 8, 28, 4, 160, 0, 8, 21, 4, 167, 0, 8]
abbrev dktX0_bearers_4 : List UInt8 := dkwX0_bearers_4 ++ dktX0_bearers_5
def dkwX0_bearers_3 : List UInt8 := [161, 0, 6, 167, 0, 21, 42, 180, 0, 153, 27, 21, 5, 128, 182, 1, 80, 155, 0, 7, 21, 5, 54, 4]
abbrev dktX0_bearers_3 : List UInt8 := dkwX0_bearers_3 ++ dktX0_bearers_4
def dkwX0_bearers_2 : List UInt8 := [2, 130, 126, 154, 0, 44, 21, 4, 16, 254, 159, 0, 19, 21, 5, 184, 1, 33, 21, 4, 184, 1, 33]
abbrev dktX0_bearers_2 : List UInt8 := dkwX0_bearers_2 ++ dktX0_bearers_3
def dkwX0_bearers_1 : List UInt8 := [182, 1, 50, 27, 2, 130, 126, 62, 16, 254, 54, 4, 3, 54, 5, 21, 5, 29, 163, 0, 59, 21, 5, 29]
abbrev dktX0_bearers_1 : List UInt8 := dkwX0_bearers_1 ++ dktX0_bearers_2
def dkwX0_bearers_0 : List UInt8 := [42, 27, 182, 1, 77, 153, 0, 13, 28, 133, 9, 10, 184, 0, 234, 154, 0, 5, 2, 172, 42, 180, 0, 153]
abbrev dktX0_bearers_0 : List UInt8 := dkwX0_bearers_0 ++ dktX0_bearers_1
theorem dksX0_bearers_0 : cX0_bearers.data.toList.drop 0 = dktX0_bearers_0 := by decide +kernel
theorem dksX0_bearers_1 : cX0_bearers.data.toList.drop 24 = dktX0_bearers_1 := dk_seg dksX0_bearers_0 24 rfl rfl
theorem dksX0_bearers_2 : cX0_bearers.data.toList.drop 48 = dktX0_bearers_2 := dk_seg dksX0_bearers_1 24 rfl rfl
theorem dksX0_bearers_3 : cX0_bearers.data.toList.drop 71 = dktX0_bearers_3 := dk_seg dksX0_bearers_2 23 rfl rfl
theorem dksX0_bearers_4 : cX0_bearers.data.toList.drop 95 = dktX0_bearers_4 := dk_seg dksX0_bearers_3 24 rfl rfl
theorem dksX0_bearers_5 : cX0_bearers.data.toList.drop 118 = dktX0_bearers_5 := dk_seg dksX0_bearers_4 23 rfl rfl
theorem dX0_bearers_0 : decode cX0_bearers 0 = .ok (.aload_n 0, 1) := dk_42 (dk_at dksX0_bearers_0 0 rfl rfl)
theorem dX0_bearers_1 : decode cX0_bearers 1 = .ok (.iload_n 1, 1) := dk_27 (dk_at dksX0_bearers_0 1 rfl rfl)
theorem dX0_bearers_2 : decode cX0_bearers 2 = .ok (.invokevirtual 333, 3) := dk_182 1 77 (dk_at dksX0_bearers_0 2 rfl rfl)
theorem dX0_bearers_5 : decode cX0_bearers 5 = .ok (.ifCond .eq 13, 3) := dk_153 0 13 (dk_at dksX0_bearers_0 5 rfl rfl)
theorem dX0_bearers_8 : decode cX0_bearers 8 = .ok (.iload_n 2, 1) := dk_28 (dk_at dksX0_bearers_0 8 rfl rfl)
theorem dX0_bearers_9 : decode cX0_bearers 9 = .ok (.i2l, 1) := dk_133 (dk_at dksX0_bearers_0 9 rfl rfl)
theorem dX0_bearers_10 : decode cX0_bearers 10 = .ok (.lconst 0, 1) := dk_9 (dk_at dksX0_bearers_0 10 rfl rfl)
theorem dX0_bearers_11 : decode cX0_bearers 11 = .ok (.lconst 1, 1) := dk_10 (dk_at dksX0_bearers_0 11 rfl rfl)
theorem dX0_bearers_12 : decode cX0_bearers 12 = .ok (.invokestatic 234, 3) := dk_184 0 234 (dk_at dksX0_bearers_0 12 rfl rfl)
theorem dX0_bearers_15 : decode cX0_bearers 15 = .ok (.ifCond .ne 5, 3) := dk_154 0 5 (dk_at dksX0_bearers_0 15 rfl rfl)
theorem dX0_bearers_18 : decode cX0_bearers 18 = .ok (.iconst (-1), 1) := dk_2 (dk_at dksX0_bearers_0 18 rfl rfl)
theorem dX0_bearers_19 : decode cX0_bearers 19 = .ok (.ireturn, 1) := dk_172 (dk_at dksX0_bearers_0 19 rfl rfl)
theorem dX0_bearers_20 : decode cX0_bearers 20 = .ok (.aload_n 0, 1) := dk_42 (dk_at dksX0_bearers_0 20 rfl rfl)
theorem dX0_bearers_21 : decode cX0_bearers 21 = .ok (.getfield 153, 3) := dk_180 0 153 (dk_at dksX0_bearers_0 21 rfl rfl)
theorem dX0_bearers_24 : decode cX0_bearers 24 = .ok (.invokevirtual 306, 3) := dk_182 1 50 (dk_at dksX0_bearers_1 0 rfl rfl)
theorem dX0_bearers_27 : decode cX0_bearers 27 = .ok (.iload_n 1, 1) := dk_27 (dk_at dksX0_bearers_1 3 rfl rfl)
theorem dX0_bearers_28 : decode cX0_bearers 28 = .ok (.iconst (-1), 1) := dk_2 (dk_at dksX0_bearers_1 4 rfl rfl)
theorem dX0_bearers_29 : decode cX0_bearers 29 = .ok (.ixor, 1) := dk_130 (dk_at dksX0_bearers_1 5 rfl rfl)
theorem dX0_bearers_30 : decode cX0_bearers 30 = .ok (.iand, 1) := dk_126 (dk_at dksX0_bearers_1 6 rfl rfl)
theorem dX0_bearers_31 : decode cX0_bearers 31 = .ok (.istore_n 3, 1) := dk_62 (dk_at dksX0_bearers_1 7 rfl rfl)
theorem dX0_bearers_32 : decode cX0_bearers 32 = .ok (.bipush (-2), 2) := dk_16 254 (dk_at dksX0_bearers_1 8 rfl rfl)
theorem dX0_bearers_34 : decode cX0_bearers 34 = .ok (.istore 4, 2) := dk_54 4 (dk_at dksX0_bearers_1 10 rfl rfl)
theorem dX0_bearers_36 : decode cX0_bearers 36 = .ok (.iconst 0, 1) := dk_3 (dk_at dksX0_bearers_1 12 rfl rfl)
theorem dX0_bearers_37 : decode cX0_bearers 37 = .ok (.istore 5, 2) := dk_54 5 (dk_at dksX0_bearers_1 13 rfl rfl)
theorem dX0_bearers_39 : decode cX0_bearers 39 = .ok (.iload 5, 2) := dk_21 5 (dk_at dksX0_bearers_1 15 rfl rfl)
theorem dX0_bearers_41 : decode cX0_bearers 41 = .ok (.iload_n 3, 1) := dk_29 (dk_at dksX0_bearers_1 17 rfl rfl)
theorem dX0_bearers_42 : decode cX0_bearers 42 = .ok (.if_icmp .gt 59, 3) := dk_163 0 59 (dk_at dksX0_bearers_1 18 rfl rfl)
theorem dX0_bearers_45 : decode cX0_bearers 45 = .ok (.iload 5, 2) := dk_21 5 (dk_at dksX0_bearers_1 21 rfl rfl)
theorem dX0_bearers_47 : decode cX0_bearers 47 = .ok (.iload_n 3, 1) := dk_29 (dk_at dksX0_bearers_1 23 rfl rfl)
theorem dX0_bearers_48 : decode cX0_bearers 48 = .ok (.iconst (-1), 1) := dk_2 (dk_at dksX0_bearers_2 0 rfl rfl)
theorem dX0_bearers_49 : decode cX0_bearers 49 = .ok (.ixor, 1) := dk_130 (dk_at dksX0_bearers_2 1 rfl rfl)
theorem dX0_bearers_50 : decode cX0_bearers 50 = .ok (.iand, 1) := dk_126 (dk_at dksX0_bearers_2 2 rfl rfl)
theorem dX0_bearers_51 : decode cX0_bearers 51 = .ok (.ifCond .ne 44, 3) := dk_154 0 44 (dk_at dksX0_bearers_2 3 rfl rfl)
theorem dX0_bearers_54 : decode cX0_bearers 54 = .ok (.iload 4, 2) := dk_21 4 (dk_at dksX0_bearers_2 6 rfl rfl)
theorem dX0_bearers_56 : decode cX0_bearers 56 = .ok (.bipush (-2), 2) := dk_16 254 (dk_at dksX0_bearers_2 8 rfl rfl)
theorem dX0_bearers_58 : decode cX0_bearers 58 = .ok (.if_icmp .eq 19, 3) := dk_159 0 19 (dk_at dksX0_bearers_2 10 rfl rfl)
theorem dX0_bearers_61 : decode cX0_bearers 61 = .ok (.iload 5, 2) := dk_21 5 (dk_at dksX0_bearers_2 13 rfl rfl)
theorem dX0_bearers_63 : decode cX0_bearers 63 = .ok (.invokestatic 289, 3) := dk_184 1 33 (dk_at dksX0_bearers_2 15 rfl rfl)
theorem dX0_bearers_66 : decode cX0_bearers 66 = .ok (.iload 4, 2) := dk_21 4 (dk_at dksX0_bearers_2 18 rfl rfl)
theorem dX0_bearers_68 : decode cX0_bearers 68 = .ok (.invokestatic 289, 3) := dk_184 1 33 (dk_at dksX0_bearers_2 20 rfl rfl)
theorem dX0_bearers_71 : decode cX0_bearers 71 = .ok (.if_icmp .lt 6, 3) := dk_161 0 6 (dk_at dksX0_bearers_3 0 rfl rfl)
theorem dX0_bearers_74 : decode cX0_bearers 74 = .ok (.goto 21, 3) := dk_167 0 21 (dk_at dksX0_bearers_3 3 rfl rfl)
theorem dX0_bearers_77 : decode cX0_bearers 77 = .ok (.aload_n 0, 1) := dk_42 (dk_at dksX0_bearers_3 6 rfl rfl)
theorem dX0_bearers_78 : decode cX0_bearers 78 = .ok (.getfield 153, 3) := dk_180 0 153 (dk_at dksX0_bearers_3 7 rfl rfl)
theorem dX0_bearers_81 : decode cX0_bearers 81 = .ok (.iload_n 1, 1) := dk_27 (dk_at dksX0_bearers_3 10 rfl rfl)
theorem dX0_bearers_82 : decode cX0_bearers 82 = .ok (.iload 5, 2) := dk_21 5 (dk_at dksX0_bearers_3 11 rfl rfl)
theorem dX0_bearers_84 : decode cX0_bearers 84 = .ok (.ior, 1) := dk_128 (dk_at dksX0_bearers_3 13 rfl rfl)
theorem dX0_bearers_85 : decode cX0_bearers 85 = .ok (.invokevirtual 336, 3) := dk_182 1 80 (dk_at dksX0_bearers_3 14 rfl rfl)
theorem dX0_bearers_88 : decode cX0_bearers 88 = .ok (.ifCond .lt 7, 3) := dk_155 0 7 (dk_at dksX0_bearers_3 17 rfl rfl)
theorem dX0_bearers_91 : decode cX0_bearers 91 = .ok (.iload 5, 2) := dk_21 5 (dk_at dksX0_bearers_3 20 rfl rfl)
theorem dX0_bearers_93 : decode cX0_bearers 93 = .ok (.istore 4, 2) := dk_54 4 (dk_at dksX0_bearers_3 22 rfl rfl)
theorem dX0_bearers_95 : decode cX0_bearers 95 = .ok (.iinc 5 1, 3) := dk_132 5 1 (dk_at dksX0_bearers_4 0 rfl rfl)
theorem dX0_bearers_98 : decode cX0_bearers 98 = .ok (.goto (-59), 3) := dk_167 255 197 (dk_at dksX0_bearers_4 3 rfl rfl)
theorem dX0_bearers_101 : decode cX0_bearers 101 = .ok (.iload 4, 2) := dk_21 4 (dk_at dksX0_bearers_4 6 rfl rfl)
theorem dX0_bearers_103 : decode cX0_bearers 103 = .ok (.bipush (-2), 2) := dk_16 254 (dk_at dksX0_bearers_4 8 rfl rfl)
theorem dX0_bearers_105 : decode cX0_bearers 105 = .ok (.if_icmp .eq 8, 3) := dk_159 0 8 (dk_at dksX0_bearers_4 10 rfl rfl)
theorem dX0_bearers_108 : decode cX0_bearers 108 = .ok (.iload_n 2, 1) := dk_28 (dk_at dksX0_bearers_4 13 rfl rfl)
theorem dX0_bearers_109 : decode cX0_bearers 109 = .ok (.iconst 1, 1) := dk_4 (dk_at dksX0_bearers_4 14 rfl rfl)
theorem dX0_bearers_110 : decode cX0_bearers 110 = .ok (.if_icmp .ne 8, 3) := dk_160 0 8 (dk_at dksX0_bearers_4 15 rfl rfl)
theorem dX0_bearers_113 : decode cX0_bearers 113 = .ok (.iload 4, 2) := dk_21 4 (dk_at dksX0_bearers_4 18 rfl rfl)
theorem dX0_bearers_115 : decode cX0_bearers 115 = .ok (.goto 8, 3) := dk_167 0 8 (dk_at dksX0_bearers_4 20 rfl rfl)
theorem dX0_bearers_118 : decode cX0_bearers 118 = .ok (.iload 4, 2) := dk_21 4 (dk_at dksX0_bearers_5 0 rfl rfl)
theorem dX0_bearers_120 : decode cX0_bearers 120 = .ok (.invokestatic 289, 3) := dk_184 1 33 (dk_at dksX0_bearers_5 2 rfl rfl)
theorem dX0_bearers_123 : decode cX0_bearers 123 = .ok (.ireturn, 1) := dk_172 (dk_at dksX0_bearers_5 5 rfl rfl)
abbrev cX0_areAfloat : ByteArray := prog_1_method_34_code
def yX0_areAfloat : MethodName := ⟨RX0, "areAfloat", "(I)Z"⟩
def dkwX0_areAfloat_1 : List UInt8 := [154, 0, 7, 4, 167, 0, 4, 3, 172]
abbrev dktX0_areAfloat_1 : List UInt8 := dkwX0_areAfloat_1 ++ []
def dkwX0_areAfloat_0 : List UInt8 := [42, 180, 0, 153, 198, 0, 25, 27, 155, 0, 21, 27, 42, 180, 0, 153, 182, 1, 50, 2, 130, 126]
abbrev dktX0_areAfloat_0 : List UInt8 := dkwX0_areAfloat_0 ++ dktX0_areAfloat_1
theorem dksX0_areAfloat_0 : cX0_areAfloat.data.toList.drop 0 = dktX0_areAfloat_0 := by decide +kernel
theorem dksX0_areAfloat_1 : cX0_areAfloat.data.toList.drop 22 = dktX0_areAfloat_1 := dk_seg dksX0_areAfloat_0 22 rfl rfl
theorem dX0_areAfloat_0 : decode cX0_areAfloat 0 = .ok (.aload_n 0, 1) := dk_42 (dk_at dksX0_areAfloat_0 0 rfl rfl)
theorem dX0_areAfloat_1 : decode cX0_areAfloat 1 = .ok (.getfield 153, 3) := dk_180 0 153 (dk_at dksX0_areAfloat_0 1 rfl rfl)
theorem dX0_areAfloat_4 : decode cX0_areAfloat 4 = .ok (.ifnull 25, 3) := dk_198 0 25 (dk_at dksX0_areAfloat_0 4 rfl rfl)
theorem dX0_areAfloat_7 : decode cX0_areAfloat 7 = .ok (.iload_n 1, 1) := dk_27 (dk_at dksX0_areAfloat_0 7 rfl rfl)
theorem dX0_areAfloat_8 : decode cX0_areAfloat 8 = .ok (.ifCond .lt 21, 3) := dk_155 0 21 (dk_at dksX0_areAfloat_0 8 rfl rfl)
theorem dX0_areAfloat_11 : decode cX0_areAfloat 11 = .ok (.iload_n 1, 1) := dk_27 (dk_at dksX0_areAfloat_0 11 rfl rfl)
theorem dX0_areAfloat_12 : decode cX0_areAfloat 12 = .ok (.aload_n 0, 1) := dk_42 (dk_at dksX0_areAfloat_0 12 rfl rfl)
theorem dX0_areAfloat_13 : decode cX0_areAfloat 13 = .ok (.getfield 153, 3) := dk_180 0 153 (dk_at dksX0_areAfloat_0 13 rfl rfl)
theorem dX0_areAfloat_16 : decode cX0_areAfloat 16 = .ok (.invokevirtual 306, 3) := dk_182 1 50 (dk_at dksX0_areAfloat_0 16 rfl rfl)
theorem dX0_areAfloat_19 : decode cX0_areAfloat 19 = .ok (.iconst (-1), 1) := dk_2 (dk_at dksX0_areAfloat_0 19 rfl rfl)
theorem dX0_areAfloat_20 : decode cX0_areAfloat 20 = .ok (.ixor, 1) := dk_130 (dk_at dksX0_areAfloat_0 20 rfl rfl)
theorem dX0_areAfloat_21 : decode cX0_areAfloat 21 = .ok (.iand, 1) := dk_126 (dk_at dksX0_areAfloat_0 21 rfl rfl)
theorem dX0_areAfloat_22 : decode cX0_areAfloat 22 = .ok (.ifCond .ne 7, 3) := dk_154 0 7 (dk_at dksX0_areAfloat_1 0 rfl rfl)
theorem dX0_areAfloat_25 : decode cX0_areAfloat 25 = .ok (.iconst 1, 1) := dk_4 (dk_at dksX0_areAfloat_1 3 rfl rfl)
theorem dX0_areAfloat_26 : decode cX0_areAfloat 26 = .ok (.goto 4, 3) := dk_167 0 4 (dk_at dksX0_areAfloat_1 4 rfl rfl)
theorem dX0_areAfloat_29 : decode cX0_areAfloat 29 = .ok (.iconst 0, 1) := dk_3 (dk_at dksX0_areAfloat_1 7 rfl rfl)
theorem dX0_areAfloat_30 : decode cX0_areAfloat 30 = .ok (.ireturn, 1) := dk_172 (dk_at dksX0_areAfloat_1 8 rfl rfl)
abbrev cX0_plan : ByteArray := prog_1_method_40_code
def yX0_plan : MethodName := ⟨RX0, "plan", "(I)I"⟩
def dkwX0_plan_4 : List UInt8 := [180, 1, 92, 161, 0, 8, 16, 254, 167, 0, 9, 42, 180, 0, 98, 27, 46, 172]
abbrev dktX0_plan_4 : List UInt8 := dkwX0_plan_4 ++ []
def dkwX0_plan_3 : List UInt8 := [182, 1, 101, 27, 2, 160, 0, 8, 42, 180, 1, 98, 172, 42, 180, 1, 98, 153, 0, 11, 27, 42]
abbrev dktX0_plan_3 : List UInt8 := dkwX0_plan_3 ++ dktX0_plan_4
def dkwX0_plan_2 : List UInt8 := [164, 0, 6, 16, 253, 172, 42, 3, 181, 1, 98, 42, 28, 182, 1, 109, 153, 0, 9, 42, 3, 28]
abbrev dktX0_plan_2 : List UInt8 := dkwX0_plan_2 ++ dktX0_plan_3
def dkwX0_plan_1 : List UInt8 := [42, 180, 0, 153, 182, 1, 50, 61, 42, 28, 184, 1, 33, 181, 1, 92, 42, 180, 1, 92, 16, 7]
abbrev dktX0_plan_1 : List UInt8 := dkwX0_plan_1 ++ dktX0_plan_2
def dkwX0_plan_0 : List UInt8 := [42, 180, 0, 153, 198, 0, 17, 27, 133, 20, 1, 105, 20, 1, 107, 184, 0, 234, 154, 0, 6, 16, 252, 172]
abbrev dktX0_plan_0 : List UInt8 := dkwX0_plan_0 ++ dktX0_plan_1
theorem dksX0_plan_0 : cX0_plan.data.toList.drop 0 = dktX0_plan_0 := by decide +kernel
theorem dksX0_plan_1 : cX0_plan.data.toList.drop 24 = dktX0_plan_1 := dk_seg dksX0_plan_0 24 rfl rfl
theorem dksX0_plan_2 : cX0_plan.data.toList.drop 46 = dktX0_plan_2 := dk_seg dksX0_plan_1 22 rfl rfl
theorem dksX0_plan_3 : cX0_plan.data.toList.drop 68 = dktX0_plan_3 := dk_seg dksX0_plan_2 22 rfl rfl
theorem dksX0_plan_4 : cX0_plan.data.toList.drop 90 = dktX0_plan_4 := dk_seg dksX0_plan_3 22 rfl rfl
theorem dX0_plan_0 : decode cX0_plan 0 = .ok (.aload_n 0, 1) := dk_42 (dk_at dksX0_plan_0 0 rfl rfl)
theorem dX0_plan_1 : decode cX0_plan 1 = .ok (.getfield 153, 3) := dk_180 0 153 (dk_at dksX0_plan_0 1 rfl rfl)
theorem dX0_plan_4 : decode cX0_plan 4 = .ok (.ifnull 17, 3) := dk_198 0 17 (dk_at dksX0_plan_0 4 rfl rfl)
theorem dX0_plan_7 : decode cX0_plan 7 = .ok (.iload_n 1, 1) := dk_27 (dk_at dksX0_plan_0 7 rfl rfl)
theorem dX0_plan_8 : decode cX0_plan 8 = .ok (.i2l, 1) := dk_133 (dk_at dksX0_plan_0 8 rfl rfl)
theorem dX0_plan_9 : decode cX0_plan 9 = .ok (.ldc2_w 361, 3) := dk_20 1 105 (dk_at dksX0_plan_0 9 rfl rfl)
theorem dX0_plan_12 : decode cX0_plan 12 = .ok (.ldc2_w 363, 3) := dk_20 1 107 (dk_at dksX0_plan_0 12 rfl rfl)
theorem dX0_plan_15 : decode cX0_plan 15 = .ok (.invokestatic 234, 3) := dk_184 0 234 (dk_at dksX0_plan_0 15 rfl rfl)
theorem dX0_plan_18 : decode cX0_plan 18 = .ok (.ifCond .ne 6, 3) := dk_154 0 6 (dk_at dksX0_plan_0 18 rfl rfl)
theorem dX0_plan_21 : decode cX0_plan 21 = .ok (.bipush (-4), 2) := dk_16 252 (dk_at dksX0_plan_0 21 rfl rfl)
theorem dX0_plan_23 : decode cX0_plan 23 = .ok (.ireturn, 1) := dk_172 (dk_at dksX0_plan_0 23 rfl rfl)
theorem dX0_plan_24 : decode cX0_plan 24 = .ok (.aload_n 0, 1) := dk_42 (dk_at dksX0_plan_1 0 rfl rfl)
theorem dX0_plan_25 : decode cX0_plan 25 = .ok (.getfield 153, 3) := dk_180 0 153 (dk_at dksX0_plan_1 1 rfl rfl)
theorem dX0_plan_28 : decode cX0_plan 28 = .ok (.invokevirtual 306, 3) := dk_182 1 50 (dk_at dksX0_plan_1 4 rfl rfl)
theorem dX0_plan_31 : decode cX0_plan 31 = .ok (.istore_n 2, 1) := dk_61 (dk_at dksX0_plan_1 7 rfl rfl)
theorem dX0_plan_32 : decode cX0_plan 32 = .ok (.aload_n 0, 1) := dk_42 (dk_at dksX0_plan_1 8 rfl rfl)
theorem dX0_plan_33 : decode cX0_plan 33 = .ok (.iload_n 2, 1) := dk_28 (dk_at dksX0_plan_1 9 rfl rfl)
theorem dX0_plan_34 : decode cX0_plan 34 = .ok (.invokestatic 289, 3) := dk_184 1 33 (dk_at dksX0_plan_1 10 rfl rfl)
theorem dX0_plan_37 : decode cX0_plan 37 = .ok (.putfield 348, 3) := dk_181 1 92 (dk_at dksX0_plan_1 13 rfl rfl)
theorem dX0_plan_40 : decode cX0_plan 40 = .ok (.aload_n 0, 1) := dk_42 (dk_at dksX0_plan_1 16 rfl rfl)
theorem dX0_plan_41 : decode cX0_plan 41 = .ok (.getfield 348, 3) := dk_180 1 92 (dk_at dksX0_plan_1 17 rfl rfl)
theorem dX0_plan_44 : decode cX0_plan 44 = .ok (.bipush 7, 2) := dk_16 7 (dk_at dksX0_plan_1 20 rfl rfl)
theorem dX0_plan_46 : decode cX0_plan 46 = .ok (.if_icmp .le 6, 3) := dk_164 0 6 (dk_at dksX0_plan_2 0 rfl rfl)
theorem dX0_plan_49 : decode cX0_plan 49 = .ok (.bipush (-3), 2) := dk_16 253 (dk_at dksX0_plan_2 3 rfl rfl)
theorem dX0_plan_51 : decode cX0_plan 51 = .ok (.ireturn, 1) := dk_172 (dk_at dksX0_plan_2 5 rfl rfl)
theorem dX0_plan_52 : decode cX0_plan 52 = .ok (.aload_n 0, 1) := dk_42 (dk_at dksX0_plan_2 6 rfl rfl)
theorem dX0_plan_53 : decode cX0_plan 53 = .ok (.iconst 0, 1) := dk_3 (dk_at dksX0_plan_2 7 rfl rfl)
theorem dX0_plan_54 : decode cX0_plan 54 = .ok (.putfield 354, 3) := dk_181 1 98 (dk_at dksX0_plan_2 8 rfl rfl)
theorem dX0_plan_57 : decode cX0_plan 57 = .ok (.aload_n 0, 1) := dk_42 (dk_at dksX0_plan_2 11 rfl rfl)
theorem dX0_plan_58 : decode cX0_plan 58 = .ok (.iload_n 2, 1) := dk_28 (dk_at dksX0_plan_2 12 rfl rfl)
theorem dX0_plan_59 : decode cX0_plan 59 = .ok (.invokevirtual 365, 3) := dk_182 1 109 (dk_at dksX0_plan_2 13 rfl rfl)
theorem dX0_plan_62 : decode cX0_plan 62 = .ok (.ifCond .eq 9, 3) := dk_153 0 9 (dk_at dksX0_plan_2 16 rfl rfl)
theorem dX0_plan_65 : decode cX0_plan 65 = .ok (.aload_n 0, 1) := dk_42 (dk_at dksX0_plan_2 19 rfl rfl)
theorem dX0_plan_66 : decode cX0_plan 66 = .ok (.iconst 0, 1) := dk_3 (dk_at dksX0_plan_2 20 rfl rfl)
theorem dX0_plan_67 : decode cX0_plan 67 = .ok (.iload_n 2, 1) := dk_28 (dk_at dksX0_plan_2 21 rfl rfl)
theorem dX0_plan_68 : decode cX0_plan 68 = .ok (.invokevirtual 357, 3) := dk_182 1 101 (dk_at dksX0_plan_3 0 rfl rfl)
theorem dX0_plan_71 : decode cX0_plan 71 = .ok (.iload_n 1, 1) := dk_27 (dk_at dksX0_plan_3 3 rfl rfl)
theorem dX0_plan_72 : decode cX0_plan 72 = .ok (.iconst (-1), 1) := dk_2 (dk_at dksX0_plan_3 4 rfl rfl)
theorem dX0_plan_73 : decode cX0_plan 73 = .ok (.if_icmp .ne 8, 3) := dk_160 0 8 (dk_at dksX0_plan_3 5 rfl rfl)
theorem dX0_plan_76 : decode cX0_plan 76 = .ok (.aload_n 0, 1) := dk_42 (dk_at dksX0_plan_3 8 rfl rfl)
theorem dX0_plan_77 : decode cX0_plan 77 = .ok (.getfield 354, 3) := dk_180 1 98 (dk_at dksX0_plan_3 9 rfl rfl)
theorem dX0_plan_80 : decode cX0_plan 80 = .ok (.ireturn, 1) := dk_172 (dk_at dksX0_plan_3 12 rfl rfl)
theorem dX0_plan_81 : decode cX0_plan 81 = .ok (.aload_n 0, 1) := dk_42 (dk_at dksX0_plan_3 13 rfl rfl)
theorem dX0_plan_82 : decode cX0_plan 82 = .ok (.getfield 354, 3) := dk_180 1 98 (dk_at dksX0_plan_3 14 rfl rfl)
theorem dX0_plan_85 : decode cX0_plan 85 = .ok (.ifCond .eq 11, 3) := dk_153 0 11 (dk_at dksX0_plan_3 17 rfl rfl)
theorem dX0_plan_88 : decode cX0_plan 88 = .ok (.iload_n 1, 1) := dk_27 (dk_at dksX0_plan_3 20 rfl rfl)
theorem dX0_plan_89 : decode cX0_plan 89 = .ok (.aload_n 0, 1) := dk_42 (dk_at dksX0_plan_3 21 rfl rfl)
theorem dX0_plan_90 : decode cX0_plan 90 = .ok (.getfield 348, 3) := dk_180 1 92 (dk_at dksX0_plan_4 0 rfl rfl)
theorem dX0_plan_93 : decode cX0_plan 93 = .ok (.if_icmp .lt 8, 3) := dk_161 0 8 (dk_at dksX0_plan_4 3 rfl rfl)
theorem dX0_plan_96 : decode cX0_plan 96 = .ok (.bipush (-2), 2) := dk_16 254 (dk_at dksX0_plan_4 6 rfl rfl)
theorem dX0_plan_98 : decode cX0_plan 98 = .ok (.goto 9, 3) := dk_167 0 9 (dk_at dksX0_plan_4 8 rfl rfl)
theorem dX0_plan_101 : decode cX0_plan 101 = .ok (.aload_n 0, 1) := dk_42 (dk_at dksX0_plan_4 11 rfl rfl)
theorem dX0_plan_102 : decode cX0_plan 102 = .ok (.getfield 98, 3) := dk_180 0 98 (dk_at dksX0_plan_4 12 rfl rfl)
theorem dX0_plan_105 : decode cX0_plan 105 = .ok (.iload_n 1, 1) := dk_27 (dk_at dksX0_plan_4 15 rfl rfl)
theorem dX0_plan_106 : decode cX0_plan 106 = .ok (.iaload, 1) := dk_46 (dk_at dksX0_plan_4 16 rfl rfl)
theorem dX0_plan_107 : decode cX0_plan 107 = .ok (.ireturn, 1) := dk_172 (dk_at dksX0_plan_4 17 rfl rfl)
abbrev cX0_gathersTogether : ByteArray := prog_1_method_37_code
def yX0_gathersTogether : MethodName := ⟨RX0, "gathersTogether", "(I)Z"⟩
def dkwX0_gathersTogether_9 : List UInt8 := [132, 3, 1, 167, 255, 64, 28, 172]
abbrev dktX0_gathersTogether_9 : List UInt8 := dkwX0_gathersTogether_9 ++ []
def dkwX0_gathersTogether_8 : List UInt8 := [3, 126, 61, 42, 180, 0, 101, 42, 180, 1, 86, 21, 5, 79, 42, 89, 180, 1, 86, 4, 96, 181, 1, 86]
abbrev dktX0_gathersTogether_8 : List UInt8 := dkwX0_gathersTogether_8 ++ dktX0_gathersTogether_9
def dkwX0_gathersTogether_7 : List UInt8 := [28, 42, 21, 5, 21, 4, 42, 180, 0, 153, 180, 1, 6, 100, 182, 1, 89, 155, 0, 7, 4, 167, 0, 4]
abbrev dktX0_gathersTogether_7 : List UInt8 := dkwX0_gathersTogether_7 ++ dktX0_gathersTogether_8
def dkwX0_gathersTogether_6 : List UInt8 := [21, 7, 120, 167, 0, 4, 3, 128, 54, 5, 132, 7, 1, 167, 255, 172, 21, 6, 154, 0, 6, 167, 0, 51]
abbrev dktX0_gathersTogether_6 : List UInt8 := dkwX0_gathersTogether_6 ++ dktX0_gathersTogether_7
def dkwX0_gathersTogether_5 : List UInt8 := [21, 4, 160, 0, 7, 4, 167, 0, 4, 3, 128, 54, 6, 21, 5, 21, 8, 21, 4, 164, 0, 10, 4]
abbrev dktX0_gathersTogether_5 : List UInt8 := dkwX0_gathersTogether_5 ++ dktX0_gathersTogether_6
def dkwX0_gathersTogether_4 : List UInt8 := [180, 0, 153, 180, 0, 180, 42, 180, 0, 153, 180, 0, 200, 21, 7, 46, 46, 54, 8, 21, 6, 21, 8]
abbrev dktX0_gathersTogether_4 : List UInt8 := dkwX0_gathersTogether_4 ++ dktX0_gathersTogether_5
def dkwX0_gathersTogether_3 : List UInt8 := [180, 0, 153, 180, 0, 156, 162, 0, 78, 27, 21, 7, 184, 1, 38, 154, 0, 6, 167, 0, 60, 42]
abbrev dktX0_gathersTogether_3 : List UInt8 := dkwX0_gathersTogether_3 ++ dktX0_gathersTogether_4
def dkwX0_gathersTogether_2 : List UInt8 := [180, 0, 153, 180, 1, 6, 163, 0, 6, 167, 0, 155, 3, 54, 5, 3, 54, 6, 3, 54, 7, 21, 7, 42]
abbrev dktX0_gathersTogether_2 : List UInt8 := dkwX0_gathersTogether_2 ++ dktX0_gathersTogether_3
def dkwX0_gathersTogether_1 : List UInt8 := [180, 0, 153, 180, 0, 170, 162, 0, 187, 42, 180, 0, 153, 180, 0, 180, 29, 46, 54, 4, 21, 4, 42]
abbrev dktX0_gathersTogether_1 : List UInt8 := dkwX0_gathersTogether_1 ++ dktX0_gathersTogether_2
def dkwX0_gathersTogether_0 : List UInt8 := [42, 3, 181, 1, 86, 42, 27, 3, 182, 1, 89, 155, 0, 7, 4, 167, 0, 4, 3, 61, 3, 62, 29, 42]
abbrev dktX0_gathersTogether_0 : List UInt8 := dkwX0_gathersTogether_0 ++ dktX0_gathersTogether_1
theorem dksX0_gathersTogether_0 : cX0_gathersTogether.data.toList.drop 0 = dktX0_gathersTogether_0 := by decide +kernel
theorem dksX0_gathersTogether_1 : cX0_gathersTogether.data.toList.drop 24 = dktX0_gathersTogether_1 := dk_seg dksX0_gathersTogether_0 24 rfl rfl
theorem dksX0_gathersTogether_2 : cX0_gathersTogether.data.toList.drop 47 = dktX0_gathersTogether_2 := dk_seg dksX0_gathersTogether_1 23 rfl rfl
theorem dksX0_gathersTogether_3 : cX0_gathersTogether.data.toList.drop 71 = dktX0_gathersTogether_3 := dk_seg dksX0_gathersTogether_2 24 rfl rfl
theorem dksX0_gathersTogether_4 : cX0_gathersTogether.data.toList.drop 93 = dktX0_gathersTogether_4 := dk_seg dksX0_gathersTogether_3 22 rfl rfl
theorem dksX0_gathersTogether_5 : cX0_gathersTogether.data.toList.drop 116 = dktX0_gathersTogether_5 := dk_seg dksX0_gathersTogether_4 23 rfl rfl
theorem dksX0_gathersTogether_6 : cX0_gathersTogether.data.toList.drop 139 = dktX0_gathersTogether_6 := dk_seg dksX0_gathersTogether_5 23 rfl rfl
theorem dksX0_gathersTogether_7 : cX0_gathersTogether.data.toList.drop 163 = dktX0_gathersTogether_7 := dk_seg dksX0_gathersTogether_6 24 rfl rfl
theorem dksX0_gathersTogether_8 : cX0_gathersTogether.data.toList.drop 187 = dktX0_gathersTogether_8 := dk_seg dksX0_gathersTogether_7 24 rfl rfl
theorem dksX0_gathersTogether_9 : cX0_gathersTogether.data.toList.drop 211 = dktX0_gathersTogether_9 := dk_seg dksX0_gathersTogether_8 24 rfl rfl
theorem dX0_gathersTogether_0 : decode cX0_gathersTogether 0 = .ok (.aload_n 0, 1) := dk_42 (dk_at dksX0_gathersTogether_0 0 rfl rfl)
theorem dX0_gathersTogether_1 : decode cX0_gathersTogether 1 = .ok (.iconst 0, 1) := dk_3 (dk_at dksX0_gathersTogether_0 1 rfl rfl)
theorem dX0_gathersTogether_2 : decode cX0_gathersTogether 2 = .ok (.putfield 342, 3) := dk_181 1 86 (dk_at dksX0_gathersTogether_0 2 rfl rfl)
theorem dX0_gathersTogether_5 : decode cX0_gathersTogether 5 = .ok (.aload_n 0, 1) := dk_42 (dk_at dksX0_gathersTogether_0 5 rfl rfl)
theorem dX0_gathersTogether_6 : decode cX0_gathersTogether 6 = .ok (.iload_n 1, 1) := dk_27 (dk_at dksX0_gathersTogether_0 6 rfl rfl)
theorem dX0_gathersTogether_7 : decode cX0_gathersTogether 7 = .ok (.iconst 0, 1) := dk_3 (dk_at dksX0_gathersTogether_0 7 rfl rfl)
theorem dX0_gathersTogether_8 : decode cX0_gathersTogether 8 = .ok (.invokevirtual 345, 3) := dk_182 1 89 (dk_at dksX0_gathersTogether_0 8 rfl rfl)
theorem dX0_gathersTogether_11 : decode cX0_gathersTogether 11 = .ok (.ifCond .lt 7, 3) := dk_155 0 7 (dk_at dksX0_gathersTogether_0 11 rfl rfl)
theorem dX0_gathersTogether_14 : decode cX0_gathersTogether 14 = .ok (.iconst 1, 1) := dk_4 (dk_at dksX0_gathersTogether_0 14 rfl rfl)
theorem dX0_gathersTogether_15 : decode cX0_gathersTogether 15 = .ok (.goto 4, 3) := dk_167 0 4 (dk_at dksX0_gathersTogether_0 15 rfl rfl)
theorem dX0_gathersTogether_18 : decode cX0_gathersTogether 18 = .ok (.iconst 0, 1) := dk_3 (dk_at dksX0_gathersTogether_0 18 rfl rfl)
theorem dX0_gathersTogether_19 : decode cX0_gathersTogether 19 = .ok (.istore_n 2, 1) := dk_61 (dk_at dksX0_gathersTogether_0 19 rfl rfl)
theorem dX0_gathersTogether_20 : decode cX0_gathersTogether 20 = .ok (.iconst 0, 1) := dk_3 (dk_at dksX0_gathersTogether_0 20 rfl rfl)
theorem dX0_gathersTogether_21 : decode cX0_gathersTogether 21 = .ok (.istore_n 3, 1) := dk_62 (dk_at dksX0_gathersTogether_0 21 rfl rfl)
theorem dX0_gathersTogether_22 : decode cX0_gathersTogether 22 = .ok (.iload_n 3, 1) := dk_29 (dk_at dksX0_gathersTogether_0 22 rfl rfl)
theorem dX0_gathersTogether_23 : decode cX0_gathersTogether 23 = .ok (.aload_n 0, 1) := dk_42 (dk_at dksX0_gathersTogether_0 23 rfl rfl)
theorem dX0_gathersTogether_24 : decode cX0_gathersTogether 24 = .ok (.getfield 153, 3) := dk_180 0 153 (dk_at dksX0_gathersTogether_1 0 rfl rfl)
theorem dX0_gathersTogether_27 : decode cX0_gathersTogether 27 = .ok (.getfield 170, 3) := dk_180 0 170 (dk_at dksX0_gathersTogether_1 3 rfl rfl)
theorem dX0_gathersTogether_30 : decode cX0_gathersTogether 30 = .ok (.if_icmp .ge 187, 3) := dk_162 0 187 (dk_at dksX0_gathersTogether_1 6 rfl rfl)
theorem dX0_gathersTogether_33 : decode cX0_gathersTogether 33 = .ok (.aload_n 0, 1) := dk_42 (dk_at dksX0_gathersTogether_1 9 rfl rfl)
theorem dX0_gathersTogether_34 : decode cX0_gathersTogether 34 = .ok (.getfield 153, 3) := dk_180 0 153 (dk_at dksX0_gathersTogether_1 10 rfl rfl)
theorem dX0_gathersTogether_37 : decode cX0_gathersTogether 37 = .ok (.getfield 180, 3) := dk_180 0 180 (dk_at dksX0_gathersTogether_1 13 rfl rfl)
theorem dX0_gathersTogether_40 : decode cX0_gathersTogether 40 = .ok (.iload_n 3, 1) := dk_29 (dk_at dksX0_gathersTogether_1 16 rfl rfl)
theorem dX0_gathersTogether_41 : decode cX0_gathersTogether 41 = .ok (.iaload, 1) := dk_46 (dk_at dksX0_gathersTogether_1 17 rfl rfl)
theorem dX0_gathersTogether_42 : decode cX0_gathersTogether 42 = .ok (.istore 4, 2) := dk_54 4 (dk_at dksX0_gathersTogether_1 18 rfl rfl)
theorem dX0_gathersTogether_44 : decode cX0_gathersTogether 44 = .ok (.iload 4, 2) := dk_21 4 (dk_at dksX0_gathersTogether_1 20 rfl rfl)
theorem dX0_gathersTogether_46 : decode cX0_gathersTogether 46 = .ok (.aload_n 0, 1) := dk_42 (dk_at dksX0_gathersTogether_1 22 rfl rfl)
theorem dX0_gathersTogether_47 : decode cX0_gathersTogether 47 = .ok (.getfield 153, 3) := dk_180 0 153 (dk_at dksX0_gathersTogether_2 0 rfl rfl)
theorem dX0_gathersTogether_50 : decode cX0_gathersTogether 50 = .ok (.getfield 262, 3) := dk_180 1 6 (dk_at dksX0_gathersTogether_2 3 rfl rfl)
theorem dX0_gathersTogether_53 : decode cX0_gathersTogether 53 = .ok (.if_icmp .gt 6, 3) := dk_163 0 6 (dk_at dksX0_gathersTogether_2 6 rfl rfl)
theorem dX0_gathersTogether_56 : decode cX0_gathersTogether 56 = .ok (.goto 155, 3) := dk_167 0 155 (dk_at dksX0_gathersTogether_2 9 rfl rfl)
theorem dX0_gathersTogether_59 : decode cX0_gathersTogether 59 = .ok (.iconst 0, 1) := dk_3 (dk_at dksX0_gathersTogether_2 12 rfl rfl)
theorem dX0_gathersTogether_60 : decode cX0_gathersTogether 60 = .ok (.istore 5, 2) := dk_54 5 (dk_at dksX0_gathersTogether_2 13 rfl rfl)
theorem dX0_gathersTogether_62 : decode cX0_gathersTogether 62 = .ok (.iconst 0, 1) := dk_3 (dk_at dksX0_gathersTogether_2 15 rfl rfl)
theorem dX0_gathersTogether_63 : decode cX0_gathersTogether 63 = .ok (.istore 6, 2) := dk_54 6 (dk_at dksX0_gathersTogether_2 16 rfl rfl)
theorem dX0_gathersTogether_65 : decode cX0_gathersTogether 65 = .ok (.iconst 0, 1) := dk_3 (dk_at dksX0_gathersTogether_2 18 rfl rfl)
theorem dX0_gathersTogether_66 : decode cX0_gathersTogether 66 = .ok (.istore 7, 2) := dk_54 7 (dk_at dksX0_gathersTogether_2 19 rfl rfl)
theorem dX0_gathersTogether_68 : decode cX0_gathersTogether 68 = .ok (.iload 7, 2) := dk_21 7 (dk_at dksX0_gathersTogether_2 21 rfl rfl)
theorem dX0_gathersTogether_70 : decode cX0_gathersTogether 70 = .ok (.aload_n 0, 1) := dk_42 (dk_at dksX0_gathersTogether_2 23 rfl rfl)
theorem dX0_gathersTogether_71 : decode cX0_gathersTogether 71 = .ok (.getfield 153, 3) := dk_180 0 153 (dk_at dksX0_gathersTogether_3 0 rfl rfl)
theorem dX0_gathersTogether_74 : decode cX0_gathersTogether 74 = .ok (.getfield 156, 3) := dk_180 0 156 (dk_at dksX0_gathersTogether_3 3 rfl rfl)
theorem dX0_gathersTogether_77 : decode cX0_gathersTogether 77 = .ok (.if_icmp .ge 78, 3) := dk_162 0 78 (dk_at dksX0_gathersTogether_3 6 rfl rfl)
theorem dX0_gathersTogether_80 : decode cX0_gathersTogether 80 = .ok (.iload_n 1, 1) := dk_27 (dk_at dksX0_gathersTogether_3 9 rfl rfl)
theorem dX0_gathersTogether_81 : decode cX0_gathersTogether 81 = .ok (.iload 7, 2) := dk_21 7 (dk_at dksX0_gathersTogether_3 10 rfl rfl)
theorem dX0_gathersTogether_83 : decode cX0_gathersTogether 83 = .ok (.invokestatic 294, 3) := dk_184 1 38 (dk_at dksX0_gathersTogether_3 12 rfl rfl)
theorem dX0_gathersTogether_86 : decode cX0_gathersTogether 86 = .ok (.ifCond .ne 6, 3) := dk_154 0 6 (dk_at dksX0_gathersTogether_3 15 rfl rfl)
theorem dX0_gathersTogether_89 : decode cX0_gathersTogether 89 = .ok (.goto 60, 3) := dk_167 0 60 (dk_at dksX0_gathersTogether_3 18 rfl rfl)
theorem dX0_gathersTogether_92 : decode cX0_gathersTogether 92 = .ok (.aload_n 0, 1) := dk_42 (dk_at dksX0_gathersTogether_3 21 rfl rfl)
theorem dX0_gathersTogether_93 : decode cX0_gathersTogether 93 = .ok (.getfield 153, 3) := dk_180 0 153 (dk_at dksX0_gathersTogether_4 0 rfl rfl)
theorem dX0_gathersTogether_96 : decode cX0_gathersTogether 96 = .ok (.getfield 180, 3) := dk_180 0 180 (dk_at dksX0_gathersTogether_4 3 rfl rfl)
theorem dX0_gathersTogether_99 : decode cX0_gathersTogether 99 = .ok (.aload_n 0, 1) := dk_42 (dk_at dksX0_gathersTogether_4 6 rfl rfl)
theorem dX0_gathersTogether_100 : decode cX0_gathersTogether 100 = .ok (.getfield 153, 3) := dk_180 0 153 (dk_at dksX0_gathersTogether_4 7 rfl rfl)
theorem dX0_gathersTogether_103 : decode cX0_gathersTogether 103 = .ok (.getfield 200, 3) := dk_180 0 200 (dk_at dksX0_gathersTogether_4 10 rfl rfl)
theorem dX0_gathersTogether_106 : decode cX0_gathersTogether 106 = .ok (.iload 7, 2) := dk_21 7 (dk_at dksX0_gathersTogether_4 13 rfl rfl)
theorem dX0_gathersTogether_108 : decode cX0_gathersTogether 108 = .ok (.iaload, 1) := dk_46 (dk_at dksX0_gathersTogether_4 15 rfl rfl)
theorem dX0_gathersTogether_109 : decode cX0_gathersTogether 109 = .ok (.iaload, 1) := dk_46 (dk_at dksX0_gathersTogether_4 16 rfl rfl)
theorem dX0_gathersTogether_110 : decode cX0_gathersTogether 110 = .ok (.istore 8, 2) := dk_54 8 (dk_at dksX0_gathersTogether_4 17 rfl rfl)
theorem dX0_gathersTogether_112 : decode cX0_gathersTogether 112 = .ok (.iload 6, 2) := dk_21 6 (dk_at dksX0_gathersTogether_4 19 rfl rfl)
theorem dX0_gathersTogether_114 : decode cX0_gathersTogether 114 = .ok (.iload 8, 2) := dk_21 8 (dk_at dksX0_gathersTogether_4 21 rfl rfl)
theorem dX0_gathersTogether_116 : decode cX0_gathersTogether 116 = .ok (.iload 4, 2) := dk_21 4 (dk_at dksX0_gathersTogether_5 0 rfl rfl)
theorem dX0_gathersTogether_118 : decode cX0_gathersTogether 118 = .ok (.if_icmp .ne 7, 3) := dk_160 0 7 (dk_at dksX0_gathersTogether_5 2 rfl rfl)
theorem dX0_gathersTogether_121 : decode cX0_gathersTogether 121 = .ok (.iconst 1, 1) := dk_4 (dk_at dksX0_gathersTogether_5 5 rfl rfl)
theorem dX0_gathersTogether_122 : decode cX0_gathersTogether 122 = .ok (.goto 4, 3) := dk_167 0 4 (dk_at dksX0_gathersTogether_5 6 rfl rfl)
theorem dX0_gathersTogether_125 : decode cX0_gathersTogether 125 = .ok (.iconst 0, 1) := dk_3 (dk_at dksX0_gathersTogether_5 9 rfl rfl)
theorem dX0_gathersTogether_126 : decode cX0_gathersTogether 126 = .ok (.ior, 1) := dk_128 (dk_at dksX0_gathersTogether_5 10 rfl rfl)
theorem dX0_gathersTogether_127 : decode cX0_gathersTogether 127 = .ok (.istore 6, 2) := dk_54 6 (dk_at dksX0_gathersTogether_5 11 rfl rfl)
theorem dX0_gathersTogether_129 : decode cX0_gathersTogether 129 = .ok (.iload 5, 2) := dk_21 5 (dk_at dksX0_gathersTogether_5 13 rfl rfl)
theorem dX0_gathersTogether_131 : decode cX0_gathersTogether 131 = .ok (.iload 8, 2) := dk_21 8 (dk_at dksX0_gathersTogether_5 15 rfl rfl)
theorem dX0_gathersTogether_133 : decode cX0_gathersTogether 133 = .ok (.iload 4, 2) := dk_21 4 (dk_at dksX0_gathersTogether_5 17 rfl rfl)
theorem dX0_gathersTogether_135 : decode cX0_gathersTogether 135 = .ok (.if_icmp .le 10, 3) := dk_164 0 10 (dk_at dksX0_gathersTogether_5 19 rfl rfl)
theorem dX0_gathersTogether_138 : decode cX0_gathersTogether 138 = .ok (.iconst 1, 1) := dk_4 (dk_at dksX0_gathersTogether_5 22 rfl rfl)
theorem dX0_gathersTogether_139 : decode cX0_gathersTogether 139 = .ok (.iload 7, 2) := dk_21 7 (dk_at dksX0_gathersTogether_6 0 rfl rfl)
theorem dX0_gathersTogether_141 : decode cX0_gathersTogether 141 = .ok (.ishl, 1) := dk_120 (dk_at dksX0_gathersTogether_6 2 rfl rfl)
theorem dX0_gathersTogether_142 : decode cX0_gathersTogether 142 = .ok (.goto 4, 3) := dk_167 0 4 (dk_at dksX0_gathersTogether_6 3 rfl rfl)
theorem dX0_gathersTogether_145 : decode cX0_gathersTogether 145 = .ok (.iconst 0, 1) := dk_3 (dk_at dksX0_gathersTogether_6 6 rfl rfl)
theorem dX0_gathersTogether_146 : decode cX0_gathersTogether 146 = .ok (.ior, 1) := dk_128 (dk_at dksX0_gathersTogether_6 7 rfl rfl)
theorem dX0_gathersTogether_147 : decode cX0_gathersTogether 147 = .ok (.istore 5, 2) := dk_54 5 (dk_at dksX0_gathersTogether_6 8 rfl rfl)
theorem dX0_gathersTogether_149 : decode cX0_gathersTogether 149 = .ok (.iinc 7 1, 3) := dk_132 7 1 (dk_at dksX0_gathersTogether_6 10 rfl rfl)
theorem dX0_gathersTogether_152 : decode cX0_gathersTogether 152 = .ok (.goto (-84), 3) := dk_167 255 172 (dk_at dksX0_gathersTogether_6 13 rfl rfl)
theorem dX0_gathersTogether_155 : decode cX0_gathersTogether 155 = .ok (.iload 6, 2) := dk_21 6 (dk_at dksX0_gathersTogether_6 16 rfl rfl)
theorem dX0_gathersTogether_157 : decode cX0_gathersTogether 157 = .ok (.ifCond .ne 6, 3) := dk_154 0 6 (dk_at dksX0_gathersTogether_6 18 rfl rfl)
theorem dX0_gathersTogether_160 : decode cX0_gathersTogether 160 = .ok (.goto 51, 3) := dk_167 0 51 (dk_at dksX0_gathersTogether_6 21 rfl rfl)
theorem dX0_gathersTogether_163 : decode cX0_gathersTogether 163 = .ok (.iload_n 2, 1) := dk_28 (dk_at dksX0_gathersTogether_7 0 rfl rfl)
theorem dX0_gathersTogether_164 : decode cX0_gathersTogether 164 = .ok (.aload_n 0, 1) := dk_42 (dk_at dksX0_gathersTogether_7 1 rfl rfl)
theorem dX0_gathersTogether_165 : decode cX0_gathersTogether 165 = .ok (.iload 5, 2) := dk_21 5 (dk_at dksX0_gathersTogether_7 2 rfl rfl)
theorem dX0_gathersTogether_167 : decode cX0_gathersTogether 167 = .ok (.iload 4, 2) := dk_21 4 (dk_at dksX0_gathersTogether_7 4 rfl rfl)
theorem dX0_gathersTogether_169 : decode cX0_gathersTogether 169 = .ok (.aload_n 0, 1) := dk_42 (dk_at dksX0_gathersTogether_7 6 rfl rfl)
theorem dX0_gathersTogether_170 : decode cX0_gathersTogether 170 = .ok (.getfield 153, 3) := dk_180 0 153 (dk_at dksX0_gathersTogether_7 7 rfl rfl)
theorem dX0_gathersTogether_173 : decode cX0_gathersTogether 173 = .ok (.getfield 262, 3) := dk_180 1 6 (dk_at dksX0_gathersTogether_7 10 rfl rfl)
theorem dX0_gathersTogether_176 : decode cX0_gathersTogether 176 = .ok (.isub, 1) := dk_100 (dk_at dksX0_gathersTogether_7 13 rfl rfl)
theorem dX0_gathersTogether_177 : decode cX0_gathersTogether 177 = .ok (.invokevirtual 345, 3) := dk_182 1 89 (dk_at dksX0_gathersTogether_7 14 rfl rfl)
theorem dX0_gathersTogether_180 : decode cX0_gathersTogether 180 = .ok (.ifCond .lt 7, 3) := dk_155 0 7 (dk_at dksX0_gathersTogether_7 17 rfl rfl)
theorem dX0_gathersTogether_183 : decode cX0_gathersTogether 183 = .ok (.iconst 1, 1) := dk_4 (dk_at dksX0_gathersTogether_7 20 rfl rfl)
theorem dX0_gathersTogether_184 : decode cX0_gathersTogether 184 = .ok (.goto 4, 3) := dk_167 0 4 (dk_at dksX0_gathersTogether_7 21 rfl rfl)
theorem dX0_gathersTogether_187 : decode cX0_gathersTogether 187 = .ok (.iconst 0, 1) := dk_3 (dk_at dksX0_gathersTogether_8 0 rfl rfl)
theorem dX0_gathersTogether_188 : decode cX0_gathersTogether 188 = .ok (.iand, 1) := dk_126 (dk_at dksX0_gathersTogether_8 1 rfl rfl)
theorem dX0_gathersTogether_189 : decode cX0_gathersTogether 189 = .ok (.istore_n 2, 1) := dk_61 (dk_at dksX0_gathersTogether_8 2 rfl rfl)
theorem dX0_gathersTogether_190 : decode cX0_gathersTogether 190 = .ok (.aload_n 0, 1) := dk_42 (dk_at dksX0_gathersTogether_8 3 rfl rfl)
theorem dX0_gathersTogether_191 : decode cX0_gathersTogether 191 = .ok (.getfield 101, 3) := dk_180 0 101 (dk_at dksX0_gathersTogether_8 4 rfl rfl)
theorem dX0_gathersTogether_194 : decode cX0_gathersTogether 194 = .ok (.aload_n 0, 1) := dk_42 (dk_at dksX0_gathersTogether_8 7 rfl rfl)
theorem dX0_gathersTogether_195 : decode cX0_gathersTogether 195 = .ok (.getfield 342, 3) := dk_180 1 86 (dk_at dksX0_gathersTogether_8 8 rfl rfl)
theorem dX0_gathersTogether_198 : decode cX0_gathersTogether 198 = .ok (.iload 5, 2) := dk_21 5 (dk_at dksX0_gathersTogether_8 11 rfl rfl)
theorem dX0_gathersTogether_200 : decode cX0_gathersTogether 200 = .ok (.iastore, 1) := dk_79 (dk_at dksX0_gathersTogether_8 13 rfl rfl)
theorem dX0_gathersTogether_201 : decode cX0_gathersTogether 201 = .ok (.aload_n 0, 1) := dk_42 (dk_at dksX0_gathersTogether_8 14 rfl rfl)
theorem dX0_gathersTogether_202 : decode cX0_gathersTogether 202 = .ok (.dup, 1) := dk_89 (dk_at dksX0_gathersTogether_8 15 rfl rfl)
theorem dX0_gathersTogether_203 : decode cX0_gathersTogether 203 = .ok (.getfield 342, 3) := dk_180 1 86 (dk_at dksX0_gathersTogether_8 16 rfl rfl)
theorem dX0_gathersTogether_206 : decode cX0_gathersTogether 206 = .ok (.iconst 1, 1) := dk_4 (dk_at dksX0_gathersTogether_8 19 rfl rfl)
theorem dX0_gathersTogether_207 : decode cX0_gathersTogether 207 = .ok (.iadd, 1) := dk_96 (dk_at dksX0_gathersTogether_8 20 rfl rfl)
theorem dX0_gathersTogether_208 : decode cX0_gathersTogether 208 = .ok (.putfield 342, 3) := dk_181 1 86 (dk_at dksX0_gathersTogether_8 21 rfl rfl)
theorem dX0_gathersTogether_211 : decode cX0_gathersTogether 211 = .ok (.iinc 3 1, 3) := dk_132 3 1 (dk_at dksX0_gathersTogether_9 0 rfl rfl)
theorem dX0_gathersTogether_214 : decode cX0_gathersTogether 214 = .ok (.goto (-192), 3) := dk_167 255 64 (dk_at dksX0_gathersTogether_9 3 rfl rfl)
theorem dX0_gathersTogether_217 : decode cX0_gathersTogether 217 = .ok (.iload_n 2, 1) := dk_28 (dk_at dksX0_gathersTogether_9 6 rfl rfl)
theorem dX0_gathersTogether_218 : decode cX0_gathersTogether 218 = .ok (.ireturn, 1) := dk_172 (dk_at dksX0_gathersTogether_9 7 rfl rfl)
abbrev cX0_bearsThen : ByteArray := prog_1_method_36_code
def yX0_bearsThen : MethodName := ⟨RX0, "bearsThen", "(II)I"⟩
def dkwX0_bearsThen_3 : List UInt8 := [132, 4, 1, 167, 255, 187, 29, 172]
abbrev dktX0_bearsThen_3 : List UInt8 := dkwX0_bearsThen_3 ++ []
def dkwX0_bearsThen_2 : List UInt8 := [46, 104, 100, 184, 1, 83, 42, 180, 0, 153, 180, 0, 202, 21, 4, 46, 100, 167, 0, 4, 3, 96, 62]
abbrev dktX0_bearsThen_2 : List UInt8 := dkwX0_bearsThen_2 ++ dktX0_bearsThen_3
def dkwX0_bearsThen_1 : List UInt8 := [153, 0, 44, 3, 42, 180, 0, 153, 180, 0, 204, 21, 4, 46, 28, 42, 180, 0, 153, 180, 0, 207, 21, 4]
abbrev dktX0_bearsThen_1 : List UInt8 := dkwX0_bearsThen_1 ++ dktX0_bearsThen_2
def dkwX0_bearsThen_0 : List UInt8 := [3, 62, 3, 54, 4, 21, 4, 42, 180, 0, 153, 180, 0, 156, 162, 0, 63, 29, 27, 21, 4, 184, 1, 38]
abbrev dktX0_bearsThen_0 : List UInt8 := dkwX0_bearsThen_0 ++ dktX0_bearsThen_1
theorem dksX0_bearsThen_0 : cX0_bearsThen.data.toList.drop 0 = dktX0_bearsThen_0 := by decide +kernel
theorem dksX0_bearsThen_1 : cX0_bearsThen.data.toList.drop 24 = dktX0_bearsThen_1 := dk_seg dksX0_bearsThen_0 24 rfl rfl
theorem dksX0_bearsThen_2 : cX0_bearsThen.data.toList.drop 48 = dktX0_bearsThen_2 := dk_seg dksX0_bearsThen_1 24 rfl rfl
theorem dksX0_bearsThen_3 : cX0_bearsThen.data.toList.drop 71 = dktX0_bearsThen_3 := dk_seg dksX0_bearsThen_2 23 rfl rfl
theorem dX0_bearsThen_0 : decode cX0_bearsThen 0 = .ok (.iconst 0, 1) := dk_3 (dk_at dksX0_bearsThen_0 0 rfl rfl)
theorem dX0_bearsThen_1 : decode cX0_bearsThen 1 = .ok (.istore_n 3, 1) := dk_62 (dk_at dksX0_bearsThen_0 1 rfl rfl)
theorem dX0_bearsThen_2 : decode cX0_bearsThen 2 = .ok (.iconst 0, 1) := dk_3 (dk_at dksX0_bearsThen_0 2 rfl rfl)
theorem dX0_bearsThen_3 : decode cX0_bearsThen 3 = .ok (.istore 4, 2) := dk_54 4 (dk_at dksX0_bearsThen_0 3 rfl rfl)
theorem dX0_bearsThen_5 : decode cX0_bearsThen 5 = .ok (.iload 4, 2) := dk_21 4 (dk_at dksX0_bearsThen_0 5 rfl rfl)
theorem dX0_bearsThen_7 : decode cX0_bearsThen 7 = .ok (.aload_n 0, 1) := dk_42 (dk_at dksX0_bearsThen_0 7 rfl rfl)
theorem dX0_bearsThen_8 : decode cX0_bearsThen 8 = .ok (.getfield 153, 3) := dk_180 0 153 (dk_at dksX0_bearsThen_0 8 rfl rfl)
theorem dX0_bearsThen_11 : decode cX0_bearsThen 11 = .ok (.getfield 156, 3) := dk_180 0 156 (dk_at dksX0_bearsThen_0 11 rfl rfl)
theorem dX0_bearsThen_14 : decode cX0_bearsThen 14 = .ok (.if_icmp .ge 63, 3) := dk_162 0 63 (dk_at dksX0_bearsThen_0 14 rfl rfl)
theorem dX0_bearsThen_17 : decode cX0_bearsThen 17 = .ok (.iload_n 3, 1) := dk_29 (dk_at dksX0_bearsThen_0 17 rfl rfl)
theorem dX0_bearsThen_18 : decode cX0_bearsThen 18 = .ok (.iload_n 1, 1) := dk_27 (dk_at dksX0_bearsThen_0 18 rfl rfl)
theorem dX0_bearsThen_19 : decode cX0_bearsThen 19 = .ok (.iload 4, 2) := dk_21 4 (dk_at dksX0_bearsThen_0 19 rfl rfl)
theorem dX0_bearsThen_21 : decode cX0_bearsThen 21 = .ok (.invokestatic 294, 3) := dk_184 1 38 (dk_at dksX0_bearsThen_0 21 rfl rfl)
theorem dX0_bearsThen_24 : decode cX0_bearsThen 24 = .ok (.ifCond .eq 44, 3) := dk_153 0 44 (dk_at dksX0_bearsThen_1 0 rfl rfl)
theorem dX0_bearsThen_27 : decode cX0_bearsThen 27 = .ok (.iconst 0, 1) := dk_3 (dk_at dksX0_bearsThen_1 3 rfl rfl)
theorem dX0_bearsThen_28 : decode cX0_bearsThen 28 = .ok (.aload_n 0, 1) := dk_42 (dk_at dksX0_bearsThen_1 4 rfl rfl)
theorem dX0_bearsThen_29 : decode cX0_bearsThen 29 = .ok (.getfield 153, 3) := dk_180 0 153 (dk_at dksX0_bearsThen_1 5 rfl rfl)
theorem dX0_bearsThen_32 : decode cX0_bearsThen 32 = .ok (.getfield 204, 3) := dk_180 0 204 (dk_at dksX0_bearsThen_1 8 rfl rfl)
theorem dX0_bearsThen_35 : decode cX0_bearsThen 35 = .ok (.iload 4, 2) := dk_21 4 (dk_at dksX0_bearsThen_1 11 rfl rfl)
theorem dX0_bearsThen_37 : decode cX0_bearsThen 37 = .ok (.iaload, 1) := dk_46 (dk_at dksX0_bearsThen_1 13 rfl rfl)
theorem dX0_bearsThen_38 : decode cX0_bearsThen 38 = .ok (.iload_n 2, 1) := dk_28 (dk_at dksX0_bearsThen_1 14 rfl rfl)
theorem dX0_bearsThen_39 : decode cX0_bearsThen 39 = .ok (.aload_n 0, 1) := dk_42 (dk_at dksX0_bearsThen_1 15 rfl rfl)
theorem dX0_bearsThen_40 : decode cX0_bearsThen 40 = .ok (.getfield 153, 3) := dk_180 0 153 (dk_at dksX0_bearsThen_1 16 rfl rfl)
theorem dX0_bearsThen_43 : decode cX0_bearsThen 43 = .ok (.getfield 207, 3) := dk_180 0 207 (dk_at dksX0_bearsThen_1 19 rfl rfl)
theorem dX0_bearsThen_46 : decode cX0_bearsThen 46 = .ok (.iload 4, 2) := dk_21 4 (dk_at dksX0_bearsThen_1 22 rfl rfl)
theorem dX0_bearsThen_48 : decode cX0_bearsThen 48 = .ok (.iaload, 1) := dk_46 (dk_at dksX0_bearsThen_2 0 rfl rfl)
theorem dX0_bearsThen_49 : decode cX0_bearsThen 49 = .ok (.imul, 1) := dk_104 (dk_at dksX0_bearsThen_2 1 rfl rfl)
theorem dX0_bearsThen_50 : decode cX0_bearsThen 50 = .ok (.isub, 1) := dk_100 (dk_at dksX0_bearsThen_2 2 rfl rfl)
theorem dX0_bearsThen_51 : decode cX0_bearsThen 51 = .ok (.invokestatic 339, 3) := dk_184 1 83 (dk_at dksX0_bearsThen_2 3 rfl rfl)
theorem dX0_bearsThen_54 : decode cX0_bearsThen 54 = .ok (.aload_n 0, 1) := dk_42 (dk_at dksX0_bearsThen_2 6 rfl rfl)
theorem dX0_bearsThen_55 : decode cX0_bearsThen 55 = .ok (.getfield 153, 3) := dk_180 0 153 (dk_at dksX0_bearsThen_2 7 rfl rfl)
theorem dX0_bearsThen_58 : decode cX0_bearsThen 58 = .ok (.getfield 202, 3) := dk_180 0 202 (dk_at dksX0_bearsThen_2 10 rfl rfl)
theorem dX0_bearsThen_61 : decode cX0_bearsThen 61 = .ok (.iload 4, 2) := dk_21 4 (dk_at dksX0_bearsThen_2 13 rfl rfl)
theorem dX0_bearsThen_63 : decode cX0_bearsThen 63 = .ok (.iaload, 1) := dk_46 (dk_at dksX0_bearsThen_2 15 rfl rfl)
theorem dX0_bearsThen_64 : decode cX0_bearsThen 64 = .ok (.isub, 1) := dk_100 (dk_at dksX0_bearsThen_2 16 rfl rfl)
theorem dX0_bearsThen_65 : decode cX0_bearsThen 65 = .ok (.goto 4, 3) := dk_167 0 4 (dk_at dksX0_bearsThen_2 17 rfl rfl)
theorem dX0_bearsThen_68 : decode cX0_bearsThen 68 = .ok (.iconst 0, 1) := dk_3 (dk_at dksX0_bearsThen_2 20 rfl rfl)
theorem dX0_bearsThen_69 : decode cX0_bearsThen 69 = .ok (.iadd, 1) := dk_96 (dk_at dksX0_bearsThen_2 21 rfl rfl)
theorem dX0_bearsThen_70 : decode cX0_bearsThen 70 = .ok (.istore_n 3, 1) := dk_62 (dk_at dksX0_bearsThen_2 22 rfl rfl)
theorem dX0_bearsThen_71 : decode cX0_bearsThen 71 = .ok (.iinc 4 1, 3) := dk_132 4 1 (dk_at dksX0_bearsThen_3 0 rfl rfl)
theorem dX0_bearsThen_74 : decode cX0_bearsThen 74 = .ok (.goto (-69), 3) := dk_167 255 187 (dk_at dksX0_bearsThen_3 3 rfl rfl)
theorem dX0_bearsThen_77 : decode cX0_bearsThen 77 = .ok (.iload_n 3, 1) := dk_29 (dk_at dksX0_bearsThen_3 6 rfl rfl)
theorem dX0_bearsThen_78 : decode cX0_bearsThen 78 = .ok (.ireturn, 1) := dk_172 (dk_at dksX0_bearsThen_3 7 rfl rfl)
abbrev cX0_triesRows : ByteArray := prog_1_method_39_code
def yX0_triesRows : MethodName := ⟨RX0, "triesRows", "(II)V"⟩
def dkwX0_triesRows_4 : List UInt8 := [27, 29, 79, 42, 27, 4, 96, 28, 4, 29, 120, 2, 130, 126, 182, 1, 101, 132, 3, 1, 167, 255, 210, 177]
abbrev dktX0_triesRows_4 : List UInt8 := dkwX0_triesRows_4 ++ []
def dkwX0_triesRows_3 : List UInt8 := [180, 0, 153, 180, 0, 156, 162, 0, 41, 28, 29, 184, 1, 38, 154, 0, 6, 167, 0, 24, 42, 180, 0, 94]
abbrev dktX0_triesRows_3 : List UInt8 := dkwX0_triesRows_3 ++ dktX0_triesRows_4
def dkwX0_triesRows_2 : List UInt8 := [180, 0, 98, 3, 16, 7, 184, 0, 250, 42, 89, 180, 1, 98, 4, 96, 181, 1, 98, 177, 3, 62, 29, 42]
abbrev dktX0_triesRows_2 : List UInt8 := dkwX0_triesRows_2 ++ dktX0_triesRows_3
def dkwX0_triesRows_1 : List UInt8 := [154, 0, 4, 177, 132, 3, 1, 167, 255, 231, 42, 180, 1, 98, 154, 0, 18, 42, 180, 0, 94, 3, 42]
abbrev dktX0_triesRows_1 : List UInt8 := dkwX0_triesRows_1 ++ dktX0_triesRows_2
def dkwX0_triesRows_0 : List UInt8 := [28, 154, 0, 66, 3, 62, 29, 42, 180, 1, 86, 162, 0, 23, 42, 42, 180, 0, 101, 29, 46, 182, 1, 95]
abbrev dktX0_triesRows_0 : List UInt8 := dkwX0_triesRows_0 ++ dktX0_triesRows_1
theorem dksX0_triesRows_0 : cX0_triesRows.data.toList.drop 0 = dktX0_triesRows_0 := by decide +kernel
theorem dksX0_triesRows_1 : cX0_triesRows.data.toList.drop 24 = dktX0_triesRows_1 := dk_seg dksX0_triesRows_0 24 rfl rfl
theorem dksX0_triesRows_2 : cX0_triesRows.data.toList.drop 47 = dktX0_triesRows_2 := dk_seg dksX0_triesRows_1 23 rfl rfl
theorem dksX0_triesRows_3 : cX0_triesRows.data.toList.drop 71 = dktX0_triesRows_3 := dk_seg dksX0_triesRows_2 24 rfl rfl
theorem dksX0_triesRows_4 : cX0_triesRows.data.toList.drop 95 = dktX0_triesRows_4 := dk_seg dksX0_triesRows_3 24 rfl rfl
theorem dX0_triesRows_0 : decode cX0_triesRows 0 = .ok (.iload_n 2, 1) := dk_28 (dk_at dksX0_triesRows_0 0 rfl rfl)
theorem dX0_triesRows_1 : decode cX0_triesRows 1 = .ok (.ifCond .ne 66, 3) := dk_154 0 66 (dk_at dksX0_triesRows_0 1 rfl rfl)
theorem dX0_triesRows_4 : decode cX0_triesRows 4 = .ok (.iconst 0, 1) := dk_3 (dk_at dksX0_triesRows_0 4 rfl rfl)
theorem dX0_triesRows_5 : decode cX0_triesRows 5 = .ok (.istore_n 3, 1) := dk_62 (dk_at dksX0_triesRows_0 5 rfl rfl)
theorem dX0_triesRows_6 : decode cX0_triesRows 6 = .ok (.iload_n 3, 1) := dk_29 (dk_at dksX0_triesRows_0 6 rfl rfl)
theorem dX0_triesRows_7 : decode cX0_triesRows 7 = .ok (.aload_n 0, 1) := dk_42 (dk_at dksX0_triesRows_0 7 rfl rfl)
theorem dX0_triesRows_8 : decode cX0_triesRows 8 = .ok (.getfield 342, 3) := dk_180 1 86 (dk_at dksX0_triesRows_0 8 rfl rfl)
theorem dX0_triesRows_11 : decode cX0_triesRows 11 = .ok (.if_icmp .ge 23, 3) := dk_162 0 23 (dk_at dksX0_triesRows_0 11 rfl rfl)
theorem dX0_triesRows_14 : decode cX0_triesRows 14 = .ok (.aload_n 0, 1) := dk_42 (dk_at dksX0_triesRows_0 14 rfl rfl)
theorem dX0_triesRows_15 : decode cX0_triesRows 15 = .ok (.aload_n 0, 1) := dk_42 (dk_at dksX0_triesRows_0 15 rfl rfl)
theorem dX0_triesRows_16 : decode cX0_triesRows 16 = .ok (.getfield 101, 3) := dk_180 0 101 (dk_at dksX0_triesRows_0 16 rfl rfl)
theorem dX0_triesRows_19 : decode cX0_triesRows 19 = .ok (.iload_n 3, 1) := dk_29 (dk_at dksX0_triesRows_0 19 rfl rfl)
theorem dX0_triesRows_20 : decode cX0_triesRows 20 = .ok (.iaload, 1) := dk_46 (dk_at dksX0_triesRows_0 20 rfl rfl)
theorem dX0_triesRows_21 : decode cX0_triesRows 21 = .ok (.invokevirtual 351, 3) := dk_182 1 95 (dk_at dksX0_triesRows_0 21 rfl rfl)
theorem dX0_triesRows_24 : decode cX0_triesRows 24 = .ok (.ifCond .ne 4, 3) := dk_154 0 4 (dk_at dksX0_triesRows_1 0 rfl rfl)
theorem dX0_triesRows_27 : decode cX0_triesRows 27 = .ok (.return_, 1) := dk_177 (dk_at dksX0_triesRows_1 3 rfl rfl)
theorem dX0_triesRows_28 : decode cX0_triesRows 28 = .ok (.iinc 3 1, 3) := dk_132 3 1 (dk_at dksX0_triesRows_1 4 rfl rfl)
theorem dX0_triesRows_31 : decode cX0_triesRows 31 = .ok (.goto (-25), 3) := dk_167 255 231 (dk_at dksX0_triesRows_1 7 rfl rfl)
theorem dX0_triesRows_34 : decode cX0_triesRows 34 = .ok (.aload_n 0, 1) := dk_42 (dk_at dksX0_triesRows_1 10 rfl rfl)
theorem dX0_triesRows_35 : decode cX0_triesRows 35 = .ok (.getfield 354, 3) := dk_180 1 98 (dk_at dksX0_triesRows_1 11 rfl rfl)
theorem dX0_triesRows_38 : decode cX0_triesRows 38 = .ok (.ifCond .ne 18, 3) := dk_154 0 18 (dk_at dksX0_triesRows_1 14 rfl rfl)
theorem dX0_triesRows_41 : decode cX0_triesRows 41 = .ok (.aload_n 0, 1) := dk_42 (dk_at dksX0_triesRows_1 17 rfl rfl)
theorem dX0_triesRows_42 : decode cX0_triesRows 42 = .ok (.getfield 94, 3) := dk_180 0 94 (dk_at dksX0_triesRows_1 18 rfl rfl)
theorem dX0_triesRows_45 : decode cX0_triesRows 45 = .ok (.iconst 0, 1) := dk_3 (dk_at dksX0_triesRows_1 21 rfl rfl)
theorem dX0_triesRows_46 : decode cX0_triesRows 46 = .ok (.aload_n 0, 1) := dk_42 (dk_at dksX0_triesRows_1 22 rfl rfl)
theorem dX0_triesRows_47 : decode cX0_triesRows 47 = .ok (.getfield 98, 3) := dk_180 0 98 (dk_at dksX0_triesRows_2 0 rfl rfl)
theorem dX0_triesRows_50 : decode cX0_triesRows 50 = .ok (.iconst 0, 1) := dk_3 (dk_at dksX0_triesRows_2 3 rfl rfl)
theorem dX0_triesRows_51 : decode cX0_triesRows 51 = .ok (.bipush 7, 2) := dk_16 7 (dk_at dksX0_triesRows_2 4 rfl rfl)
theorem dX0_triesRows_53 : decode cX0_triesRows 53 = .ok (.invokestatic 250, 3) := dk_184 0 250 (dk_at dksX0_triesRows_2 6 rfl rfl)
theorem dX0_triesRows_56 : decode cX0_triesRows 56 = .ok (.aload_n 0, 1) := dk_42 (dk_at dksX0_triesRows_2 9 rfl rfl)
theorem dX0_triesRows_57 : decode cX0_triesRows 57 = .ok (.dup, 1) := dk_89 (dk_at dksX0_triesRows_2 10 rfl rfl)
theorem dX0_triesRows_58 : decode cX0_triesRows 58 = .ok (.getfield 354, 3) := dk_180 1 98 (dk_at dksX0_triesRows_2 11 rfl rfl)
theorem dX0_triesRows_61 : decode cX0_triesRows 61 = .ok (.iconst 1, 1) := dk_4 (dk_at dksX0_triesRows_2 14 rfl rfl)
theorem dX0_triesRows_62 : decode cX0_triesRows 62 = .ok (.iadd, 1) := dk_96 (dk_at dksX0_triesRows_2 15 rfl rfl)
theorem dX0_triesRows_63 : decode cX0_triesRows 63 = .ok (.putfield 354, 3) := dk_181 1 98 (dk_at dksX0_triesRows_2 16 rfl rfl)
theorem dX0_triesRows_66 : decode cX0_triesRows 66 = .ok (.return_, 1) := dk_177 (dk_at dksX0_triesRows_2 19 rfl rfl)
theorem dX0_triesRows_67 : decode cX0_triesRows 67 = .ok (.iconst 0, 1) := dk_3 (dk_at dksX0_triesRows_2 20 rfl rfl)
theorem dX0_triesRows_68 : decode cX0_triesRows 68 = .ok (.istore_n 3, 1) := dk_62 (dk_at dksX0_triesRows_2 21 rfl rfl)
theorem dX0_triesRows_69 : decode cX0_triesRows 69 = .ok (.iload_n 3, 1) := dk_29 (dk_at dksX0_triesRows_2 22 rfl rfl)
theorem dX0_triesRows_70 : decode cX0_triesRows 70 = .ok (.aload_n 0, 1) := dk_42 (dk_at dksX0_triesRows_2 23 rfl rfl)
theorem dX0_triesRows_71 : decode cX0_triesRows 71 = .ok (.getfield 153, 3) := dk_180 0 153 (dk_at dksX0_triesRows_3 0 rfl rfl)
theorem dX0_triesRows_74 : decode cX0_triesRows 74 = .ok (.getfield 156, 3) := dk_180 0 156 (dk_at dksX0_triesRows_3 3 rfl rfl)
theorem dX0_triesRows_77 : decode cX0_triesRows 77 = .ok (.if_icmp .ge 41, 3) := dk_162 0 41 (dk_at dksX0_triesRows_3 6 rfl rfl)
theorem dX0_triesRows_80 : decode cX0_triesRows 80 = .ok (.iload_n 2, 1) := dk_28 (dk_at dksX0_triesRows_3 9 rfl rfl)
theorem dX0_triesRows_81 : decode cX0_triesRows 81 = .ok (.iload_n 3, 1) := dk_29 (dk_at dksX0_triesRows_3 10 rfl rfl)
theorem dX0_triesRows_82 : decode cX0_triesRows 82 = .ok (.invokestatic 294, 3) := dk_184 1 38 (dk_at dksX0_triesRows_3 11 rfl rfl)
theorem dX0_triesRows_85 : decode cX0_triesRows 85 = .ok (.ifCond .ne 6, 3) := dk_154 0 6 (dk_at dksX0_triesRows_3 14 rfl rfl)
theorem dX0_triesRows_88 : decode cX0_triesRows 88 = .ok (.goto 24, 3) := dk_167 0 24 (dk_at dksX0_triesRows_3 17 rfl rfl)
theorem dX0_triesRows_91 : decode cX0_triesRows 91 = .ok (.aload_n 0, 1) := dk_42 (dk_at dksX0_triesRows_3 20 rfl rfl)
theorem dX0_triesRows_92 : decode cX0_triesRows 92 = .ok (.getfield 94, 3) := dk_180 0 94 (dk_at dksX0_triesRows_3 21 rfl rfl)
theorem dX0_triesRows_95 : decode cX0_triesRows 95 = .ok (.iload_n 1, 1) := dk_27 (dk_at dksX0_triesRows_4 0 rfl rfl)
theorem dX0_triesRows_96 : decode cX0_triesRows 96 = .ok (.iload_n 3, 1) := dk_29 (dk_at dksX0_triesRows_4 1 rfl rfl)
theorem dX0_triesRows_97 : decode cX0_triesRows 97 = .ok (.iastore, 1) := dk_79 (dk_at dksX0_triesRows_4 2 rfl rfl)
theorem dX0_triesRows_98 : decode cX0_triesRows 98 = .ok (.aload_n 0, 1) := dk_42 (dk_at dksX0_triesRows_4 3 rfl rfl)
theorem dX0_triesRows_99 : decode cX0_triesRows 99 = .ok (.iload_n 1, 1) := dk_27 (dk_at dksX0_triesRows_4 4 rfl rfl)
theorem dX0_triesRows_100 : decode cX0_triesRows 100 = .ok (.iconst 1, 1) := dk_4 (dk_at dksX0_triesRows_4 5 rfl rfl)
theorem dX0_triesRows_101 : decode cX0_triesRows 101 = .ok (.iadd, 1) := dk_96 (dk_at dksX0_triesRows_4 6 rfl rfl)
theorem dX0_triesRows_102 : decode cX0_triesRows 102 = .ok (.iload_n 2, 1) := dk_28 (dk_at dksX0_triesRows_4 7 rfl rfl)
theorem dX0_triesRows_103 : decode cX0_triesRows 103 = .ok (.iconst 1, 1) := dk_4 (dk_at dksX0_triesRows_4 8 rfl rfl)
theorem dX0_triesRows_104 : decode cX0_triesRows 104 = .ok (.iload_n 3, 1) := dk_29 (dk_at dksX0_triesRows_4 9 rfl rfl)
theorem dX0_triesRows_105 : decode cX0_triesRows 105 = .ok (.ishl, 1) := dk_120 (dk_at dksX0_triesRows_4 10 rfl rfl)
theorem dX0_triesRows_106 : decode cX0_triesRows 106 = .ok (.iconst (-1), 1) := dk_2 (dk_at dksX0_triesRows_4 11 rfl rfl)
theorem dX0_triesRows_107 : decode cX0_triesRows 107 = .ok (.ixor, 1) := dk_130 (dk_at dksX0_triesRows_4 12 rfl rfl)
theorem dX0_triesRows_108 : decode cX0_triesRows 108 = .ok (.iand, 1) := dk_126 (dk_at dksX0_triesRows_4 13 rfl rfl)
theorem dX0_triesRows_109 : decode cX0_triesRows 109 = .ok (.invokevirtual 357, 3) := dk_182 1 101 (dk_at dksX0_triesRows_4 14 rfl rfl)
theorem dX0_triesRows_112 : decode cX0_triesRows 112 = .ok (.iinc 3 1, 3) := dk_132 3 1 (dk_at dksX0_triesRows_4 17 rfl rfl)
theorem dX0_triesRows_115 : decode cX0_triesRows 115 = .ok (.goto (-46), 3) := dk_167 255 210 (dk_at dksX0_triesRows_4 20 rfl rfl)
theorem dX0_triesRows_118 : decode cX0_triesRows 118 = .ok (.return_, 1) := dk_177 (dk_at dksX0_triesRows_4 23 rfl rfl)
abbrev cX0_standTogether : ByteArray := prog_1_method_38_code
def yX0_standTogether : MethodName := ⟨RX0, "standTogether", "(I)Z"⟩
def dkwX0_standTogether_3 : List UInt8 := [3, 172]
abbrev dktX0_standTogether_3 : List UInt8 := dkwX0_standTogether_3 ++ []
def dkwX0_standTogether_2 : List UInt8 := [167, 255, 216, 28, 2, 159, 0, 15, 29, 28, 100, 4, 96, 27, 184, 1, 33, 160, 0, 7, 4, 167, 0, 4]
abbrev dktX0_standTogether_2 : List UInt8 := dkwX0_standTogether_2 ++ dktX0_standTogether_3
def dkwX0_standTogether_1 : List UInt8 := [184, 1, 38, 154, 0, 6, 167, 0, 14, 28, 2, 160, 0, 6, 21, 4, 61, 21, 4, 62, 132, 4, 1]
abbrev dktX0_standTogether_1 : List UInt8 := dkwX0_standTogether_1 ++ dktX0_standTogether_2
def dkwX0_standTogether_0 : List UInt8 := [2, 61, 2, 62, 3, 54, 4, 21, 4, 42, 180, 1, 92, 162, 0, 37, 27, 42, 180, 0, 94, 21, 4, 46]
abbrev dktX0_standTogether_0 : List UInt8 := dkwX0_standTogether_0 ++ dktX0_standTogether_1
theorem dksX0_standTogether_0 : cX0_standTogether.data.toList.drop 0 = dktX0_standTogether_0 := by decide +kernel
theorem dksX0_standTogether_1 : cX0_standTogether.data.toList.drop 24 = dktX0_standTogether_1 := dk_seg dksX0_standTogether_0 24 rfl rfl
theorem dksX0_standTogether_2 : cX0_standTogether.data.toList.drop 47 = dktX0_standTogether_2 := dk_seg dksX0_standTogether_1 23 rfl rfl
theorem dksX0_standTogether_3 : cX0_standTogether.data.toList.drop 71 = dktX0_standTogether_3 := dk_seg dksX0_standTogether_2 24 rfl rfl
theorem dX0_standTogether_0 : decode cX0_standTogether 0 = .ok (.iconst (-1), 1) := dk_2 (dk_at dksX0_standTogether_0 0 rfl rfl)
theorem dX0_standTogether_1 : decode cX0_standTogether 1 = .ok (.istore_n 2, 1) := dk_61 (dk_at dksX0_standTogether_0 1 rfl rfl)
theorem dX0_standTogether_2 : decode cX0_standTogether 2 = .ok (.iconst (-1), 1) := dk_2 (dk_at dksX0_standTogether_0 2 rfl rfl)
theorem dX0_standTogether_3 : decode cX0_standTogether 3 = .ok (.istore_n 3, 1) := dk_62 (dk_at dksX0_standTogether_0 3 rfl rfl)
theorem dX0_standTogether_4 : decode cX0_standTogether 4 = .ok (.iconst 0, 1) := dk_3 (dk_at dksX0_standTogether_0 4 rfl rfl)
theorem dX0_standTogether_5 : decode cX0_standTogether 5 = .ok (.istore 4, 2) := dk_54 4 (dk_at dksX0_standTogether_0 5 rfl rfl)
theorem dX0_standTogether_7 : decode cX0_standTogether 7 = .ok (.iload 4, 2) := dk_21 4 (dk_at dksX0_standTogether_0 7 rfl rfl)
theorem dX0_standTogether_9 : decode cX0_standTogether 9 = .ok (.aload_n 0, 1) := dk_42 (dk_at dksX0_standTogether_0 9 rfl rfl)
theorem dX0_standTogether_10 : decode cX0_standTogether 10 = .ok (.getfield 348, 3) := dk_180 1 92 (dk_at dksX0_standTogether_0 10 rfl rfl)
theorem dX0_standTogether_13 : decode cX0_standTogether 13 = .ok (.if_icmp .ge 37, 3) := dk_162 0 37 (dk_at dksX0_standTogether_0 13 rfl rfl)
theorem dX0_standTogether_16 : decode cX0_standTogether 16 = .ok (.iload_n 1, 1) := dk_27 (dk_at dksX0_standTogether_0 16 rfl rfl)
theorem dX0_standTogether_17 : decode cX0_standTogether 17 = .ok (.aload_n 0, 1) := dk_42 (dk_at dksX0_standTogether_0 17 rfl rfl)
theorem dX0_standTogether_18 : decode cX0_standTogether 18 = .ok (.getfield 94, 3) := dk_180 0 94 (dk_at dksX0_standTogether_0 18 rfl rfl)
theorem dX0_standTogether_21 : decode cX0_standTogether 21 = .ok (.iload 4, 2) := dk_21 4 (dk_at dksX0_standTogether_0 21 rfl rfl)
theorem dX0_standTogether_23 : decode cX0_standTogether 23 = .ok (.iaload, 1) := dk_46 (dk_at dksX0_standTogether_0 23 rfl rfl)
theorem dX0_standTogether_24 : decode cX0_standTogether 24 = .ok (.invokestatic 294, 3) := dk_184 1 38 (dk_at dksX0_standTogether_1 0 rfl rfl)
theorem dX0_standTogether_27 : decode cX0_standTogether 27 = .ok (.ifCond .ne 6, 3) := dk_154 0 6 (dk_at dksX0_standTogether_1 3 rfl rfl)
theorem dX0_standTogether_30 : decode cX0_standTogether 30 = .ok (.goto 14, 3) := dk_167 0 14 (dk_at dksX0_standTogether_1 6 rfl rfl)
theorem dX0_standTogether_33 : decode cX0_standTogether 33 = .ok (.iload_n 2, 1) := dk_28 (dk_at dksX0_standTogether_1 9 rfl rfl)
theorem dX0_standTogether_34 : decode cX0_standTogether 34 = .ok (.iconst (-1), 1) := dk_2 (dk_at dksX0_standTogether_1 10 rfl rfl)
theorem dX0_standTogether_35 : decode cX0_standTogether 35 = .ok (.if_icmp .ne 6, 3) := dk_160 0 6 (dk_at dksX0_standTogether_1 11 rfl rfl)
theorem dX0_standTogether_38 : decode cX0_standTogether 38 = .ok (.iload 4, 2) := dk_21 4 (dk_at dksX0_standTogether_1 14 rfl rfl)
theorem dX0_standTogether_40 : decode cX0_standTogether 40 = .ok (.istore_n 2, 1) := dk_61 (dk_at dksX0_standTogether_1 16 rfl rfl)
theorem dX0_standTogether_41 : decode cX0_standTogether 41 = .ok (.iload 4, 2) := dk_21 4 (dk_at dksX0_standTogether_1 17 rfl rfl)
theorem dX0_standTogether_43 : decode cX0_standTogether 43 = .ok (.istore_n 3, 1) := dk_62 (dk_at dksX0_standTogether_1 19 rfl rfl)
theorem dX0_standTogether_44 : decode cX0_standTogether 44 = .ok (.iinc 4 1, 3) := dk_132 4 1 (dk_at dksX0_standTogether_1 20 rfl rfl)
theorem dX0_standTogether_47 : decode cX0_standTogether 47 = .ok (.goto (-40), 3) := dk_167 255 216 (dk_at dksX0_standTogether_2 0 rfl rfl)
theorem dX0_standTogether_50 : decode cX0_standTogether 50 = .ok (.iload_n 2, 1) := dk_28 (dk_at dksX0_standTogether_2 3 rfl rfl)
theorem dX0_standTogether_51 : decode cX0_standTogether 51 = .ok (.iconst (-1), 1) := dk_2 (dk_at dksX0_standTogether_2 4 rfl rfl)
theorem dX0_standTogether_52 : decode cX0_standTogether 52 = .ok (.if_icmp .eq 15, 3) := dk_159 0 15 (dk_at dksX0_standTogether_2 5 rfl rfl)
theorem dX0_standTogether_55 : decode cX0_standTogether 55 = .ok (.iload_n 3, 1) := dk_29 (dk_at dksX0_standTogether_2 8 rfl rfl)
theorem dX0_standTogether_56 : decode cX0_standTogether 56 = .ok (.iload_n 2, 1) := dk_28 (dk_at dksX0_standTogether_2 9 rfl rfl)
theorem dX0_standTogether_57 : decode cX0_standTogether 57 = .ok (.isub, 1) := dk_100 (dk_at dksX0_standTogether_2 10 rfl rfl)
theorem dX0_standTogether_58 : decode cX0_standTogether 58 = .ok (.iconst 1, 1) := dk_4 (dk_at dksX0_standTogether_2 11 rfl rfl)
theorem dX0_standTogether_59 : decode cX0_standTogether 59 = .ok (.iadd, 1) := dk_96 (dk_at dksX0_standTogether_2 12 rfl rfl)
theorem dX0_standTogether_60 : decode cX0_standTogether 60 = .ok (.iload_n 1, 1) := dk_27 (dk_at dksX0_standTogether_2 13 rfl rfl)
theorem dX0_standTogether_61 : decode cX0_standTogether 61 = .ok (.invokestatic 289, 3) := dk_184 1 33 (dk_at dksX0_standTogether_2 14 rfl rfl)
theorem dX0_standTogether_64 : decode cX0_standTogether 64 = .ok (.if_icmp .ne 7, 3) := dk_160 0 7 (dk_at dksX0_standTogether_2 17 rfl rfl)
theorem dX0_standTogether_67 : decode cX0_standTogether 67 = .ok (.iconst 1, 1) := dk_4 (dk_at dksX0_standTogether_2 20 rfl rfl)
theorem dX0_standTogether_68 : decode cX0_standTogether 68 = .ok (.goto 4, 3) := dk_167 0 4 (dk_at dksX0_standTogether_2 21 rfl rfl)
theorem dX0_standTogether_71 : decode cX0_standTogether 71 = .ok (.iconst 0, 1) := dk_3 (dk_at dksX0_standTogether_3 0 rfl rfl)
theorem dX0_standTogether_72 : decode cX0_standTogether 72 = .ok (.ireturn, 1) := dk_172 (dk_at dksX0_standTogether_3 1 rfl rfl)
abbrev cX0_sawn : ByteArray := prog_1_method_41_code
def yX0_sawn : MethodName := ⟨RX0, "sawn", "(II)I"⟩
def dkwX0_sawn_5 : List UInt8 := [29, 167, 0, 7, 29, 184, 1, 33, 172]
abbrev dktX0_sawn_5 : List UInt8 := dkwX0_sawn_5 ++ []
def dkwX0_sawn_4 : List UInt8 := [167, 255, 191, 28, 5, 160, 0, 8, 21, 4, 167, 0, 22, 29, 16, 254, 159, 0, 8, 28, 4, 160, 0, 7]
abbrev dktX0_sawn_4 : List UInt8 := dkwX0_sawn_4 ++ dktX0_sawn_5
def dkwX0_sawn_3 : List UInt8 := [29, 16, 254, 159, 0, 15, 21, 5, 184, 1, 33, 29, 184, 1, 33, 162, 0, 6, 21, 5, 62, 132, 5, 1]
abbrev dktX0_sawn_3 : List UInt8 := dkwX0_sawn_3 ++ dktX0_sawn_4
def dkwX0_sawn_2 : List UInt8 := [180, 0, 153, 182, 0, 187, 21, 5, 2, 130, 126, 182, 1, 114, 27, 159, 0, 6, 167, 0, 27, 132, 4, 1]
abbrev dktX0_sawn_2 : List UInt8 := dkwX0_sawn_2 ++ dktX0_sawn_3
def dkwX0_sawn_1 : List UInt8 := [62, 3, 54, 4, 3, 54, 5, 21, 5, 42, 180, 0, 153, 182, 0, 187, 163, 0, 59, 42, 180, 0, 153, 42]
abbrev dktX0_sawn_1 : List UInt8 := dkwX0_sawn_1 ++ dktX0_sawn_2
def dkwX0_sawn_0 : List UInt8 := [42, 27, 182, 1, 77, 153, 0, 15, 28, 133, 9, 20, 1, 112, 184, 0, 234, 154, 0, 5, 2, 172, 16, 254]
abbrev dktX0_sawn_0 : List UInt8 := dkwX0_sawn_0 ++ dktX0_sawn_1
theorem dksX0_sawn_0 : cX0_sawn.data.toList.drop 0 = dktX0_sawn_0 := by decide +kernel
theorem dksX0_sawn_1 : cX0_sawn.data.toList.drop 24 = dktX0_sawn_1 := dk_seg dksX0_sawn_0 24 rfl rfl
theorem dksX0_sawn_2 : cX0_sawn.data.toList.drop 48 = dktX0_sawn_2 := dk_seg dksX0_sawn_1 24 rfl rfl
theorem dksX0_sawn_3 : cX0_sawn.data.toList.drop 72 = dktX0_sawn_3 := dk_seg dksX0_sawn_2 24 rfl rfl
theorem dksX0_sawn_4 : cX0_sawn.data.toList.drop 96 = dktX0_sawn_4 := dk_seg dksX0_sawn_3 24 rfl rfl
theorem dksX0_sawn_5 : cX0_sawn.data.toList.drop 120 = dktX0_sawn_5 := dk_seg dksX0_sawn_4 24 rfl rfl
theorem dX0_sawn_0 : decode cX0_sawn 0 = .ok (.aload_n 0, 1) := dk_42 (dk_at dksX0_sawn_0 0 rfl rfl)
theorem dX0_sawn_1 : decode cX0_sawn 1 = .ok (.iload_n 1, 1) := dk_27 (dk_at dksX0_sawn_0 1 rfl rfl)
theorem dX0_sawn_2 : decode cX0_sawn 2 = .ok (.invokevirtual 333, 3) := dk_182 1 77 (dk_at dksX0_sawn_0 2 rfl rfl)
theorem dX0_sawn_5 : decode cX0_sawn 5 = .ok (.ifCond .eq 15, 3) := dk_153 0 15 (dk_at dksX0_sawn_0 5 rfl rfl)
theorem dX0_sawn_8 : decode cX0_sawn 8 = .ok (.iload_n 2, 1) := dk_28 (dk_at dksX0_sawn_0 8 rfl rfl)
theorem dX0_sawn_9 : decode cX0_sawn 9 = .ok (.i2l, 1) := dk_133 (dk_at dksX0_sawn_0 9 rfl rfl)
theorem dX0_sawn_10 : decode cX0_sawn 10 = .ok (.lconst 0, 1) := dk_9 (dk_at dksX0_sawn_0 10 rfl rfl)
theorem dX0_sawn_11 : decode cX0_sawn 11 = .ok (.ldc2_w 368, 3) := dk_20 1 112 (dk_at dksX0_sawn_0 11 rfl rfl)
theorem dX0_sawn_14 : decode cX0_sawn 14 = .ok (.invokestatic 234, 3) := dk_184 0 234 (dk_at dksX0_sawn_0 14 rfl rfl)
theorem dX0_sawn_17 : decode cX0_sawn 17 = .ok (.ifCond .ne 5, 3) := dk_154 0 5 (dk_at dksX0_sawn_0 17 rfl rfl)
theorem dX0_sawn_20 : decode cX0_sawn 20 = .ok (.iconst (-1), 1) := dk_2 (dk_at dksX0_sawn_0 20 rfl rfl)
theorem dX0_sawn_21 : decode cX0_sawn 21 = .ok (.ireturn, 1) := dk_172 (dk_at dksX0_sawn_0 21 rfl rfl)
theorem dX0_sawn_22 : decode cX0_sawn 22 = .ok (.bipush (-2), 2) := dk_16 254 (dk_at dksX0_sawn_0 22 rfl rfl)
theorem dX0_sawn_24 : decode cX0_sawn 24 = .ok (.istore_n 3, 1) := dk_62 (dk_at dksX0_sawn_1 0 rfl rfl)
theorem dX0_sawn_25 : decode cX0_sawn 25 = .ok (.iconst 0, 1) := dk_3 (dk_at dksX0_sawn_1 1 rfl rfl)
theorem dX0_sawn_26 : decode cX0_sawn 26 = .ok (.istore 4, 2) := dk_54 4 (dk_at dksX0_sawn_1 2 rfl rfl)
theorem dX0_sawn_28 : decode cX0_sawn 28 = .ok (.iconst 0, 1) := dk_3 (dk_at dksX0_sawn_1 4 rfl rfl)
theorem dX0_sawn_29 : decode cX0_sawn 29 = .ok (.istore 5, 2) := dk_54 5 (dk_at dksX0_sawn_1 5 rfl rfl)
theorem dX0_sawn_31 : decode cX0_sawn 31 = .ok (.iload 5, 2) := dk_21 5 (dk_at dksX0_sawn_1 7 rfl rfl)
theorem dX0_sawn_33 : decode cX0_sawn 33 = .ok (.aload_n 0, 1) := dk_42 (dk_at dksX0_sawn_1 9 rfl rfl)
theorem dX0_sawn_34 : decode cX0_sawn 34 = .ok (.getfield 153, 3) := dk_180 0 153 (dk_at dksX0_sawn_1 10 rfl rfl)
theorem dX0_sawn_37 : decode cX0_sawn 37 = .ok (.invokevirtual 187, 3) := dk_182 0 187 (dk_at dksX0_sawn_1 13 rfl rfl)
theorem dX0_sawn_40 : decode cX0_sawn 40 = .ok (.if_icmp .gt 59, 3) := dk_163 0 59 (dk_at dksX0_sawn_1 16 rfl rfl)
theorem dX0_sawn_43 : decode cX0_sawn 43 = .ok (.aload_n 0, 1) := dk_42 (dk_at dksX0_sawn_1 19 rfl rfl)
theorem dX0_sawn_44 : decode cX0_sawn 44 = .ok (.getfield 153, 3) := dk_180 0 153 (dk_at dksX0_sawn_1 20 rfl rfl)
theorem dX0_sawn_47 : decode cX0_sawn 47 = .ok (.aload_n 0, 1) := dk_42 (dk_at dksX0_sawn_1 23 rfl rfl)
theorem dX0_sawn_48 : decode cX0_sawn 48 = .ok (.getfield 153, 3) := dk_180 0 153 (dk_at dksX0_sawn_2 0 rfl rfl)
theorem dX0_sawn_51 : decode cX0_sawn 51 = .ok (.invokevirtual 187, 3) := dk_182 0 187 (dk_at dksX0_sawn_2 3 rfl rfl)
theorem dX0_sawn_54 : decode cX0_sawn 54 = .ok (.iload 5, 2) := dk_21 5 (dk_at dksX0_sawn_2 6 rfl rfl)
theorem dX0_sawn_56 : decode cX0_sawn 56 = .ok (.iconst (-1), 1) := dk_2 (dk_at dksX0_sawn_2 8 rfl rfl)
theorem dX0_sawn_57 : decode cX0_sawn 57 = .ok (.ixor, 1) := dk_130 (dk_at dksX0_sawn_2 9 rfl rfl)
theorem dX0_sawn_58 : decode cX0_sawn 58 = .ok (.iand, 1) := dk_126 (dk_at dksX0_sawn_2 10 rfl rfl)
theorem dX0_sawn_59 : decode cX0_sawn 59 = .ok (.invokevirtual 370, 3) := dk_182 1 114 (dk_at dksX0_sawn_2 11 rfl rfl)
theorem dX0_sawn_62 : decode cX0_sawn 62 = .ok (.iload_n 1, 1) := dk_27 (dk_at dksX0_sawn_2 14 rfl rfl)
theorem dX0_sawn_63 : decode cX0_sawn 63 = .ok (.if_icmp .eq 6, 3) := dk_159 0 6 (dk_at dksX0_sawn_2 15 rfl rfl)
theorem dX0_sawn_66 : decode cX0_sawn 66 = .ok (.goto 27, 3) := dk_167 0 27 (dk_at dksX0_sawn_2 18 rfl rfl)
theorem dX0_sawn_69 : decode cX0_sawn 69 = .ok (.iinc 4 1, 3) := dk_132 4 1 (dk_at dksX0_sawn_2 21 rfl rfl)
theorem dX0_sawn_72 : decode cX0_sawn 72 = .ok (.iload_n 3, 1) := dk_29 (dk_at dksX0_sawn_3 0 rfl rfl)
theorem dX0_sawn_73 : decode cX0_sawn 73 = .ok (.bipush (-2), 2) := dk_16 254 (dk_at dksX0_sawn_3 1 rfl rfl)
theorem dX0_sawn_75 : decode cX0_sawn 75 = .ok (.if_icmp .eq 15, 3) := dk_159 0 15 (dk_at dksX0_sawn_3 3 rfl rfl)
theorem dX0_sawn_78 : decode cX0_sawn 78 = .ok (.iload 5, 2) := dk_21 5 (dk_at dksX0_sawn_3 6 rfl rfl)
theorem dX0_sawn_80 : decode cX0_sawn 80 = .ok (.invokestatic 289, 3) := dk_184 1 33 (dk_at dksX0_sawn_3 8 rfl rfl)
theorem dX0_sawn_83 : decode cX0_sawn 83 = .ok (.iload_n 3, 1) := dk_29 (dk_at dksX0_sawn_3 11 rfl rfl)
theorem dX0_sawn_84 : decode cX0_sawn 84 = .ok (.invokestatic 289, 3) := dk_184 1 33 (dk_at dksX0_sawn_3 12 rfl rfl)
theorem dX0_sawn_87 : decode cX0_sawn 87 = .ok (.if_icmp .ge 6, 3) := dk_162 0 6 (dk_at dksX0_sawn_3 15 rfl rfl)
theorem dX0_sawn_90 : decode cX0_sawn 90 = .ok (.iload 5, 2) := dk_21 5 (dk_at dksX0_sawn_3 18 rfl rfl)
theorem dX0_sawn_92 : decode cX0_sawn 92 = .ok (.istore_n 3, 1) := dk_62 (dk_at dksX0_sawn_3 20 rfl rfl)
theorem dX0_sawn_93 : decode cX0_sawn 93 = .ok (.iinc 5 1, 3) := dk_132 5 1 (dk_at dksX0_sawn_3 21 rfl rfl)
theorem dX0_sawn_96 : decode cX0_sawn 96 = .ok (.goto (-65), 3) := dk_167 255 191 (dk_at dksX0_sawn_4 0 rfl rfl)
theorem dX0_sawn_99 : decode cX0_sawn 99 = .ok (.iload_n 2, 1) := dk_28 (dk_at dksX0_sawn_4 3 rfl rfl)
theorem dX0_sawn_100 : decode cX0_sawn 100 = .ok (.iconst 2, 1) := dk_5 (dk_at dksX0_sawn_4 4 rfl rfl)
theorem dX0_sawn_101 : decode cX0_sawn 101 = .ok (.if_icmp .ne 8, 3) := dk_160 0 8 (dk_at dksX0_sawn_4 5 rfl rfl)
theorem dX0_sawn_104 : decode cX0_sawn 104 = .ok (.iload 4, 2) := dk_21 4 (dk_at dksX0_sawn_4 8 rfl rfl)
theorem dX0_sawn_106 : decode cX0_sawn 106 = .ok (.goto 22, 3) := dk_167 0 22 (dk_at dksX0_sawn_4 10 rfl rfl)
theorem dX0_sawn_109 : decode cX0_sawn 109 = .ok (.iload_n 3, 1) := dk_29 (dk_at dksX0_sawn_4 13 rfl rfl)
theorem dX0_sawn_110 : decode cX0_sawn 110 = .ok (.bipush (-2), 2) := dk_16 254 (dk_at dksX0_sawn_4 14 rfl rfl)
theorem dX0_sawn_112 : decode cX0_sawn 112 = .ok (.if_icmp .eq 8, 3) := dk_159 0 8 (dk_at dksX0_sawn_4 16 rfl rfl)
theorem dX0_sawn_115 : decode cX0_sawn 115 = .ok (.iload_n 2, 1) := dk_28 (dk_at dksX0_sawn_4 19 rfl rfl)
theorem dX0_sawn_116 : decode cX0_sawn 116 = .ok (.iconst 1, 1) := dk_4 (dk_at dksX0_sawn_4 20 rfl rfl)
theorem dX0_sawn_117 : decode cX0_sawn 117 = .ok (.if_icmp .ne 7, 3) := dk_160 0 7 (dk_at dksX0_sawn_4 21 rfl rfl)
theorem dX0_sawn_120 : decode cX0_sawn 120 = .ok (.iload_n 3, 1) := dk_29 (dk_at dksX0_sawn_5 0 rfl rfl)
theorem dX0_sawn_121 : decode cX0_sawn 121 = .ok (.goto 7, 3) := dk_167 0 7 (dk_at dksX0_sawn_5 1 rfl rfl)
theorem dX0_sawn_124 : decode cX0_sawn 124 = .ok (.iload_n 3, 1) := dk_29 (dk_at dksX0_sawn_5 4 rfl rfl)
theorem dX0_sawn_125 : decode cX0_sawn 125 = .ok (.invokestatic 289, 3) := dk_184 1 33 (dk_at dksX0_sawn_5 5 rfl rfl)
theorem dX0_sawn_128 : decode cX0_sawn 128 = .ok (.ireturn, 1) := dk_172 (dk_at dksX0_sawn_5 8 rfl rfl)
abbrev cX0_locks : ByteArray := prog_1_method_43_code
def yX0_locks : MethodName := ⟨RX0, "locks", "(II)I"⟩
def dkwX0_locks_3 : List UInt8 := [180, 0, 153, 180, 0, 156, 164, 0, 7, 2, 167, 0, 11, 42, 180, 0, 107, 28, 4, 100, 46, 172]
abbrev dktX0_locks_3 : List UInt8 := dkwX0_locks_3 ++ []
def dkwX0_locks_2 : List UInt8 := [180, 1, 117, 2, 160, 0, 6, 16, 254, 172, 28, 154, 0, 10, 42, 180, 1, 117, 167, 0, 26, 28, 42]
abbrev dktX0_locks_2 : List UInt8 := dkwX0_locks_2 ++ dktX0_locks_3
def dkwX0_locks_1 : List UInt8 := [20, 1, 125, 184, 0, 234, 154, 0, 5, 2, 172, 42, 2, 181, 1, 117, 42, 3, 3, 27, 182, 1, 120, 42]
abbrev dktX0_locks_1 : List UInt8 := dkwX0_locks_1 ++ dktX0_locks_2
def dkwX0_locks_0 : List UInt8 := [42, 180, 0, 153, 198, 0, 27, 27, 133, 10, 20, 1, 123, 184, 0, 234, 153, 0, 15, 28, 133, 9]
abbrev dktX0_locks_0 : List UInt8 := dkwX0_locks_0 ++ dktX0_locks_1
theorem dksX0_locks_0 : cX0_locks.data.toList.drop 0 = dktX0_locks_0 := by decide +kernel
theorem dksX0_locks_1 : cX0_locks.data.toList.drop 22 = dktX0_locks_1 := dk_seg dksX0_locks_0 22 rfl rfl
theorem dksX0_locks_2 : cX0_locks.data.toList.drop 46 = dktX0_locks_2 := dk_seg dksX0_locks_1 24 rfl rfl
theorem dksX0_locks_3 : cX0_locks.data.toList.drop 69 = dktX0_locks_3 := dk_seg dksX0_locks_2 23 rfl rfl
theorem dX0_locks_0 : decode cX0_locks 0 = .ok (.aload_n 0, 1) := dk_42 (dk_at dksX0_locks_0 0 rfl rfl)
theorem dX0_locks_1 : decode cX0_locks 1 = .ok (.getfield 153, 3) := dk_180 0 153 (dk_at dksX0_locks_0 1 rfl rfl)
theorem dX0_locks_4 : decode cX0_locks 4 = .ok (.ifnull 27, 3) := dk_198 0 27 (dk_at dksX0_locks_0 4 rfl rfl)
theorem dX0_locks_7 : decode cX0_locks 7 = .ok (.iload_n 1, 1) := dk_27 (dk_at dksX0_locks_0 7 rfl rfl)
theorem dX0_locks_8 : decode cX0_locks 8 = .ok (.i2l, 1) := dk_133 (dk_at dksX0_locks_0 8 rfl rfl)
theorem dX0_locks_9 : decode cX0_locks 9 = .ok (.lconst 1, 1) := dk_10 (dk_at dksX0_locks_0 9 rfl rfl)
theorem dX0_locks_10 : decode cX0_locks 10 = .ok (.ldc2_w 379, 3) := dk_20 1 123 (dk_at dksX0_locks_0 10 rfl rfl)
theorem dX0_locks_13 : decode cX0_locks 13 = .ok (.invokestatic 234, 3) := dk_184 0 234 (dk_at dksX0_locks_0 13 rfl rfl)
theorem dX0_locks_16 : decode cX0_locks 16 = .ok (.ifCond .eq 15, 3) := dk_153 0 15 (dk_at dksX0_locks_0 16 rfl rfl)
theorem dX0_locks_19 : decode cX0_locks 19 = .ok (.iload_n 2, 1) := dk_28 (dk_at dksX0_locks_0 19 rfl rfl)
theorem dX0_locks_20 : decode cX0_locks 20 = .ok (.i2l, 1) := dk_133 (dk_at dksX0_locks_0 20 rfl rfl)
theorem dX0_locks_21 : decode cX0_locks 21 = .ok (.lconst 0, 1) := dk_9 (dk_at dksX0_locks_0 21 rfl rfl)
theorem dX0_locks_22 : decode cX0_locks 22 = .ok (.ldc2_w 381, 3) := dk_20 1 125 (dk_at dksX0_locks_1 0 rfl rfl)
theorem dX0_locks_25 : decode cX0_locks 25 = .ok (.invokestatic 234, 3) := dk_184 0 234 (dk_at dksX0_locks_1 3 rfl rfl)
theorem dX0_locks_28 : decode cX0_locks 28 = .ok (.ifCond .ne 5, 3) := dk_154 0 5 (dk_at dksX0_locks_1 6 rfl rfl)
theorem dX0_locks_31 : decode cX0_locks 31 = .ok (.iconst (-1), 1) := dk_2 (dk_at dksX0_locks_1 9 rfl rfl)
theorem dX0_locks_32 : decode cX0_locks 32 = .ok (.ireturn, 1) := dk_172 (dk_at dksX0_locks_1 10 rfl rfl)
theorem dX0_locks_33 : decode cX0_locks 33 = .ok (.aload_n 0, 1) := dk_42 (dk_at dksX0_locks_1 11 rfl rfl)
theorem dX0_locks_34 : decode cX0_locks 34 = .ok (.iconst (-1), 1) := dk_2 (dk_at dksX0_locks_1 12 rfl rfl)
theorem dX0_locks_35 : decode cX0_locks 35 = .ok (.putfield 373, 3) := dk_181 1 117 (dk_at dksX0_locks_1 13 rfl rfl)
theorem dX0_locks_38 : decode cX0_locks 38 = .ok (.aload_n 0, 1) := dk_42 (dk_at dksX0_locks_1 16 rfl rfl)
theorem dX0_locks_39 : decode cX0_locks 39 = .ok (.iconst 0, 1) := dk_3 (dk_at dksX0_locks_1 17 rfl rfl)
theorem dX0_locks_40 : decode cX0_locks 40 = .ok (.iconst 0, 1) := dk_3 (dk_at dksX0_locks_1 18 rfl rfl)
theorem dX0_locks_41 : decode cX0_locks 41 = .ok (.iload_n 1, 1) := dk_27 (dk_at dksX0_locks_1 19 rfl rfl)
theorem dX0_locks_42 : decode cX0_locks 42 = .ok (.invokevirtual 376, 3) := dk_182 1 120 (dk_at dksX0_locks_1 20 rfl rfl)
theorem dX0_locks_45 : decode cX0_locks 45 = .ok (.aload_n 0, 1) := dk_42 (dk_at dksX0_locks_1 23 rfl rfl)
theorem dX0_locks_46 : decode cX0_locks 46 = .ok (.getfield 373, 3) := dk_180 1 117 (dk_at dksX0_locks_2 0 rfl rfl)
theorem dX0_locks_49 : decode cX0_locks 49 = .ok (.iconst (-1), 1) := dk_2 (dk_at dksX0_locks_2 3 rfl rfl)
theorem dX0_locks_50 : decode cX0_locks 50 = .ok (.if_icmp .ne 6, 3) := dk_160 0 6 (dk_at dksX0_locks_2 4 rfl rfl)
theorem dX0_locks_53 : decode cX0_locks 53 = .ok (.bipush (-2), 2) := dk_16 254 (dk_at dksX0_locks_2 7 rfl rfl)
theorem dX0_locks_55 : decode cX0_locks 55 = .ok (.ireturn, 1) := dk_172 (dk_at dksX0_locks_2 9 rfl rfl)
theorem dX0_locks_56 : decode cX0_locks 56 = .ok (.iload_n 2, 1) := dk_28 (dk_at dksX0_locks_2 10 rfl rfl)
theorem dX0_locks_57 : decode cX0_locks 57 = .ok (.ifCond .ne 10, 3) := dk_154 0 10 (dk_at dksX0_locks_2 11 rfl rfl)
theorem dX0_locks_60 : decode cX0_locks 60 = .ok (.aload_n 0, 1) := dk_42 (dk_at dksX0_locks_2 14 rfl rfl)
theorem dX0_locks_61 : decode cX0_locks 61 = .ok (.getfield 373, 3) := dk_180 1 117 (dk_at dksX0_locks_2 15 rfl rfl)
theorem dX0_locks_64 : decode cX0_locks 64 = .ok (.goto 26, 3) := dk_167 0 26 (dk_at dksX0_locks_2 18 rfl rfl)
theorem dX0_locks_67 : decode cX0_locks 67 = .ok (.iload_n 2, 1) := dk_28 (dk_at dksX0_locks_2 21 rfl rfl)
theorem dX0_locks_68 : decode cX0_locks 68 = .ok (.aload_n 0, 1) := dk_42 (dk_at dksX0_locks_2 22 rfl rfl)
theorem dX0_locks_69 : decode cX0_locks 69 = .ok (.getfield 153, 3) := dk_180 0 153 (dk_at dksX0_locks_3 0 rfl rfl)
theorem dX0_locks_72 : decode cX0_locks 72 = .ok (.getfield 156, 3) := dk_180 0 156 (dk_at dksX0_locks_3 3 rfl rfl)
theorem dX0_locks_75 : decode cX0_locks 75 = .ok (.if_icmp .le 7, 3) := dk_164 0 7 (dk_at dksX0_locks_3 6 rfl rfl)
theorem dX0_locks_78 : decode cX0_locks 78 = .ok (.iconst (-1), 1) := dk_2 (dk_at dksX0_locks_3 9 rfl rfl)
theorem dX0_locks_79 : decode cX0_locks 79 = .ok (.goto 11, 3) := dk_167 0 11 (dk_at dksX0_locks_3 10 rfl rfl)
theorem dX0_locks_82 : decode cX0_locks 82 = .ok (.aload_n 0, 1) := dk_42 (dk_at dksX0_locks_3 13 rfl rfl)
theorem dX0_locks_83 : decode cX0_locks 83 = .ok (.getfield 107, 3) := dk_180 0 107 (dk_at dksX0_locks_3 14 rfl rfl)
theorem dX0_locks_86 : decode cX0_locks 86 = .ok (.iload_n 2, 1) := dk_28 (dk_at dksX0_locks_3 17 rfl rfl)
theorem dX0_locks_87 : decode cX0_locks 87 = .ok (.iconst 1, 1) := dk_4 (dk_at dksX0_locks_3 18 rfl rfl)
theorem dX0_locks_88 : decode cX0_locks 88 = .ok (.isub, 1) := dk_100 (dk_at dksX0_locks_3 19 rfl rfl)
theorem dX0_locks_89 : decode cX0_locks 89 = .ok (.iaload, 1) := dk_46 (dk_at dksX0_locks_3 20 rfl rfl)
theorem dX0_locks_90 : decode cX0_locks 90 = .ok (.ireturn, 1) := dk_172 (dk_at dksX0_locks_3 21 rfl rfl)
abbrev cX0_triesLocks : ByteArray := prog_1_method_42_code
def yX0_triesLocks : MethodName := ⟨RX0, "triesLocks", "(III)V"⟩
def dkwX0_triesLocks_8 : List UInt8 := [180, 0, 202, 27, 46, 100, 79, 132, 4, 1, 167, 255, 140, 177]
abbrev dktX0_triesLocks_8 : List UInt8 := dkwX0_triesLocks_8 ++ []
def dkwX0_triesLocks_7 : List UInt8 := [21, 4, 4, 96, 184, 1, 83, 29, 182, 1, 120, 42, 180, 0, 110, 21, 4, 92, 46, 42, 180, 0, 153]
abbrev dktX0_triesLocks_7 : List UInt8 := dkwX0_triesLocks_7 ++ dktX0_triesLocks_8
def dkwX0_triesLocks_6 : List UInt8 := [180, 0, 153, 180, 0, 202, 27, 46, 96, 79, 42, 180, 0, 104, 27, 21, 4, 79, 42, 27, 4, 96, 28]
abbrev dktX0_triesLocks_6 : List UInt8 := dkwX0_triesLocks_6 ++ dktX0_triesLocks_7
def dkwX0_triesLocks_5 : List UInt8 := [180, 0, 202, 27, 46, 96, 29, 164, 0, 6, 167, 0, 65, 42, 180, 0, 110, 21, 4, 92, 46, 42]
abbrev dktX0_triesLocks_5 : List UInt8 := dkwX0_triesLocks_5 ++ dktX0_triesLocks_6
def dkwX0_triesLocks_4 : List UInt8 := [160, 0, 11, 42, 180, 0, 110, 21, 4, 3, 79, 42, 180, 0, 110, 21, 4, 46, 42, 180, 0, 153]
abbrev dktX0_triesLocks_4 : List UInt8 := dkwX0_triesLocks_4 ++ dktX0_triesLocks_5
def dkwX0_triesLocks_3 : List UInt8 := [29, 182, 1, 120, 177, 3, 54, 4, 21, 4, 28, 163, 0, 116, 21, 4, 16, 8, 162, 0, 109, 21, 4, 28]
abbrev dktX0_triesLocks_3 : List UInt8 := dkwX0_triesLocks_3 ++ dktX0_triesLocks_4
def dkwX0_triesLocks_2 : List UInt8 := [184, 0, 250, 177, 42, 180, 0, 104, 27, 2, 79, 42, 27, 182, 0, 212, 154, 0, 13, 42, 27, 4, 96, 28]
abbrev dktX0_triesLocks_2 : List UInt8 := dkwX0_triesLocks_2 ++ dktX0_triesLocks_3
def dkwX0_triesLocks_1 : List UInt8 := [180, 0, 156, 160, 0, 24, 42, 28, 181, 1, 117, 42, 180, 0, 104, 3, 42, 180, 0, 107, 3, 16, 8]
abbrev dktX0_triesLocks_1 : List UInt8 := dkwX0_triesLocks_1 ++ dktX0_triesLocks_2
def dkwX0_triesLocks_0 : List UInt8 := [42, 180, 1, 117, 2, 159, 0, 12, 28, 42, 180, 1, 117, 161, 0, 4, 177, 27, 42, 180, 0, 153]
abbrev dktX0_triesLocks_0 : List UInt8 := dkwX0_triesLocks_0 ++ dktX0_triesLocks_1
theorem dksX0_triesLocks_0 : cX0_triesLocks.data.toList.drop 0 = dktX0_triesLocks_0 := by decide +kernel
theorem dksX0_triesLocks_1 : cX0_triesLocks.data.toList.drop 22 = dktX0_triesLocks_1 := dk_seg dksX0_triesLocks_0 22 rfl rfl
theorem dksX0_triesLocks_2 : cX0_triesLocks.data.toList.drop 45 = dktX0_triesLocks_2 := dk_seg dksX0_triesLocks_1 23 rfl rfl
theorem dksX0_triesLocks_3 : cX0_triesLocks.data.toList.drop 69 = dktX0_triesLocks_3 := dk_seg dksX0_triesLocks_2 24 rfl rfl
theorem dksX0_triesLocks_4 : cX0_triesLocks.data.toList.drop 93 = dktX0_triesLocks_4 := dk_seg dksX0_triesLocks_3 24 rfl rfl
theorem dksX0_triesLocks_5 : cX0_triesLocks.data.toList.drop 115 = dktX0_triesLocks_5 := dk_seg dksX0_triesLocks_4 22 rfl rfl
theorem dksX0_triesLocks_6 : cX0_triesLocks.data.toList.drop 137 = dktX0_triesLocks_6 := dk_seg dksX0_triesLocks_5 22 rfl rfl
theorem dksX0_triesLocks_7 : cX0_triesLocks.data.toList.drop 160 = dktX0_triesLocks_7 := dk_seg dksX0_triesLocks_6 23 rfl rfl
theorem dksX0_triesLocks_8 : cX0_triesLocks.data.toList.drop 183 = dktX0_triesLocks_8 := dk_seg dksX0_triesLocks_7 23 rfl rfl
theorem dX0_triesLocks_0 : decode cX0_triesLocks 0 = .ok (.aload_n 0, 1) := dk_42 (dk_at dksX0_triesLocks_0 0 rfl rfl)
theorem dX0_triesLocks_1 : decode cX0_triesLocks 1 = .ok (.getfield 373, 3) := dk_180 1 117 (dk_at dksX0_triesLocks_0 1 rfl rfl)
theorem dX0_triesLocks_4 : decode cX0_triesLocks 4 = .ok (.iconst (-1), 1) := dk_2 (dk_at dksX0_triesLocks_0 4 rfl rfl)
theorem dX0_triesLocks_5 : decode cX0_triesLocks 5 = .ok (.if_icmp .eq 12, 3) := dk_159 0 12 (dk_at dksX0_triesLocks_0 5 rfl rfl)
theorem dX0_triesLocks_8 : decode cX0_triesLocks 8 = .ok (.iload_n 2, 1) := dk_28 (dk_at dksX0_triesLocks_0 8 rfl rfl)
theorem dX0_triesLocks_9 : decode cX0_triesLocks 9 = .ok (.aload_n 0, 1) := dk_42 (dk_at dksX0_triesLocks_0 9 rfl rfl)
theorem dX0_triesLocks_10 : decode cX0_triesLocks 10 = .ok (.getfield 373, 3) := dk_180 1 117 (dk_at dksX0_triesLocks_0 10 rfl rfl)
theorem dX0_triesLocks_13 : decode cX0_triesLocks 13 = .ok (.if_icmp .lt 4, 3) := dk_161 0 4 (dk_at dksX0_triesLocks_0 13 rfl rfl)
theorem dX0_triesLocks_16 : decode cX0_triesLocks 16 = .ok (.return_, 1) := dk_177 (dk_at dksX0_triesLocks_0 16 rfl rfl)
theorem dX0_triesLocks_17 : decode cX0_triesLocks 17 = .ok (.iload_n 1, 1) := dk_27 (dk_at dksX0_triesLocks_0 17 rfl rfl)
theorem dX0_triesLocks_18 : decode cX0_triesLocks 18 = .ok (.aload_n 0, 1) := dk_42 (dk_at dksX0_triesLocks_0 18 rfl rfl)
theorem dX0_triesLocks_19 : decode cX0_triesLocks 19 = .ok (.getfield 153, 3) := dk_180 0 153 (dk_at dksX0_triesLocks_0 19 rfl rfl)
theorem dX0_triesLocks_22 : decode cX0_triesLocks 22 = .ok (.getfield 156, 3) := dk_180 0 156 (dk_at dksX0_triesLocks_1 0 rfl rfl)
theorem dX0_triesLocks_25 : decode cX0_triesLocks 25 = .ok (.if_icmp .ne 24, 3) := dk_160 0 24 (dk_at dksX0_triesLocks_1 3 rfl rfl)
theorem dX0_triesLocks_28 : decode cX0_triesLocks 28 = .ok (.aload_n 0, 1) := dk_42 (dk_at dksX0_triesLocks_1 6 rfl rfl)
theorem dX0_triesLocks_29 : decode cX0_triesLocks 29 = .ok (.iload_n 2, 1) := dk_28 (dk_at dksX0_triesLocks_1 7 rfl rfl)
theorem dX0_triesLocks_30 : decode cX0_triesLocks 30 = .ok (.putfield 373, 3) := dk_181 1 117 (dk_at dksX0_triesLocks_1 8 rfl rfl)
theorem dX0_triesLocks_33 : decode cX0_triesLocks 33 = .ok (.aload_n 0, 1) := dk_42 (dk_at dksX0_triesLocks_1 11 rfl rfl)
theorem dX0_triesLocks_34 : decode cX0_triesLocks 34 = .ok (.getfield 104, 3) := dk_180 0 104 (dk_at dksX0_triesLocks_1 12 rfl rfl)
theorem dX0_triesLocks_37 : decode cX0_triesLocks 37 = .ok (.iconst 0, 1) := dk_3 (dk_at dksX0_triesLocks_1 15 rfl rfl)
theorem dX0_triesLocks_38 : decode cX0_triesLocks 38 = .ok (.aload_n 0, 1) := dk_42 (dk_at dksX0_triesLocks_1 16 rfl rfl)
theorem dX0_triesLocks_39 : decode cX0_triesLocks 39 = .ok (.getfield 107, 3) := dk_180 0 107 (dk_at dksX0_triesLocks_1 17 rfl rfl)
theorem dX0_triesLocks_42 : decode cX0_triesLocks 42 = .ok (.iconst 0, 1) := dk_3 (dk_at dksX0_triesLocks_1 20 rfl rfl)
theorem dX0_triesLocks_43 : decode cX0_triesLocks 43 = .ok (.bipush 8, 2) := dk_16 8 (dk_at dksX0_triesLocks_1 21 rfl rfl)
theorem dX0_triesLocks_45 : decode cX0_triesLocks 45 = .ok (.invokestatic 250, 3) := dk_184 0 250 (dk_at dksX0_triesLocks_2 0 rfl rfl)
theorem dX0_triesLocks_48 : decode cX0_triesLocks 48 = .ok (.return_, 1) := dk_177 (dk_at dksX0_triesLocks_2 3 rfl rfl)
theorem dX0_triesLocks_49 : decode cX0_triesLocks 49 = .ok (.aload_n 0, 1) := dk_42 (dk_at dksX0_triesLocks_2 4 rfl rfl)
theorem dX0_triesLocks_50 : decode cX0_triesLocks 50 = .ok (.getfield 104, 3) := dk_180 0 104 (dk_at dksX0_triesLocks_2 5 rfl rfl)
theorem dX0_triesLocks_53 : decode cX0_triesLocks 53 = .ok (.iload_n 1, 1) := dk_27 (dk_at dksX0_triesLocks_2 8 rfl rfl)
theorem dX0_triesLocks_54 : decode cX0_triesLocks 54 = .ok (.iconst (-1), 1) := dk_2 (dk_at dksX0_triesLocks_2 9 rfl rfl)
theorem dX0_triesLocks_55 : decode cX0_triesLocks 55 = .ok (.iastore, 1) := dk_79 (dk_at dksX0_triesLocks_2 10 rfl rfl)
theorem dX0_triesLocks_56 : decode cX0_triesLocks 56 = .ok (.aload_n 0, 1) := dk_42 (dk_at dksX0_triesLocks_2 11 rfl rfl)
theorem dX0_triesLocks_57 : decode cX0_triesLocks 57 = .ok (.iload_n 1, 1) := dk_27 (dk_at dksX0_triesLocks_2 12 rfl rfl)
theorem dX0_triesLocks_58 : decode cX0_triesLocks 58 = .ok (.invokevirtual 212, 3) := dk_182 0 212 (dk_at dksX0_triesLocks_2 13 rfl rfl)
theorem dX0_triesLocks_61 : decode cX0_triesLocks 61 = .ok (.ifCond .ne 13, 3) := dk_154 0 13 (dk_at dksX0_triesLocks_2 16 rfl rfl)
theorem dX0_triesLocks_64 : decode cX0_triesLocks 64 = .ok (.aload_n 0, 1) := dk_42 (dk_at dksX0_triesLocks_2 19 rfl rfl)
theorem dX0_triesLocks_65 : decode cX0_triesLocks 65 = .ok (.iload_n 1, 1) := dk_27 (dk_at dksX0_triesLocks_2 20 rfl rfl)
theorem dX0_triesLocks_66 : decode cX0_triesLocks 66 = .ok (.iconst 1, 1) := dk_4 (dk_at dksX0_triesLocks_2 21 rfl rfl)
theorem dX0_triesLocks_67 : decode cX0_triesLocks 67 = .ok (.iadd, 1) := dk_96 (dk_at dksX0_triesLocks_2 22 rfl rfl)
theorem dX0_triesLocks_68 : decode cX0_triesLocks 68 = .ok (.iload_n 2, 1) := dk_28 (dk_at dksX0_triesLocks_2 23 rfl rfl)
theorem dX0_triesLocks_69 : decode cX0_triesLocks 69 = .ok (.iload_n 3, 1) := dk_29 (dk_at dksX0_triesLocks_3 0 rfl rfl)
theorem dX0_triesLocks_70 : decode cX0_triesLocks 70 = .ok (.invokevirtual 376, 3) := dk_182 1 120 (dk_at dksX0_triesLocks_3 1 rfl rfl)
theorem dX0_triesLocks_73 : decode cX0_triesLocks 73 = .ok (.return_, 1) := dk_177 (dk_at dksX0_triesLocks_3 4 rfl rfl)
theorem dX0_triesLocks_74 : decode cX0_triesLocks 74 = .ok (.iconst 0, 1) := dk_3 (dk_at dksX0_triesLocks_3 5 rfl rfl)
theorem dX0_triesLocks_75 : decode cX0_triesLocks 75 = .ok (.istore 4, 2) := dk_54 4 (dk_at dksX0_triesLocks_3 6 rfl rfl)
theorem dX0_triesLocks_77 : decode cX0_triesLocks 77 = .ok (.iload 4, 2) := dk_21 4 (dk_at dksX0_triesLocks_3 8 rfl rfl)
theorem dX0_triesLocks_79 : decode cX0_triesLocks 79 = .ok (.iload_n 2, 1) := dk_28 (dk_at dksX0_triesLocks_3 10 rfl rfl)
theorem dX0_triesLocks_80 : decode cX0_triesLocks 80 = .ok (.if_icmp .gt 116, 3) := dk_163 0 116 (dk_at dksX0_triesLocks_3 11 rfl rfl)
theorem dX0_triesLocks_83 : decode cX0_triesLocks 83 = .ok (.iload 4, 2) := dk_21 4 (dk_at dksX0_triesLocks_3 14 rfl rfl)
theorem dX0_triesLocks_85 : decode cX0_triesLocks 85 = .ok (.bipush 8, 2) := dk_16 8 (dk_at dksX0_triesLocks_3 16 rfl rfl)
theorem dX0_triesLocks_87 : decode cX0_triesLocks 87 = .ok (.if_icmp .ge 109, 3) := dk_162 0 109 (dk_at dksX0_triesLocks_3 18 rfl rfl)
theorem dX0_triesLocks_90 : decode cX0_triesLocks 90 = .ok (.iload 4, 2) := dk_21 4 (dk_at dksX0_triesLocks_3 21 rfl rfl)
theorem dX0_triesLocks_92 : decode cX0_triesLocks 92 = .ok (.iload_n 2, 1) := dk_28 (dk_at dksX0_triesLocks_3 23 rfl rfl)
theorem dX0_triesLocks_93 : decode cX0_triesLocks 93 = .ok (.if_icmp .ne 11, 3) := dk_160 0 11 (dk_at dksX0_triesLocks_4 0 rfl rfl)
theorem dX0_triesLocks_96 : decode cX0_triesLocks 96 = .ok (.aload_n 0, 1) := dk_42 (dk_at dksX0_triesLocks_4 3 rfl rfl)
theorem dX0_triesLocks_97 : decode cX0_triesLocks 97 = .ok (.getfield 110, 3) := dk_180 0 110 (dk_at dksX0_triesLocks_4 4 rfl rfl)
theorem dX0_triesLocks_100 : decode cX0_triesLocks 100 = .ok (.iload 4, 2) := dk_21 4 (dk_at dksX0_triesLocks_4 7 rfl rfl)
theorem dX0_triesLocks_102 : decode cX0_triesLocks 102 = .ok (.iconst 0, 1) := dk_3 (dk_at dksX0_triesLocks_4 9 rfl rfl)
theorem dX0_triesLocks_103 : decode cX0_triesLocks 103 = .ok (.iastore, 1) := dk_79 (dk_at dksX0_triesLocks_4 10 rfl rfl)
theorem dX0_triesLocks_104 : decode cX0_triesLocks 104 = .ok (.aload_n 0, 1) := dk_42 (dk_at dksX0_triesLocks_4 11 rfl rfl)
theorem dX0_triesLocks_105 : decode cX0_triesLocks 105 = .ok (.getfield 110, 3) := dk_180 0 110 (dk_at dksX0_triesLocks_4 12 rfl rfl)
theorem dX0_triesLocks_108 : decode cX0_triesLocks 108 = .ok (.iload 4, 2) := dk_21 4 (dk_at dksX0_triesLocks_4 15 rfl rfl)
theorem dX0_triesLocks_110 : decode cX0_triesLocks 110 = .ok (.iaload, 1) := dk_46 (dk_at dksX0_triesLocks_4 17 rfl rfl)
theorem dX0_triesLocks_111 : decode cX0_triesLocks 111 = .ok (.aload_n 0, 1) := dk_42 (dk_at dksX0_triesLocks_4 18 rfl rfl)
theorem dX0_triesLocks_112 : decode cX0_triesLocks 112 = .ok (.getfield 153, 3) := dk_180 0 153 (dk_at dksX0_triesLocks_4 19 rfl rfl)
theorem dX0_triesLocks_115 : decode cX0_triesLocks 115 = .ok (.getfield 202, 3) := dk_180 0 202 (dk_at dksX0_triesLocks_5 0 rfl rfl)
theorem dX0_triesLocks_118 : decode cX0_triesLocks 118 = .ok (.iload_n 1, 1) := dk_27 (dk_at dksX0_triesLocks_5 3 rfl rfl)
theorem dX0_triesLocks_119 : decode cX0_triesLocks 119 = .ok (.iaload, 1) := dk_46 (dk_at dksX0_triesLocks_5 4 rfl rfl)
theorem dX0_triesLocks_120 : decode cX0_triesLocks 120 = .ok (.iadd, 1) := dk_96 (dk_at dksX0_triesLocks_5 5 rfl rfl)
theorem dX0_triesLocks_121 : decode cX0_triesLocks 121 = .ok (.iload_n 3, 1) := dk_29 (dk_at dksX0_triesLocks_5 6 rfl rfl)
theorem dX0_triesLocks_122 : decode cX0_triesLocks 122 = .ok (.if_icmp .le 6, 3) := dk_164 0 6 (dk_at dksX0_triesLocks_5 7 rfl rfl)
theorem dX0_triesLocks_125 : decode cX0_triesLocks 125 = .ok (.goto 65, 3) := dk_167 0 65 (dk_at dksX0_triesLocks_5 10 rfl rfl)
theorem dX0_triesLocks_128 : decode cX0_triesLocks 128 = .ok (.aload_n 0, 1) := dk_42 (dk_at dksX0_triesLocks_5 13 rfl rfl)
theorem dX0_triesLocks_129 : decode cX0_triesLocks 129 = .ok (.getfield 110, 3) := dk_180 0 110 (dk_at dksX0_triesLocks_5 14 rfl rfl)
theorem dX0_triesLocks_132 : decode cX0_triesLocks 132 = .ok (.iload 4, 2) := dk_21 4 (dk_at dksX0_triesLocks_5 17 rfl rfl)
theorem dX0_triesLocks_134 : decode cX0_triesLocks 134 = .ok (.dup2, 1) := dk_92 (dk_at dksX0_triesLocks_5 19 rfl rfl)
theorem dX0_triesLocks_135 : decode cX0_triesLocks 135 = .ok (.iaload, 1) := dk_46 (dk_at dksX0_triesLocks_5 20 rfl rfl)
theorem dX0_triesLocks_136 : decode cX0_triesLocks 136 = .ok (.aload_n 0, 1) := dk_42 (dk_at dksX0_triesLocks_5 21 rfl rfl)
theorem dX0_triesLocks_137 : decode cX0_triesLocks 137 = .ok (.getfield 153, 3) := dk_180 0 153 (dk_at dksX0_triesLocks_6 0 rfl rfl)
theorem dX0_triesLocks_140 : decode cX0_triesLocks 140 = .ok (.getfield 202, 3) := dk_180 0 202 (dk_at dksX0_triesLocks_6 3 rfl rfl)
theorem dX0_triesLocks_143 : decode cX0_triesLocks 143 = .ok (.iload_n 1, 1) := dk_27 (dk_at dksX0_triesLocks_6 6 rfl rfl)
theorem dX0_triesLocks_144 : decode cX0_triesLocks 144 = .ok (.iaload, 1) := dk_46 (dk_at dksX0_triesLocks_6 7 rfl rfl)
theorem dX0_triesLocks_145 : decode cX0_triesLocks 145 = .ok (.iadd, 1) := dk_96 (dk_at dksX0_triesLocks_6 8 rfl rfl)
theorem dX0_triesLocks_146 : decode cX0_triesLocks 146 = .ok (.iastore, 1) := dk_79 (dk_at dksX0_triesLocks_6 9 rfl rfl)
theorem dX0_triesLocks_147 : decode cX0_triesLocks 147 = .ok (.aload_n 0, 1) := dk_42 (dk_at dksX0_triesLocks_6 10 rfl rfl)
theorem dX0_triesLocks_148 : decode cX0_triesLocks 148 = .ok (.getfield 104, 3) := dk_180 0 104 (dk_at dksX0_triesLocks_6 11 rfl rfl)
theorem dX0_triesLocks_151 : decode cX0_triesLocks 151 = .ok (.iload_n 1, 1) := dk_27 (dk_at dksX0_triesLocks_6 14 rfl rfl)
theorem dX0_triesLocks_152 : decode cX0_triesLocks 152 = .ok (.iload 4, 2) := dk_21 4 (dk_at dksX0_triesLocks_6 15 rfl rfl)
theorem dX0_triesLocks_154 : decode cX0_triesLocks 154 = .ok (.iastore, 1) := dk_79 (dk_at dksX0_triesLocks_6 17 rfl rfl)
theorem dX0_triesLocks_155 : decode cX0_triesLocks 155 = .ok (.aload_n 0, 1) := dk_42 (dk_at dksX0_triesLocks_6 18 rfl rfl)
theorem dX0_triesLocks_156 : decode cX0_triesLocks 156 = .ok (.iload_n 1, 1) := dk_27 (dk_at dksX0_triesLocks_6 19 rfl rfl)
theorem dX0_triesLocks_157 : decode cX0_triesLocks 157 = .ok (.iconst 1, 1) := dk_4 (dk_at dksX0_triesLocks_6 20 rfl rfl)
theorem dX0_triesLocks_158 : decode cX0_triesLocks 158 = .ok (.iadd, 1) := dk_96 (dk_at dksX0_triesLocks_6 21 rfl rfl)
theorem dX0_triesLocks_159 : decode cX0_triesLocks 159 = .ok (.iload_n 2, 1) := dk_28 (dk_at dksX0_triesLocks_6 22 rfl rfl)
theorem dX0_triesLocks_160 : decode cX0_triesLocks 160 = .ok (.iload 4, 2) := dk_21 4 (dk_at dksX0_triesLocks_7 0 rfl rfl)
theorem dX0_triesLocks_162 : decode cX0_triesLocks 162 = .ok (.iconst 1, 1) := dk_4 (dk_at dksX0_triesLocks_7 2 rfl rfl)
theorem dX0_triesLocks_163 : decode cX0_triesLocks 163 = .ok (.iadd, 1) := dk_96 (dk_at dksX0_triesLocks_7 3 rfl rfl)
theorem dX0_triesLocks_164 : decode cX0_triesLocks 164 = .ok (.invokestatic 339, 3) := dk_184 1 83 (dk_at dksX0_triesLocks_7 4 rfl rfl)
theorem dX0_triesLocks_167 : decode cX0_triesLocks 167 = .ok (.iload_n 3, 1) := dk_29 (dk_at dksX0_triesLocks_7 7 rfl rfl)
theorem dX0_triesLocks_168 : decode cX0_triesLocks 168 = .ok (.invokevirtual 376, 3) := dk_182 1 120 (dk_at dksX0_triesLocks_7 8 rfl rfl)
theorem dX0_triesLocks_171 : decode cX0_triesLocks 171 = .ok (.aload_n 0, 1) := dk_42 (dk_at dksX0_triesLocks_7 11 rfl rfl)
theorem dX0_triesLocks_172 : decode cX0_triesLocks 172 = .ok (.getfield 110, 3) := dk_180 0 110 (dk_at dksX0_triesLocks_7 12 rfl rfl)
theorem dX0_triesLocks_175 : decode cX0_triesLocks 175 = .ok (.iload 4, 2) := dk_21 4 (dk_at dksX0_triesLocks_7 15 rfl rfl)
theorem dX0_triesLocks_177 : decode cX0_triesLocks 177 = .ok (.dup2, 1) := dk_92 (dk_at dksX0_triesLocks_7 17 rfl rfl)
theorem dX0_triesLocks_178 : decode cX0_triesLocks 178 = .ok (.iaload, 1) := dk_46 (dk_at dksX0_triesLocks_7 18 rfl rfl)
theorem dX0_triesLocks_179 : decode cX0_triesLocks 179 = .ok (.aload_n 0, 1) := dk_42 (dk_at dksX0_triesLocks_7 19 rfl rfl)
theorem dX0_triesLocks_180 : decode cX0_triesLocks 180 = .ok (.getfield 153, 3) := dk_180 0 153 (dk_at dksX0_triesLocks_7 20 rfl rfl)
theorem dX0_triesLocks_183 : decode cX0_triesLocks 183 = .ok (.getfield 202, 3) := dk_180 0 202 (dk_at dksX0_triesLocks_8 0 rfl rfl)
theorem dX0_triesLocks_186 : decode cX0_triesLocks 186 = .ok (.iload_n 1, 1) := dk_27 (dk_at dksX0_triesLocks_8 3 rfl rfl)
theorem dX0_triesLocks_187 : decode cX0_triesLocks 187 = .ok (.iaload, 1) := dk_46 (dk_at dksX0_triesLocks_8 4 rfl rfl)
theorem dX0_triesLocks_188 : decode cX0_triesLocks 188 = .ok (.isub, 1) := dk_100 (dk_at dksX0_triesLocks_8 5 rfl rfl)
theorem dX0_triesLocks_189 : decode cX0_triesLocks 189 = .ok (.iastore, 1) := dk_79 (dk_at dksX0_triesLocks_8 6 rfl rfl)
theorem dX0_triesLocks_190 : decode cX0_triesLocks 190 = .ok (.iinc 4 1, 3) := dk_132 4 1 (dk_at dksX0_triesLocks_8 7 rfl rfl)
theorem dX0_triesLocks_193 : decode cX0_triesLocks 193 = .ok (.goto (-116), 3) := dk_167 255 140 (dk_at dksX0_triesLocks_8 10 rfl rfl)
theorem dX0_triesLocks_196 : decode cX0_triesLocks 196 = .ok (.return_, 1) := dk_177 (dk_at dksX0_triesLocks_8 13 rfl rfl)
abbrev cX0_delta : ByteArray := prog_1_method_46_code
def yX0_delta : MethodName := ⟨RX0, "delta", "(I)I"⟩
def dkwX0_delta_9 : List UInt8 := [132, 4, 1, 167, 255, 124, 27, 154, 0, 7, 28, 167, 0, 4, 29, 172]
abbrev dktX0_delta_9 : List UInt8 := dkwX0_delta_9 ++ []
def dkwX0_delta_8 : List UInt8 := [182, 1, 136, 28, 21, 4, 96, 61, 132, 3, 1, 132, 6, 1, 167, 255, 164, 132, 5, 1, 167, 255, 140]
abbrev dktX0_delta_8 : List UInt8 := dkwX0_delta_8 ++ dktX0_delta_9
def dkwX0_delta_7 : List UInt8 := [21, 4, 159, 0, 6, 167, 0, 29, 42, 42, 180, 0, 113, 21, 6, 46, 42, 180, 0, 113, 21, 5, 46]
abbrev dktX0_delta_7 : List UInt8 := dkwX0_delta_7 ++ dktX0_delta_8
def dkwX0_delta_6 : List UInt8 := [180, 0, 113, 21, 5, 46, 42, 180, 0, 113, 21, 6, 46, 159, 0, 45, 42, 21, 5, 21, 6, 182, 1, 133]
abbrev dktX0_delta_6 : List UInt8 := dkwX0_delta_6 ++ dktX0_delta_7
def dkwX0_delta_5 : List UInt8 := [162, 0, 86, 42, 21, 5, 182, 0, 212, 153, 0, 71, 42, 21, 6, 182, 0, 212, 153, 0, 62, 42]
abbrev dktX0_delta_5 : List UInt8 := dkwX0_delta_5 ++ dktX0_delta_6
def dkwX0_delta_4 : List UInt8 := [180, 0, 153, 180, 0, 156, 162, 0, 110, 21, 5, 4, 96, 54, 6, 21, 6, 42, 180, 0, 153, 180, 0, 156]
abbrev dktX0_delta_4 : List UInt8 := dkwX0_delta_4 ++ dktX0_delta_5
def dkwX0_delta_3 : List UInt8 := [132, 4, 1, 167, 255, 209, 4, 54, 4, 21, 4, 16, 11, 163, 0, 131, 3, 54, 5, 21, 5, 42]
abbrev dktX0_delta_3 : List UInt8 := dkwX0_delta_3 ++ dktX0_delta_4
def dkwX0_delta_2 : List UInt8 := [182, 0, 212, 153, 0, 18, 42, 180, 0, 153, 21, 4, 182, 0, 213, 184, 1, 130, 167, 0, 4, 2, 79]
abbrev dktX0_delta_2 : List UInt8 := dkwX0_delta_2 ++ dktX0_delta_3
def dkwX0_delta_1 : List UInt8 := [54, 4, 21, 4, 42, 180, 0, 153, 180, 0, 156, 162, 0, 41, 42, 180, 0, 113, 21, 4, 42, 21, 4]
abbrev dktX0_delta_1 : List UInt8 := dkwX0_delta_1 ++ dktX0_delta_2
def dkwX0_delta_0 : List UInt8 := [42, 180, 0, 153, 198, 0, 13, 27, 133, 9, 10, 184, 0, 234, 154, 0, 5, 2, 172, 3, 61, 3, 62, 3]
abbrev dktX0_delta_0 : List UInt8 := dkwX0_delta_0 ++ dktX0_delta_1
theorem dksX0_delta_0 : cX0_delta.data.toList.drop 0 = dktX0_delta_0 := by decide +kernel
theorem dksX0_delta_1 : cX0_delta.data.toList.drop 24 = dktX0_delta_1 := dk_seg dksX0_delta_0 24 rfl rfl
theorem dksX0_delta_2 : cX0_delta.data.toList.drop 47 = dktX0_delta_2 := dk_seg dksX0_delta_1 23 rfl rfl
theorem dksX0_delta_3 : cX0_delta.data.toList.drop 70 = dktX0_delta_3 := dk_seg dksX0_delta_2 23 rfl rfl
theorem dksX0_delta_4 : cX0_delta.data.toList.drop 92 = dktX0_delta_4 := dk_seg dksX0_delta_3 22 rfl rfl
theorem dksX0_delta_5 : cX0_delta.data.toList.drop 116 = dktX0_delta_5 := dk_seg dksX0_delta_4 24 rfl rfl
theorem dksX0_delta_6 : cX0_delta.data.toList.drop 138 = dktX0_delta_6 := dk_seg dksX0_delta_5 22 rfl rfl
theorem dksX0_delta_7 : cX0_delta.data.toList.drop 162 = dktX0_delta_7 := dk_seg dksX0_delta_6 24 rfl rfl
theorem dksX0_delta_8 : cX0_delta.data.toList.drop 185 = dktX0_delta_8 := dk_seg dksX0_delta_7 23 rfl rfl
theorem dksX0_delta_9 : cX0_delta.data.toList.drop 208 = dktX0_delta_9 := dk_seg dksX0_delta_8 23 rfl rfl
theorem dX0_delta_0 : decode cX0_delta 0 = .ok (.aload_n 0, 1) := dk_42 (dk_at dksX0_delta_0 0 rfl rfl)
theorem dX0_delta_1 : decode cX0_delta 1 = .ok (.getfield 153, 3) := dk_180 0 153 (dk_at dksX0_delta_0 1 rfl rfl)
theorem dX0_delta_4 : decode cX0_delta 4 = .ok (.ifnull 13, 3) := dk_198 0 13 (dk_at dksX0_delta_0 4 rfl rfl)
theorem dX0_delta_7 : decode cX0_delta 7 = .ok (.iload_n 1, 1) := dk_27 (dk_at dksX0_delta_0 7 rfl rfl)
theorem dX0_delta_8 : decode cX0_delta 8 = .ok (.i2l, 1) := dk_133 (dk_at dksX0_delta_0 8 rfl rfl)
theorem dX0_delta_9 : decode cX0_delta 9 = .ok (.lconst 0, 1) := dk_9 (dk_at dksX0_delta_0 9 rfl rfl)
theorem dX0_delta_10 : decode cX0_delta 10 = .ok (.lconst 1, 1) := dk_10 (dk_at dksX0_delta_0 10 rfl rfl)
theorem dX0_delta_11 : decode cX0_delta 11 = .ok (.invokestatic 234, 3) := dk_184 0 234 (dk_at dksX0_delta_0 11 rfl rfl)
theorem dX0_delta_14 : decode cX0_delta 14 = .ok (.ifCond .ne 5, 3) := dk_154 0 5 (dk_at dksX0_delta_0 14 rfl rfl)
theorem dX0_delta_17 : decode cX0_delta 17 = .ok (.iconst (-1), 1) := dk_2 (dk_at dksX0_delta_0 17 rfl rfl)
theorem dX0_delta_18 : decode cX0_delta 18 = .ok (.ireturn, 1) := dk_172 (dk_at dksX0_delta_0 18 rfl rfl)
theorem dX0_delta_19 : decode cX0_delta 19 = .ok (.iconst 0, 1) := dk_3 (dk_at dksX0_delta_0 19 rfl rfl)
theorem dX0_delta_20 : decode cX0_delta 20 = .ok (.istore_n 2, 1) := dk_61 (dk_at dksX0_delta_0 20 rfl rfl)
theorem dX0_delta_21 : decode cX0_delta 21 = .ok (.iconst 0, 1) := dk_3 (dk_at dksX0_delta_0 21 rfl rfl)
theorem dX0_delta_22 : decode cX0_delta 22 = .ok (.istore_n 3, 1) := dk_62 (dk_at dksX0_delta_0 22 rfl rfl)
theorem dX0_delta_23 : decode cX0_delta 23 = .ok (.iconst 0, 1) := dk_3 (dk_at dksX0_delta_0 23 rfl rfl)
theorem dX0_delta_24 : decode cX0_delta 24 = .ok (.istore 4, 2) := dk_54 4 (dk_at dksX0_delta_1 0 rfl rfl)
theorem dX0_delta_26 : decode cX0_delta 26 = .ok (.iload 4, 2) := dk_21 4 (dk_at dksX0_delta_1 2 rfl rfl)
theorem dX0_delta_28 : decode cX0_delta 28 = .ok (.aload_n 0, 1) := dk_42 (dk_at dksX0_delta_1 4 rfl rfl)
theorem dX0_delta_29 : decode cX0_delta 29 = .ok (.getfield 153, 3) := dk_180 0 153 (dk_at dksX0_delta_1 5 rfl rfl)
theorem dX0_delta_32 : decode cX0_delta 32 = .ok (.getfield 156, 3) := dk_180 0 156 (dk_at dksX0_delta_1 8 rfl rfl)
theorem dX0_delta_35 : decode cX0_delta 35 = .ok (.if_icmp .ge 41, 3) := dk_162 0 41 (dk_at dksX0_delta_1 11 rfl rfl)
theorem dX0_delta_38 : decode cX0_delta 38 = .ok (.aload_n 0, 1) := dk_42 (dk_at dksX0_delta_1 14 rfl rfl)
theorem dX0_delta_39 : decode cX0_delta 39 = .ok (.getfield 113, 3) := dk_180 0 113 (dk_at dksX0_delta_1 15 rfl rfl)
theorem dX0_delta_42 : decode cX0_delta 42 = .ok (.iload 4, 2) := dk_21 4 (dk_at dksX0_delta_1 18 rfl rfl)
theorem dX0_delta_44 : decode cX0_delta 44 = .ok (.aload_n 0, 1) := dk_42 (dk_at dksX0_delta_1 20 rfl rfl)
theorem dX0_delta_45 : decode cX0_delta 45 = .ok (.iload 4, 2) := dk_21 4 (dk_at dksX0_delta_1 21 rfl rfl)
theorem dX0_delta_47 : decode cX0_delta 47 = .ok (.invokevirtual 212, 3) := dk_182 0 212 (dk_at dksX0_delta_2 0 rfl rfl)
theorem dX0_delta_50 : decode cX0_delta 50 = .ok (.ifCond .eq 18, 3) := dk_153 0 18 (dk_at dksX0_delta_2 3 rfl rfl)
theorem dX0_delta_53 : decode cX0_delta 53 = .ok (.aload_n 0, 1) := dk_42 (dk_at dksX0_delta_2 6 rfl rfl)
theorem dX0_delta_54 : decode cX0_delta 54 = .ok (.getfield 153, 3) := dk_180 0 153 (dk_at dksX0_delta_2 7 rfl rfl)
theorem dX0_delta_57 : decode cX0_delta 57 = .ok (.iload 4, 2) := dk_21 4 (dk_at dksX0_delta_2 10 rfl rfl)
theorem dX0_delta_59 : decode cX0_delta 59 = .ok (.invokevirtual 213, 3) := dk_182 0 213 (dk_at dksX0_delta_2 12 rfl rfl)
theorem dX0_delta_62 : decode cX0_delta 62 = .ok (.invokestatic 386, 3) := dk_184 1 130 (dk_at dksX0_delta_2 15 rfl rfl)
theorem dX0_delta_65 : decode cX0_delta 65 = .ok (.goto 4, 3) := dk_167 0 4 (dk_at dksX0_delta_2 18 rfl rfl)
theorem dX0_delta_68 : decode cX0_delta 68 = .ok (.iconst (-1), 1) := dk_2 (dk_at dksX0_delta_2 21 rfl rfl)
theorem dX0_delta_69 : decode cX0_delta 69 = .ok (.iastore, 1) := dk_79 (dk_at dksX0_delta_2 22 rfl rfl)
theorem dX0_delta_70 : decode cX0_delta 70 = .ok (.iinc 4 1, 3) := dk_132 4 1 (dk_at dksX0_delta_3 0 rfl rfl)
theorem dX0_delta_73 : decode cX0_delta 73 = .ok (.goto (-47), 3) := dk_167 255 209 (dk_at dksX0_delta_3 3 rfl rfl)
theorem dX0_delta_76 : decode cX0_delta 76 = .ok (.iconst 1, 1) := dk_4 (dk_at dksX0_delta_3 6 rfl rfl)
theorem dX0_delta_77 : decode cX0_delta 77 = .ok (.istore 4, 2) := dk_54 4 (dk_at dksX0_delta_3 7 rfl rfl)
theorem dX0_delta_79 : decode cX0_delta 79 = .ok (.iload 4, 2) := dk_21 4 (dk_at dksX0_delta_3 9 rfl rfl)
theorem dX0_delta_81 : decode cX0_delta 81 = .ok (.bipush 11, 2) := dk_16 11 (dk_at dksX0_delta_3 11 rfl rfl)
theorem dX0_delta_83 : decode cX0_delta 83 = .ok (.if_icmp .gt 131, 3) := dk_163 0 131 (dk_at dksX0_delta_3 13 rfl rfl)
theorem dX0_delta_86 : decode cX0_delta 86 = .ok (.iconst 0, 1) := dk_3 (dk_at dksX0_delta_3 16 rfl rfl)
theorem dX0_delta_87 : decode cX0_delta 87 = .ok (.istore 5, 2) := dk_54 5 (dk_at dksX0_delta_3 17 rfl rfl)
theorem dX0_delta_89 : decode cX0_delta 89 = .ok (.iload 5, 2) := dk_21 5 (dk_at dksX0_delta_3 19 rfl rfl)
theorem dX0_delta_91 : decode cX0_delta 91 = .ok (.aload_n 0, 1) := dk_42 (dk_at dksX0_delta_3 21 rfl rfl)
theorem dX0_delta_92 : decode cX0_delta 92 = .ok (.getfield 153, 3) := dk_180 0 153 (dk_at dksX0_delta_4 0 rfl rfl)
theorem dX0_delta_95 : decode cX0_delta 95 = .ok (.getfield 156, 3) := dk_180 0 156 (dk_at dksX0_delta_4 3 rfl rfl)
theorem dX0_delta_98 : decode cX0_delta 98 = .ok (.if_icmp .ge 110, 3) := dk_162 0 110 (dk_at dksX0_delta_4 6 rfl rfl)
theorem dX0_delta_101 : decode cX0_delta 101 = .ok (.iload 5, 2) := dk_21 5 (dk_at dksX0_delta_4 9 rfl rfl)
theorem dX0_delta_103 : decode cX0_delta 103 = .ok (.iconst 1, 1) := dk_4 (dk_at dksX0_delta_4 11 rfl rfl)
theorem dX0_delta_104 : decode cX0_delta 104 = .ok (.iadd, 1) := dk_96 (dk_at dksX0_delta_4 12 rfl rfl)
theorem dX0_delta_105 : decode cX0_delta 105 = .ok (.istore 6, 2) := dk_54 6 (dk_at dksX0_delta_4 13 rfl rfl)
theorem dX0_delta_107 : decode cX0_delta 107 = .ok (.iload 6, 2) := dk_21 6 (dk_at dksX0_delta_4 15 rfl rfl)
theorem dX0_delta_109 : decode cX0_delta 109 = .ok (.aload_n 0, 1) := dk_42 (dk_at dksX0_delta_4 17 rfl rfl)
theorem dX0_delta_110 : decode cX0_delta 110 = .ok (.getfield 153, 3) := dk_180 0 153 (dk_at dksX0_delta_4 18 rfl rfl)
theorem dX0_delta_113 : decode cX0_delta 113 = .ok (.getfield 156, 3) := dk_180 0 156 (dk_at dksX0_delta_4 21 rfl rfl)
theorem dX0_delta_116 : decode cX0_delta 116 = .ok (.if_icmp .ge 86, 3) := dk_162 0 86 (dk_at dksX0_delta_5 0 rfl rfl)
theorem dX0_delta_119 : decode cX0_delta 119 = .ok (.aload_n 0, 1) := dk_42 (dk_at dksX0_delta_5 3 rfl rfl)
theorem dX0_delta_120 : decode cX0_delta 120 = .ok (.iload 5, 2) := dk_21 5 (dk_at dksX0_delta_5 4 rfl rfl)
theorem dX0_delta_122 : decode cX0_delta 122 = .ok (.invokevirtual 212, 3) := dk_182 0 212 (dk_at dksX0_delta_5 6 rfl rfl)
theorem dX0_delta_125 : decode cX0_delta 125 = .ok (.ifCond .eq 71, 3) := dk_153 0 71 (dk_at dksX0_delta_5 9 rfl rfl)
theorem dX0_delta_128 : decode cX0_delta 128 = .ok (.aload_n 0, 1) := dk_42 (dk_at dksX0_delta_5 12 rfl rfl)
theorem dX0_delta_129 : decode cX0_delta 129 = .ok (.iload 6, 2) := dk_21 6 (dk_at dksX0_delta_5 13 rfl rfl)
theorem dX0_delta_131 : decode cX0_delta 131 = .ok (.invokevirtual 212, 3) := dk_182 0 212 (dk_at dksX0_delta_5 15 rfl rfl)
theorem dX0_delta_134 : decode cX0_delta 134 = .ok (.ifCond .eq 62, 3) := dk_153 0 62 (dk_at dksX0_delta_5 18 rfl rfl)
theorem dX0_delta_137 : decode cX0_delta 137 = .ok (.aload_n 0, 1) := dk_42 (dk_at dksX0_delta_5 21 rfl rfl)
theorem dX0_delta_138 : decode cX0_delta 138 = .ok (.getfield 113, 3) := dk_180 0 113 (dk_at dksX0_delta_6 0 rfl rfl)
theorem dX0_delta_141 : decode cX0_delta 141 = .ok (.iload 5, 2) := dk_21 5 (dk_at dksX0_delta_6 3 rfl rfl)
theorem dX0_delta_143 : decode cX0_delta 143 = .ok (.iaload, 1) := dk_46 (dk_at dksX0_delta_6 5 rfl rfl)
theorem dX0_delta_144 : decode cX0_delta 144 = .ok (.aload_n 0, 1) := dk_42 (dk_at dksX0_delta_6 6 rfl rfl)
theorem dX0_delta_145 : decode cX0_delta 145 = .ok (.getfield 113, 3) := dk_180 0 113 (dk_at dksX0_delta_6 7 rfl rfl)
theorem dX0_delta_148 : decode cX0_delta 148 = .ok (.iload 6, 2) := dk_21 6 (dk_at dksX0_delta_6 10 rfl rfl)
theorem dX0_delta_150 : decode cX0_delta 150 = .ok (.iaload, 1) := dk_46 (dk_at dksX0_delta_6 12 rfl rfl)
theorem dX0_delta_151 : decode cX0_delta 151 = .ok (.if_icmp .eq 45, 3) := dk_159 0 45 (dk_at dksX0_delta_6 13 rfl rfl)
theorem dX0_delta_154 : decode cX0_delta 154 = .ok (.aload_n 0, 1) := dk_42 (dk_at dksX0_delta_6 16 rfl rfl)
theorem dX0_delta_155 : decode cX0_delta 155 = .ok (.iload 5, 2) := dk_21 5 (dk_at dksX0_delta_6 17 rfl rfl)
theorem dX0_delta_157 : decode cX0_delta 157 = .ok (.iload 6, 2) := dk_21 6 (dk_at dksX0_delta_6 19 rfl rfl)
theorem dX0_delta_159 : decode cX0_delta 159 = .ok (.invokevirtual 389, 3) := dk_182 1 133 (dk_at dksX0_delta_6 21 rfl rfl)
theorem dX0_delta_162 : decode cX0_delta 162 = .ok (.iload 4, 2) := dk_21 4 (dk_at dksX0_delta_7 0 rfl rfl)
theorem dX0_delta_164 : decode cX0_delta 164 = .ok (.if_icmp .eq 6, 3) := dk_159 0 6 (dk_at dksX0_delta_7 2 rfl rfl)
theorem dX0_delta_167 : decode cX0_delta 167 = .ok (.goto 29, 3) := dk_167 0 29 (dk_at dksX0_delta_7 5 rfl rfl)
theorem dX0_delta_170 : decode cX0_delta 170 = .ok (.aload_n 0, 1) := dk_42 (dk_at dksX0_delta_7 8 rfl rfl)
theorem dX0_delta_171 : decode cX0_delta 171 = .ok (.aload_n 0, 1) := dk_42 (dk_at dksX0_delta_7 9 rfl rfl)
theorem dX0_delta_172 : decode cX0_delta 172 = .ok (.getfield 113, 3) := dk_180 0 113 (dk_at dksX0_delta_7 10 rfl rfl)
theorem dX0_delta_175 : decode cX0_delta 175 = .ok (.iload 6, 2) := dk_21 6 (dk_at dksX0_delta_7 13 rfl rfl)
theorem dX0_delta_177 : decode cX0_delta 177 = .ok (.iaload, 1) := dk_46 (dk_at dksX0_delta_7 15 rfl rfl)
theorem dX0_delta_178 : decode cX0_delta 178 = .ok (.aload_n 0, 1) := dk_42 (dk_at dksX0_delta_7 16 rfl rfl)
theorem dX0_delta_179 : decode cX0_delta 179 = .ok (.getfield 113, 3) := dk_180 0 113 (dk_at dksX0_delta_7 17 rfl rfl)
theorem dX0_delta_182 : decode cX0_delta 182 = .ok (.iload 5, 2) := dk_21 5 (dk_at dksX0_delta_7 20 rfl rfl)
theorem dX0_delta_184 : decode cX0_delta 184 = .ok (.iaload, 1) := dk_46 (dk_at dksX0_delta_7 22 rfl rfl)
theorem dX0_delta_185 : decode cX0_delta 185 = .ok (.invokevirtual 392, 3) := dk_182 1 136 (dk_at dksX0_delta_8 0 rfl rfl)
theorem dX0_delta_188 : decode cX0_delta 188 = .ok (.iload_n 2, 1) := dk_28 (dk_at dksX0_delta_8 3 rfl rfl)
theorem dX0_delta_189 : decode cX0_delta 189 = .ok (.iload 4, 2) := dk_21 4 (dk_at dksX0_delta_8 4 rfl rfl)
theorem dX0_delta_191 : decode cX0_delta 191 = .ok (.iadd, 1) := dk_96 (dk_at dksX0_delta_8 6 rfl rfl)
theorem dX0_delta_192 : decode cX0_delta 192 = .ok (.istore_n 2, 1) := dk_61 (dk_at dksX0_delta_8 7 rfl rfl)
theorem dX0_delta_193 : decode cX0_delta 193 = .ok (.iinc 3 1, 3) := dk_132 3 1 (dk_at dksX0_delta_8 8 rfl rfl)
theorem dX0_delta_196 : decode cX0_delta 196 = .ok (.iinc 6 1, 3) := dk_132 6 1 (dk_at dksX0_delta_8 11 rfl rfl)
theorem dX0_delta_199 : decode cX0_delta 199 = .ok (.goto (-92), 3) := dk_167 255 164 (dk_at dksX0_delta_8 14 rfl rfl)
theorem dX0_delta_202 : decode cX0_delta 202 = .ok (.iinc 5 1, 3) := dk_132 5 1 (dk_at dksX0_delta_8 17 rfl rfl)
theorem dX0_delta_205 : decode cX0_delta 205 = .ok (.goto (-116), 3) := dk_167 255 140 (dk_at dksX0_delta_8 20 rfl rfl)
theorem dX0_delta_208 : decode cX0_delta 208 = .ok (.iinc 4 1, 3) := dk_132 4 1 (dk_at dksX0_delta_9 0 rfl rfl)
theorem dX0_delta_211 : decode cX0_delta 211 = .ok (.goto (-132), 3) := dk_167 255 124 (dk_at dksX0_delta_9 3 rfl rfl)
theorem dX0_delta_214 : decode cX0_delta 214 = .ok (.iload_n 1, 1) := dk_27 (dk_at dksX0_delta_9 6 rfl rfl)
theorem dX0_delta_215 : decode cX0_delta 215 = .ok (.ifCond .ne 7, 3) := dk_154 0 7 (dk_at dksX0_delta_9 7 rfl rfl)
theorem dX0_delta_218 : decode cX0_delta 218 = .ok (.iload_n 2, 1) := dk_28 (dk_at dksX0_delta_9 10 rfl rfl)
theorem dX0_delta_219 : decode cX0_delta 219 = .ok (.goto 4, 3) := dk_167 0 4 (dk_at dksX0_delta_9 11 rfl rfl)
theorem dX0_delta_222 : decode cX0_delta 222 = .ok (.iload_n 3, 1) := dk_29 (dk_at dksX0_delta_9 14 rfl rfl)
theorem dX0_delta_223 : decode cX0_delta 223 = .ok (.ireturn, 1) := dk_172 (dk_at dksX0_delta_9 15 rfl rfl)
abbrev cX0_lengthOf : ByteArray := prog_1_method_44_code
def yX0_lengthOf : MethodName := ⟨RX0, "lengthOf", "(II)I"⟩
def dkwX0_lengthOf_1 : List UInt8 := [108, 96, 172]
abbrev dktX0_lengthOf_1 : List UInt8 := dkwX0_lengthOf_1 ++ []
def dkwX0_lengthOf_0 : List UInt8 := [4, 42, 180, 0, 153, 180, 0, 202, 27, 46, 42, 180, 0, 153, 180, 0, 202, 28, 46, 100, 184, 1, 127, 8]
abbrev dktX0_lengthOf_0 : List UInt8 := dkwX0_lengthOf_0 ++ dktX0_lengthOf_1
theorem dksX0_lengthOf_0 : cX0_lengthOf.data.toList.drop 0 = dktX0_lengthOf_0 := by decide +kernel
theorem dksX0_lengthOf_1 : cX0_lengthOf.data.toList.drop 24 = dktX0_lengthOf_1 := dk_seg dksX0_lengthOf_0 24 rfl rfl
theorem dX0_lengthOf_0 : decode cX0_lengthOf 0 = .ok (.iconst 1, 1) := dk_4 (dk_at dksX0_lengthOf_0 0 rfl rfl)
theorem dX0_lengthOf_1 : decode cX0_lengthOf 1 = .ok (.aload_n 0, 1) := dk_42 (dk_at dksX0_lengthOf_0 1 rfl rfl)
theorem dX0_lengthOf_2 : decode cX0_lengthOf 2 = .ok (.getfield 153, 3) := dk_180 0 153 (dk_at dksX0_lengthOf_0 2 rfl rfl)
theorem dX0_lengthOf_5 : decode cX0_lengthOf 5 = .ok (.getfield 202, 3) := dk_180 0 202 (dk_at dksX0_lengthOf_0 5 rfl rfl)
theorem dX0_lengthOf_8 : decode cX0_lengthOf 8 = .ok (.iload_n 1, 1) := dk_27 (dk_at dksX0_lengthOf_0 8 rfl rfl)
theorem dX0_lengthOf_9 : decode cX0_lengthOf 9 = .ok (.iaload, 1) := dk_46 (dk_at dksX0_lengthOf_0 9 rfl rfl)
theorem dX0_lengthOf_10 : decode cX0_lengthOf 10 = .ok (.aload_n 0, 1) := dk_42 (dk_at dksX0_lengthOf_0 10 rfl rfl)
theorem dX0_lengthOf_11 : decode cX0_lengthOf 11 = .ok (.getfield 153, 3) := dk_180 0 153 (dk_at dksX0_lengthOf_0 11 rfl rfl)
theorem dX0_lengthOf_14 : decode cX0_lengthOf 14 = .ok (.getfield 202, 3) := dk_180 0 202 (dk_at dksX0_lengthOf_0 14 rfl rfl)
theorem dX0_lengthOf_17 : decode cX0_lengthOf 17 = .ok (.iload_n 2, 1) := dk_28 (dk_at dksX0_lengthOf_0 17 rfl rfl)
theorem dX0_lengthOf_18 : decode cX0_lengthOf 18 = .ok (.iaload, 1) := dk_46 (dk_at dksX0_lengthOf_0 18 rfl rfl)
theorem dX0_lengthOf_19 : decode cX0_lengthOf 19 = .ok (.isub, 1) := dk_100 (dk_at dksX0_lengthOf_0 19 rfl rfl)
theorem dX0_lengthOf_20 : decode cX0_lengthOf 20 = .ok (.invokestatic 383, 3) := dk_184 1 127 (dk_at dksX0_lengthOf_0 20 rfl rfl)
theorem dX0_lengthOf_23 : decode cX0_lengthOf 23 = .ok (.iconst 5, 1) := dk_8 (dk_at dksX0_lengthOf_0 23 rfl rfl)
theorem dX0_lengthOf_24 : decode cX0_lengthOf 24 = .ok (.idiv, 1) := dk_108 (dk_at dksX0_lengthOf_1 0 rfl rfl)
theorem dX0_lengthOf_25 : decode cX0_lengthOf 25 = .ok (.iadd, 1) := dk_96 (dk_at dksX0_lengthOf_1 1 rfl rfl)
theorem dX0_lengthOf_26 : decode cX0_lengthOf 26 = .ok (.ireturn, 1) := dk_172 (dk_at dksX0_lengthOf_1 2 rfl rfl)
abbrev cX0_joins : ByteArray := prog_1_method_45_code
def yX0_joins : MethodName := ⟨RX0, "joins", "(II)V"⟩
def dkwX0_joins_1 : List UInt8 := [180, 0, 113, 29, 28, 79, 132, 3, 1, 167, 255, 225, 177]
abbrev dktX0_joins_1 : List UInt8 := dkwX0_joins_1 ++ []
def dkwX0_joins_0 : List UInt8 := [3, 62, 29, 42, 180, 0, 153, 180, 0, 156, 162, 0, 26, 42, 180, 0, 113, 29, 46, 27, 160, 0, 10, 42]
abbrev dktX0_joins_0 : List UInt8 := dkwX0_joins_0 ++ dktX0_joins_1
theorem dksX0_joins_0 : cX0_joins.data.toList.drop 0 = dktX0_joins_0 := by decide +kernel
theorem dksX0_joins_1 : cX0_joins.data.toList.drop 24 = dktX0_joins_1 := dk_seg dksX0_joins_0 24 rfl rfl
theorem dX0_joins_0 : decode cX0_joins 0 = .ok (.iconst 0, 1) := dk_3 (dk_at dksX0_joins_0 0 rfl rfl)
theorem dX0_joins_1 : decode cX0_joins 1 = .ok (.istore_n 3, 1) := dk_62 (dk_at dksX0_joins_0 1 rfl rfl)
theorem dX0_joins_2 : decode cX0_joins 2 = .ok (.iload_n 3, 1) := dk_29 (dk_at dksX0_joins_0 2 rfl rfl)
theorem dX0_joins_3 : decode cX0_joins 3 = .ok (.aload_n 0, 1) := dk_42 (dk_at dksX0_joins_0 3 rfl rfl)
theorem dX0_joins_4 : decode cX0_joins 4 = .ok (.getfield 153, 3) := dk_180 0 153 (dk_at dksX0_joins_0 4 rfl rfl)
theorem dX0_joins_7 : decode cX0_joins 7 = .ok (.getfield 156, 3) := dk_180 0 156 (dk_at dksX0_joins_0 7 rfl rfl)
theorem dX0_joins_10 : decode cX0_joins 10 = .ok (.if_icmp .ge 26, 3) := dk_162 0 26 (dk_at dksX0_joins_0 10 rfl rfl)
theorem dX0_joins_13 : decode cX0_joins 13 = .ok (.aload_n 0, 1) := dk_42 (dk_at dksX0_joins_0 13 rfl rfl)
theorem dX0_joins_14 : decode cX0_joins 14 = .ok (.getfield 113, 3) := dk_180 0 113 (dk_at dksX0_joins_0 14 rfl rfl)
theorem dX0_joins_17 : decode cX0_joins 17 = .ok (.iload_n 3, 1) := dk_29 (dk_at dksX0_joins_0 17 rfl rfl)
theorem dX0_joins_18 : decode cX0_joins 18 = .ok (.iaload, 1) := dk_46 (dk_at dksX0_joins_0 18 rfl rfl)
theorem dX0_joins_19 : decode cX0_joins 19 = .ok (.iload_n 1, 1) := dk_27 (dk_at dksX0_joins_0 19 rfl rfl)
theorem dX0_joins_20 : decode cX0_joins 20 = .ok (.if_icmp .ne 10, 3) := dk_160 0 10 (dk_at dksX0_joins_0 20 rfl rfl)
theorem dX0_joins_23 : decode cX0_joins 23 = .ok (.aload_n 0, 1) := dk_42 (dk_at dksX0_joins_0 23 rfl rfl)
theorem dX0_joins_24 : decode cX0_joins 24 = .ok (.getfield 113, 3) := dk_180 0 113 (dk_at dksX0_joins_1 0 rfl rfl)
theorem dX0_joins_27 : decode cX0_joins 27 = .ok (.iload_n 3, 1) := dk_29 (dk_at dksX0_joins_1 3 rfl rfl)
theorem dX0_joins_28 : decode cX0_joins 28 = .ok (.iload_n 2, 1) := dk_28 (dk_at dksX0_joins_1 4 rfl rfl)
theorem dX0_joins_29 : decode cX0_joins 29 = .ok (.iastore, 1) := dk_79 (dk_at dksX0_joins_1 5 rfl rfl)
theorem dX0_joins_30 : decode cX0_joins 30 = .ok (.iinc 3 1, 3) := dk_132 3 1 (dk_at dksX0_joins_1 6 rfl rfl)
theorem dX0_joins_33 : decode cX0_joins 33 = .ok (.goto (-31), 3) := dk_167 255 225 (dk_at dksX0_joins_1 9 rfl rfl)
theorem dX0_joins_36 : decode cX0_joins 36 = .ok (.return_, 1) := dk_177 (dk_at dksX0_joins_1 12 rfl rfl)
abbrev cX0_weak : ByteArray := prog_1_method_48_code
def yX0_weak : MethodName := ⟨RX0, "weak", "(I)I"⟩
def dkwX0_weak_6 : List UInt8 := [132, 3, 1, 167, 255, 188, 28, 172]
abbrev dktX0_weak_6 : List UInt8 := dkwX0_weak_6 ++ []
def dkwX0_weak_5 : List UInt8 := [42, 180, 0, 153, 180, 0, 225, 29, 46, 184, 1, 38, 153, 0, 7, 3, 167, 0, 6, 4, 29, 120, 128, 61]
abbrev dktX0_weak_5 : List UInt8 := dkwX0_weak_5 ++ dktX0_weak_6
def dkwX0_weak_4 : List UInt8 := [180, 0, 153, 180, 0, 222, 29, 46, 42, 180, 0, 153, 182, 0, 187, 4, 29, 120, 2, 130, 126, 182, 1, 139]
abbrev dktX0_weak_4 : List UInt8 := dkwX0_weak_4 ++ dktX0_weak_5
def dkwX0_weak_3 : List UInt8 := [167, 255, 216, 28, 172, 3, 62, 29, 42, 180, 0, 153, 180, 0, 216, 162, 0, 63, 28, 42, 180, 0, 153, 42]
abbrev dktX0_weak_3 : List UInt8 := dkwX0_weak_3 ++ dktX0_weak_4
def dkwX0_weak_2 : List UInt8 := [153, 0, 17, 42, 29, 182, 1, 142, 153, 0, 9, 4, 29, 120, 167, 0, 4, 3, 128, 61, 132, 3, 1]
abbrev dktX0_weak_2 : List UInt8 := dkwX0_weak_2 ++ dktX0_weak_3
def dkwX0_weak_1 : List UInt8 := [160, 0, 50, 3, 62, 29, 42, 180, 0, 153, 180, 0, 156, 162, 0, 35, 28, 42, 29, 182, 0, 212]
abbrev dktX0_weak_1 : List UInt8 := dkwX0_weak_1 ++ dktX0_weak_2
def dkwX0_weak_0 : List UInt8 := [42, 180, 0, 153, 198, 0, 13, 27, 133, 9, 10, 184, 0, 234, 154, 0, 5, 2, 172, 3, 61, 27, 4]
abbrev dktX0_weak_0 : List UInt8 := dkwX0_weak_0 ++ dktX0_weak_1
theorem dksX0_weak_0 : cX0_weak.data.toList.drop 0 = dktX0_weak_0 := by decide +kernel
theorem dksX0_weak_1 : cX0_weak.data.toList.drop 23 = dktX0_weak_1 := dk_seg dksX0_weak_0 23 rfl rfl
theorem dksX0_weak_2 : cX0_weak.data.toList.drop 45 = dktX0_weak_2 := dk_seg dksX0_weak_1 22 rfl rfl
theorem dksX0_weak_3 : cX0_weak.data.toList.drop 68 = dktX0_weak_3 := dk_seg dksX0_weak_2 23 rfl rfl
theorem dksX0_weak_4 : cX0_weak.data.toList.drop 92 = dktX0_weak_4 := dk_seg dksX0_weak_3 24 rfl rfl
theorem dksX0_weak_5 : cX0_weak.data.toList.drop 116 = dktX0_weak_5 := dk_seg dksX0_weak_4 24 rfl rfl
theorem dksX0_weak_6 : cX0_weak.data.toList.drop 140 = dktX0_weak_6 := dk_seg dksX0_weak_5 24 rfl rfl
theorem dX0_weak_0 : decode cX0_weak 0 = .ok (.aload_n 0, 1) := dk_42 (dk_at dksX0_weak_0 0 rfl rfl)
theorem dX0_weak_1 : decode cX0_weak 1 = .ok (.getfield 153, 3) := dk_180 0 153 (dk_at dksX0_weak_0 1 rfl rfl)
theorem dX0_weak_4 : decode cX0_weak 4 = .ok (.ifnull 13, 3) := dk_198 0 13 (dk_at dksX0_weak_0 4 rfl rfl)
theorem dX0_weak_7 : decode cX0_weak 7 = .ok (.iload_n 1, 1) := dk_27 (dk_at dksX0_weak_0 7 rfl rfl)
theorem dX0_weak_8 : decode cX0_weak 8 = .ok (.i2l, 1) := dk_133 (dk_at dksX0_weak_0 8 rfl rfl)
theorem dX0_weak_9 : decode cX0_weak 9 = .ok (.lconst 0, 1) := dk_9 (dk_at dksX0_weak_0 9 rfl rfl)
theorem dX0_weak_10 : decode cX0_weak 10 = .ok (.lconst 1, 1) := dk_10 (dk_at dksX0_weak_0 10 rfl rfl)
theorem dX0_weak_11 : decode cX0_weak 11 = .ok (.invokestatic 234, 3) := dk_184 0 234 (dk_at dksX0_weak_0 11 rfl rfl)
theorem dX0_weak_14 : decode cX0_weak 14 = .ok (.ifCond .ne 5, 3) := dk_154 0 5 (dk_at dksX0_weak_0 14 rfl rfl)
theorem dX0_weak_17 : decode cX0_weak 17 = .ok (.iconst (-1), 1) := dk_2 (dk_at dksX0_weak_0 17 rfl rfl)
theorem dX0_weak_18 : decode cX0_weak 18 = .ok (.ireturn, 1) := dk_172 (dk_at dksX0_weak_0 18 rfl rfl)
theorem dX0_weak_19 : decode cX0_weak 19 = .ok (.iconst 0, 1) := dk_3 (dk_at dksX0_weak_0 19 rfl rfl)
theorem dX0_weak_20 : decode cX0_weak 20 = .ok (.istore_n 2, 1) := dk_61 (dk_at dksX0_weak_0 20 rfl rfl)
theorem dX0_weak_21 : decode cX0_weak 21 = .ok (.iload_n 1, 1) := dk_27 (dk_at dksX0_weak_0 21 rfl rfl)
theorem dX0_weak_22 : decode cX0_weak 22 = .ok (.iconst 1, 1) := dk_4 (dk_at dksX0_weak_0 22 rfl rfl)
theorem dX0_weak_23 : decode cX0_weak 23 = .ok (.if_icmp .ne 50, 3) := dk_160 0 50 (dk_at dksX0_weak_1 0 rfl rfl)
theorem dX0_weak_26 : decode cX0_weak 26 = .ok (.iconst 0, 1) := dk_3 (dk_at dksX0_weak_1 3 rfl rfl)
theorem dX0_weak_27 : decode cX0_weak 27 = .ok (.istore_n 3, 1) := dk_62 (dk_at dksX0_weak_1 4 rfl rfl)
theorem dX0_weak_28 : decode cX0_weak 28 = .ok (.iload_n 3, 1) := dk_29 (dk_at dksX0_weak_1 5 rfl rfl)
theorem dX0_weak_29 : decode cX0_weak 29 = .ok (.aload_n 0, 1) := dk_42 (dk_at dksX0_weak_1 6 rfl rfl)
theorem dX0_weak_30 : decode cX0_weak 30 = .ok (.getfield 153, 3) := dk_180 0 153 (dk_at dksX0_weak_1 7 rfl rfl)
theorem dX0_weak_33 : decode cX0_weak 33 = .ok (.getfield 156, 3) := dk_180 0 156 (dk_at dksX0_weak_1 10 rfl rfl)
theorem dX0_weak_36 : decode cX0_weak 36 = .ok (.if_icmp .ge 35, 3) := dk_162 0 35 (dk_at dksX0_weak_1 13 rfl rfl)
theorem dX0_weak_39 : decode cX0_weak 39 = .ok (.iload_n 2, 1) := dk_28 (dk_at dksX0_weak_1 16 rfl rfl)
theorem dX0_weak_40 : decode cX0_weak 40 = .ok (.aload_n 0, 1) := dk_42 (dk_at dksX0_weak_1 17 rfl rfl)
theorem dX0_weak_41 : decode cX0_weak 41 = .ok (.iload_n 3, 1) := dk_29 (dk_at dksX0_weak_1 18 rfl rfl)
theorem dX0_weak_42 : decode cX0_weak 42 = .ok (.invokevirtual 212, 3) := dk_182 0 212 (dk_at dksX0_weak_1 19 rfl rfl)
theorem dX0_weak_45 : decode cX0_weak 45 = .ok (.ifCond .eq 17, 3) := dk_153 0 17 (dk_at dksX0_weak_2 0 rfl rfl)
theorem dX0_weak_48 : decode cX0_weak 48 = .ok (.aload_n 0, 1) := dk_42 (dk_at dksX0_weak_2 3 rfl rfl)
theorem dX0_weak_49 : decode cX0_weak 49 = .ok (.iload_n 3, 1) := dk_29 (dk_at dksX0_weak_2 4 rfl rfl)
theorem dX0_weak_50 : decode cX0_weak 50 = .ok (.invokevirtual 398, 3) := dk_182 1 142 (dk_at dksX0_weak_2 5 rfl rfl)
theorem dX0_weak_53 : decode cX0_weak 53 = .ok (.ifCond .eq 9, 3) := dk_153 0 9 (dk_at dksX0_weak_2 8 rfl rfl)
theorem dX0_weak_56 : decode cX0_weak 56 = .ok (.iconst 1, 1) := dk_4 (dk_at dksX0_weak_2 11 rfl rfl)
theorem dX0_weak_57 : decode cX0_weak 57 = .ok (.iload_n 3, 1) := dk_29 (dk_at dksX0_weak_2 12 rfl rfl)
theorem dX0_weak_58 : decode cX0_weak 58 = .ok (.ishl, 1) := dk_120 (dk_at dksX0_weak_2 13 rfl rfl)
theorem dX0_weak_59 : decode cX0_weak 59 = .ok (.goto 4, 3) := dk_167 0 4 (dk_at dksX0_weak_2 14 rfl rfl)
theorem dX0_weak_62 : decode cX0_weak 62 = .ok (.iconst 0, 1) := dk_3 (dk_at dksX0_weak_2 17 rfl rfl)
theorem dX0_weak_63 : decode cX0_weak 63 = .ok (.ior, 1) := dk_128 (dk_at dksX0_weak_2 18 rfl rfl)
theorem dX0_weak_64 : decode cX0_weak 64 = .ok (.istore_n 2, 1) := dk_61 (dk_at dksX0_weak_2 19 rfl rfl)
theorem dX0_weak_65 : decode cX0_weak 65 = .ok (.iinc 3 1, 3) := dk_132 3 1 (dk_at dksX0_weak_2 20 rfl rfl)
theorem dX0_weak_68 : decode cX0_weak 68 = .ok (.goto (-40), 3) := dk_167 255 216 (dk_at dksX0_weak_3 0 rfl rfl)
theorem dX0_weak_71 : decode cX0_weak 71 = .ok (.iload_n 2, 1) := dk_28 (dk_at dksX0_weak_3 3 rfl rfl)
theorem dX0_weak_72 : decode cX0_weak 72 = .ok (.ireturn, 1) := dk_172 (dk_at dksX0_weak_3 4 rfl rfl)
theorem dX0_weak_73 : decode cX0_weak 73 = .ok (.iconst 0, 1) := dk_3 (dk_at dksX0_weak_3 5 rfl rfl)
theorem dX0_weak_74 : decode cX0_weak 74 = .ok (.istore_n 3, 1) := dk_62 (dk_at dksX0_weak_3 6 rfl rfl)
theorem dX0_weak_75 : decode cX0_weak 75 = .ok (.iload_n 3, 1) := dk_29 (dk_at dksX0_weak_3 7 rfl rfl)
theorem dX0_weak_76 : decode cX0_weak 76 = .ok (.aload_n 0, 1) := dk_42 (dk_at dksX0_weak_3 8 rfl rfl)
theorem dX0_weak_77 : decode cX0_weak 77 = .ok (.getfield 153, 3) := dk_180 0 153 (dk_at dksX0_weak_3 9 rfl rfl)
theorem dX0_weak_80 : decode cX0_weak 80 = .ok (.getfield 216, 3) := dk_180 0 216 (dk_at dksX0_weak_3 12 rfl rfl)
theorem dX0_weak_83 : decode cX0_weak 83 = .ok (.if_icmp .ge 63, 3) := dk_162 0 63 (dk_at dksX0_weak_3 15 rfl rfl)
theorem dX0_weak_86 : decode cX0_weak 86 = .ok (.iload_n 2, 1) := dk_28 (dk_at dksX0_weak_3 18 rfl rfl)
theorem dX0_weak_87 : decode cX0_weak 87 = .ok (.aload_n 0, 1) := dk_42 (dk_at dksX0_weak_3 19 rfl rfl)
theorem dX0_weak_88 : decode cX0_weak 88 = .ok (.getfield 153, 3) := dk_180 0 153 (dk_at dksX0_weak_3 20 rfl rfl)
theorem dX0_weak_91 : decode cX0_weak 91 = .ok (.aload_n 0, 1) := dk_42 (dk_at dksX0_weak_3 23 rfl rfl)
theorem dX0_weak_92 : decode cX0_weak 92 = .ok (.getfield 153, 3) := dk_180 0 153 (dk_at dksX0_weak_4 0 rfl rfl)
theorem dX0_weak_95 : decode cX0_weak 95 = .ok (.getfield 222, 3) := dk_180 0 222 (dk_at dksX0_weak_4 3 rfl rfl)
theorem dX0_weak_98 : decode cX0_weak 98 = .ok (.iload_n 3, 1) := dk_29 (dk_at dksX0_weak_4 6 rfl rfl)
theorem dX0_weak_99 : decode cX0_weak 99 = .ok (.iaload, 1) := dk_46 (dk_at dksX0_weak_4 7 rfl rfl)
theorem dX0_weak_100 : decode cX0_weak 100 = .ok (.aload_n 0, 1) := dk_42 (dk_at dksX0_weak_4 8 rfl rfl)
theorem dX0_weak_101 : decode cX0_weak 101 = .ok (.getfield 153, 3) := dk_180 0 153 (dk_at dksX0_weak_4 9 rfl rfl)
theorem dX0_weak_104 : decode cX0_weak 104 = .ok (.invokevirtual 187, 3) := dk_182 0 187 (dk_at dksX0_weak_4 12 rfl rfl)
theorem dX0_weak_107 : decode cX0_weak 107 = .ok (.iconst 1, 1) := dk_4 (dk_at dksX0_weak_4 15 rfl rfl)
theorem dX0_weak_108 : decode cX0_weak 108 = .ok (.iload_n 3, 1) := dk_29 (dk_at dksX0_weak_4 16 rfl rfl)
theorem dX0_weak_109 : decode cX0_weak 109 = .ok (.ishl, 1) := dk_120 (dk_at dksX0_weak_4 17 rfl rfl)
theorem dX0_weak_110 : decode cX0_weak 110 = .ok (.iconst (-1), 1) := dk_2 (dk_at dksX0_weak_4 18 rfl rfl)
theorem dX0_weak_111 : decode cX0_weak 111 = .ok (.ixor, 1) := dk_130 (dk_at dksX0_weak_4 19 rfl rfl)
theorem dX0_weak_112 : decode cX0_weak 112 = .ok (.iand, 1) := dk_126 (dk_at dksX0_weak_4 20 rfl rfl)
theorem dX0_weak_113 : decode cX0_weak 113 = .ok (.invokevirtual 395, 3) := dk_182 1 139 (dk_at dksX0_weak_4 21 rfl rfl)
theorem dX0_weak_116 : decode cX0_weak 116 = .ok (.aload_n 0, 1) := dk_42 (dk_at dksX0_weak_5 0 rfl rfl)
theorem dX0_weak_117 : decode cX0_weak 117 = .ok (.getfield 153, 3) := dk_180 0 153 (dk_at dksX0_weak_5 1 rfl rfl)
theorem dX0_weak_120 : decode cX0_weak 120 = .ok (.getfield 225, 3) := dk_180 0 225 (dk_at dksX0_weak_5 4 rfl rfl)
theorem dX0_weak_123 : decode cX0_weak 123 = .ok (.iload_n 3, 1) := dk_29 (dk_at dksX0_weak_5 7 rfl rfl)
theorem dX0_weak_124 : decode cX0_weak 124 = .ok (.iaload, 1) := dk_46 (dk_at dksX0_weak_5 8 rfl rfl)
theorem dX0_weak_125 : decode cX0_weak 125 = .ok (.invokestatic 294, 3) := dk_184 1 38 (dk_at dksX0_weak_5 9 rfl rfl)
theorem dX0_weak_128 : decode cX0_weak 128 = .ok (.ifCond .eq 7, 3) := dk_153 0 7 (dk_at dksX0_weak_5 12 rfl rfl)
theorem dX0_weak_131 : decode cX0_weak 131 = .ok (.iconst 0, 1) := dk_3 (dk_at dksX0_weak_5 15 rfl rfl)
theorem dX0_weak_132 : decode cX0_weak 132 = .ok (.goto 6, 3) := dk_167 0 6 (dk_at dksX0_weak_5 16 rfl rfl)
theorem dX0_weak_135 : decode cX0_weak 135 = .ok (.iconst 1, 1) := dk_4 (dk_at dksX0_weak_5 19 rfl rfl)
theorem dX0_weak_136 : decode cX0_weak 136 = .ok (.iload_n 3, 1) := dk_29 (dk_at dksX0_weak_5 20 rfl rfl)
theorem dX0_weak_137 : decode cX0_weak 137 = .ok (.ishl, 1) := dk_120 (dk_at dksX0_weak_5 21 rfl rfl)
theorem dX0_weak_138 : decode cX0_weak 138 = .ok (.ior, 1) := dk_128 (dk_at dksX0_weak_5 22 rfl rfl)
theorem dX0_weak_139 : decode cX0_weak 139 = .ok (.istore_n 2, 1) := dk_61 (dk_at dksX0_weak_5 23 rfl rfl)
theorem dX0_weak_140 : decode cX0_weak 140 = .ok (.iinc 3 1, 3) := dk_132 3 1 (dk_at dksX0_weak_6 0 rfl rfl)
theorem dX0_weak_143 : decode cX0_weak 143 = .ok (.goto (-68), 3) := dk_167 255 188 (dk_at dksX0_weak_6 3 rfl rfl)
theorem dX0_weak_146 : decode cX0_weak 146 = .ok (.iload_n 2, 1) := dk_28 (dk_at dksX0_weak_6 6 rfl rfl)
theorem dX0_weak_147 : decode cX0_weak 147 = .ok (.ireturn, 1) := dk_172 (dk_at dksX0_weak_6 7 rfl rfl)
abbrev cX0_isWeakThing : ByteArray := prog_1_method_47_code
def yX0_isWeakThing : MethodName := ⟨RX0, "isWeakThing", "(I)Z"⟩
def dkwX0_isWeakThing_2 : List UInt8 := [28, 184, 1, 130, 29, 182, 1, 139, 28, 159, 0, 7, 4, 167, 0, 4, 3, 172]
abbrev dktX0_isWeakThing_2 : List UInt8 := dkwX0_isWeakThing_2 ++ []
def dkwX0_isWeakThing_1 : List UInt8 := [180, 0, 153, 182, 0, 187, 42, 180, 0, 153, 4, 27, 120, 182, 1, 30, 2, 130, 126, 62, 42, 180, 0, 153]
abbrev dktX0_isWeakThing_1 : List UInt8 := dkwX0_isWeakThing_1 ++ dktX0_isWeakThing_2
def dkwX0_isWeakThing_0 : List UInt8 := [42, 180, 0, 153, 27, 182, 0, 213, 4, 27, 120, 2, 130, 126, 61, 28, 154, 0, 5, 3, 172, 42]
abbrev dktX0_isWeakThing_0 : List UInt8 := dkwX0_isWeakThing_0 ++ dktX0_isWeakThing_1
theorem dksX0_isWeakThing_0 : cX0_isWeakThing.data.toList.drop 0 = dktX0_isWeakThing_0 := by decide +kernel
theorem dksX0_isWeakThing_1 : cX0_isWeakThing.data.toList.drop 22 = dktX0_isWeakThing_1 := dk_seg dksX0_isWeakThing_0 22 rfl rfl
theorem dksX0_isWeakThing_2 : cX0_isWeakThing.data.toList.drop 46 = dktX0_isWeakThing_2 := dk_seg dksX0_isWeakThing_1 24 rfl rfl
theorem dX0_isWeakThing_0 : decode cX0_isWeakThing 0 = .ok (.aload_n 0, 1) := dk_42 (dk_at dksX0_isWeakThing_0 0 rfl rfl)
theorem dX0_isWeakThing_1 : decode cX0_isWeakThing 1 = .ok (.getfield 153, 3) := dk_180 0 153 (dk_at dksX0_isWeakThing_0 1 rfl rfl)
theorem dX0_isWeakThing_4 : decode cX0_isWeakThing 4 = .ok (.iload_n 1, 1) := dk_27 (dk_at dksX0_isWeakThing_0 4 rfl rfl)
theorem dX0_isWeakThing_5 : decode cX0_isWeakThing 5 = .ok (.invokevirtual 213, 3) := dk_182 0 213 (dk_at dksX0_isWeakThing_0 5 rfl rfl)
theorem dX0_isWeakThing_8 : decode cX0_isWeakThing 8 = .ok (.iconst 1, 1) := dk_4 (dk_at dksX0_isWeakThing_0 8 rfl rfl)
theorem dX0_isWeakThing_9 : decode cX0_isWeakThing 9 = .ok (.iload_n 1, 1) := dk_27 (dk_at dksX0_isWeakThing_0 9 rfl rfl)
theorem dX0_isWeakThing_10 : decode cX0_isWeakThing 10 = .ok (.ishl, 1) := dk_120 (dk_at dksX0_isWeakThing_0 10 rfl rfl)
theorem dX0_isWeakThing_11 : decode cX0_isWeakThing 11 = .ok (.iconst (-1), 1) := dk_2 (dk_at dksX0_isWeakThing_0 11 rfl rfl)
theorem dX0_isWeakThing_12 : decode cX0_isWeakThing 12 = .ok (.ixor, 1) := dk_130 (dk_at dksX0_isWeakThing_0 12 rfl rfl)
theorem dX0_isWeakThing_13 : decode cX0_isWeakThing 13 = .ok (.iand, 1) := dk_126 (dk_at dksX0_isWeakThing_0 13 rfl rfl)
theorem dX0_isWeakThing_14 : decode cX0_isWeakThing 14 = .ok (.istore_n 2, 1) := dk_61 (dk_at dksX0_isWeakThing_0 14 rfl rfl)
theorem dX0_isWeakThing_15 : decode cX0_isWeakThing 15 = .ok (.iload_n 2, 1) := dk_28 (dk_at dksX0_isWeakThing_0 15 rfl rfl)
theorem dX0_isWeakThing_16 : decode cX0_isWeakThing 16 = .ok (.ifCond .ne 5, 3) := dk_154 0 5 (dk_at dksX0_isWeakThing_0 16 rfl rfl)
theorem dX0_isWeakThing_19 : decode cX0_isWeakThing 19 = .ok (.iconst 0, 1) := dk_3 (dk_at dksX0_isWeakThing_0 19 rfl rfl)
theorem dX0_isWeakThing_20 : decode cX0_isWeakThing 20 = .ok (.ireturn, 1) := dk_172 (dk_at dksX0_isWeakThing_0 20 rfl rfl)
theorem dX0_isWeakThing_21 : decode cX0_isWeakThing 21 = .ok (.aload_n 0, 1) := dk_42 (dk_at dksX0_isWeakThing_0 21 rfl rfl)
theorem dX0_isWeakThing_22 : decode cX0_isWeakThing 22 = .ok (.getfield 153, 3) := dk_180 0 153 (dk_at dksX0_isWeakThing_1 0 rfl rfl)
theorem dX0_isWeakThing_25 : decode cX0_isWeakThing 25 = .ok (.invokevirtual 187, 3) := dk_182 0 187 (dk_at dksX0_isWeakThing_1 3 rfl rfl)
theorem dX0_isWeakThing_28 : decode cX0_isWeakThing 28 = .ok (.aload_n 0, 1) := dk_42 (dk_at dksX0_isWeakThing_1 6 rfl rfl)
theorem dX0_isWeakThing_29 : decode cX0_isWeakThing 29 = .ok (.getfield 153, 3) := dk_180 0 153 (dk_at dksX0_isWeakThing_1 7 rfl rfl)
theorem dX0_isWeakThing_32 : decode cX0_isWeakThing 32 = .ok (.iconst 1, 1) := dk_4 (dk_at dksX0_isWeakThing_1 10 rfl rfl)
theorem dX0_isWeakThing_33 : decode cX0_isWeakThing 33 = .ok (.iload_n 1, 1) := dk_27 (dk_at dksX0_isWeakThing_1 11 rfl rfl)
theorem dX0_isWeakThing_34 : decode cX0_isWeakThing 34 = .ok (.ishl, 1) := dk_120 (dk_at dksX0_isWeakThing_1 12 rfl rfl)
theorem dX0_isWeakThing_35 : decode cX0_isWeakThing 35 = .ok (.invokevirtual 286, 3) := dk_182 1 30 (dk_at dksX0_isWeakThing_1 13 rfl rfl)
theorem dX0_isWeakThing_38 : decode cX0_isWeakThing 38 = .ok (.iconst (-1), 1) := dk_2 (dk_at dksX0_isWeakThing_1 16 rfl rfl)
theorem dX0_isWeakThing_39 : decode cX0_isWeakThing 39 = .ok (.ixor, 1) := dk_130 (dk_at dksX0_isWeakThing_1 17 rfl rfl)
theorem dX0_isWeakThing_40 : decode cX0_isWeakThing 40 = .ok (.iand, 1) := dk_126 (dk_at dksX0_isWeakThing_1 18 rfl rfl)
theorem dX0_isWeakThing_41 : decode cX0_isWeakThing 41 = .ok (.istore_n 3, 1) := dk_62 (dk_at dksX0_isWeakThing_1 19 rfl rfl)
theorem dX0_isWeakThing_42 : decode cX0_isWeakThing 42 = .ok (.aload_n 0, 1) := dk_42 (dk_at dksX0_isWeakThing_1 20 rfl rfl)
theorem dX0_isWeakThing_43 : decode cX0_isWeakThing 43 = .ok (.getfield 153, 3) := dk_180 0 153 (dk_at dksX0_isWeakThing_1 21 rfl rfl)
theorem dX0_isWeakThing_46 : decode cX0_isWeakThing 46 = .ok (.iload_n 2, 1) := dk_28 (dk_at dksX0_isWeakThing_2 0 rfl rfl)
theorem dX0_isWeakThing_47 : decode cX0_isWeakThing 47 = .ok (.invokestatic 386, 3) := dk_184 1 130 (dk_at dksX0_isWeakThing_2 1 rfl rfl)
theorem dX0_isWeakThing_50 : decode cX0_isWeakThing 50 = .ok (.iload_n 3, 1) := dk_29 (dk_at dksX0_isWeakThing_2 4 rfl rfl)
theorem dX0_isWeakThing_51 : decode cX0_isWeakThing 51 = .ok (.invokevirtual 395, 3) := dk_182 1 139 (dk_at dksX0_isWeakThing_2 5 rfl rfl)
theorem dX0_isWeakThing_54 : decode cX0_isWeakThing 54 = .ok (.iload_n 2, 1) := dk_28 (dk_at dksX0_isWeakThing_2 8 rfl rfl)
theorem dX0_isWeakThing_55 : decode cX0_isWeakThing 55 = .ok (.if_icmp .eq 7, 3) := dk_159 0 7 (dk_at dksX0_isWeakThing_2 9 rfl rfl)
theorem dX0_isWeakThing_58 : decode cX0_isWeakThing 58 = .ok (.iconst 1, 1) := dk_4 (dk_at dksX0_isWeakThing_2 12 rfl rfl)
theorem dX0_isWeakThing_59 : decode cX0_isWeakThing 59 = .ok (.goto 4, 3) := dk_167 0 4 (dk_at dksX0_isWeakThing_2 13 rfl rfl)
theorem dX0_isWeakThing_62 : decode cX0_isWeakThing 62 = .ok (.iconst 0, 1) := dk_3 (dk_at dksX0_isWeakThing_2 16 rfl rfl)
theorem dX0_isWeakThing_63 : decode cX0_isWeakThing 63 = .ok (.ireturn, 1) := dk_172 (dk_at dksX0_isWeakThing_2 17 rfl rfl)
abbrev cX0_offer : ByteArray := prog_1_method_49_code
def yX0_offer : MethodName := ⟨RX0, "offer", "(III)I"⟩
def dkwX0_offer_6 : List UInt8 := [181, 1, 145, 42, 180, 0, 153, 180, 1, 145, 172]
abbrev dktX0_offer_6 : List UInt8 := dkwX0_offer_6 ++ []
def dkwX0_offer_5 : List UInt8 := [180, 0, 153, 180, 1, 152, 21, 4, 5, 96, 29, 79, 42, 180, 0, 153, 89, 180, 1, 145, 4, 96]
abbrev dktX0_offer_5 : List UInt8 := dkwX0_offer_5 ++ dktX0_offer_6
def dkwX0_offer_4 : List UInt8 := [180, 0, 153, 180, 1, 152, 21, 4, 27, 79, 42, 180, 0, 153, 180, 1, 152, 21, 4, 4, 96, 28, 79, 42]
abbrev dktX0_offer_4 : List UInt8 := dkwX0_offer_4 ++ dktX0_offer_5
def dkwX0_offer_3 : List UInt8 := [180, 1, 145, 16, 6, 160, 0, 6, 16, 254, 172, 6, 42, 180, 0, 153, 180, 1, 145, 104, 54, 4, 42]
abbrev dktX0_offer_3 : List UInt8 := dkwX0_offer_3 ++ dktX0_offer_4
def dkwX0_offer_2 : List UInt8 := [184, 0, 234, 153, 0, 27, 29, 133, 9, 20, 1, 15, 184, 0, 234, 153, 0, 15, 42, 180, 0, 153]
abbrev dktX0_offer_2 : List UInt8 := dkwX0_offer_2 ++ dktX0_offer_3
def dkwX0_offer_1 : List UInt8 := [180, 0, 153, 198, 0, 51, 27, 133, 9, 20, 1, 148, 184, 0, 234, 153, 0, 39, 28, 133, 9, 20, 1, 150]
abbrev dktX0_offer_1 : List UInt8 := dkwX0_offer_1 ++ dktX0_offer_2
def dkwX0_offer_0 : List UInt8 := [27, 2, 160, 0, 20, 42, 180, 0, 153, 198, 0, 11, 42, 180, 0, 153, 3, 181, 1, 145, 3, 172, 42]
abbrev dktX0_offer_0 : List UInt8 := dkwX0_offer_0 ++ dktX0_offer_1
theorem dksX0_offer_0 : cX0_offer.data.toList.drop 0 = dktX0_offer_0 := by decide +kernel
theorem dksX0_offer_1 : cX0_offer.data.toList.drop 23 = dktX0_offer_1 := dk_seg dksX0_offer_0 23 rfl rfl
theorem dksX0_offer_2 : cX0_offer.data.toList.drop 47 = dktX0_offer_2 := dk_seg dksX0_offer_1 24 rfl rfl
theorem dksX0_offer_3 : cX0_offer.data.toList.drop 69 = dktX0_offer_3 := dk_seg dksX0_offer_2 22 rfl rfl
theorem dksX0_offer_4 : cX0_offer.data.toList.drop 92 = dktX0_offer_4 := dk_seg dksX0_offer_3 23 rfl rfl
theorem dksX0_offer_5 : cX0_offer.data.toList.drop 116 = dktX0_offer_5 := dk_seg dksX0_offer_4 24 rfl rfl
theorem dksX0_offer_6 : cX0_offer.data.toList.drop 138 = dktX0_offer_6 := dk_seg dksX0_offer_5 22 rfl rfl
theorem dX0_offer_0 : decode cX0_offer 0 = .ok (.iload_n 1, 1) := dk_27 (dk_at dksX0_offer_0 0 rfl rfl)
theorem dX0_offer_1 : decode cX0_offer 1 = .ok (.iconst (-1), 1) := dk_2 (dk_at dksX0_offer_0 1 rfl rfl)
theorem dX0_offer_2 : decode cX0_offer 2 = .ok (.if_icmp .ne 20, 3) := dk_160 0 20 (dk_at dksX0_offer_0 2 rfl rfl)
theorem dX0_offer_5 : decode cX0_offer 5 = .ok (.aload_n 0, 1) := dk_42 (dk_at dksX0_offer_0 5 rfl rfl)
theorem dX0_offer_6 : decode cX0_offer 6 = .ok (.getfield 153, 3) := dk_180 0 153 (dk_at dksX0_offer_0 6 rfl rfl)
theorem dX0_offer_9 : decode cX0_offer 9 = .ok (.ifnull 11, 3) := dk_198 0 11 (dk_at dksX0_offer_0 9 rfl rfl)
theorem dX0_offer_12 : decode cX0_offer 12 = .ok (.aload_n 0, 1) := dk_42 (dk_at dksX0_offer_0 12 rfl rfl)
theorem dX0_offer_13 : decode cX0_offer 13 = .ok (.getfield 153, 3) := dk_180 0 153 (dk_at dksX0_offer_0 13 rfl rfl)
theorem dX0_offer_16 : decode cX0_offer 16 = .ok (.iconst 0, 1) := dk_3 (dk_at dksX0_offer_0 16 rfl rfl)
theorem dX0_offer_17 : decode cX0_offer 17 = .ok (.putfield 401, 3) := dk_181 1 145 (dk_at dksX0_offer_0 17 rfl rfl)
theorem dX0_offer_20 : decode cX0_offer 20 = .ok (.iconst 0, 1) := dk_3 (dk_at dksX0_offer_0 20 rfl rfl)
theorem dX0_offer_21 : decode cX0_offer 21 = .ok (.ireturn, 1) := dk_172 (dk_at dksX0_offer_0 21 rfl rfl)
theorem dX0_offer_22 : decode cX0_offer 22 = .ok (.aload_n 0, 1) := dk_42 (dk_at dksX0_offer_0 22 rfl rfl)
theorem dX0_offer_23 : decode cX0_offer 23 = .ok (.getfield 153, 3) := dk_180 0 153 (dk_at dksX0_offer_1 0 rfl rfl)
theorem dX0_offer_26 : decode cX0_offer 26 = .ok (.ifnull 51, 3) := dk_198 0 51 (dk_at dksX0_offer_1 3 rfl rfl)
theorem dX0_offer_29 : decode cX0_offer 29 = .ok (.iload_n 1, 1) := dk_27 (dk_at dksX0_offer_1 6 rfl rfl)
theorem dX0_offer_30 : decode cX0_offer 30 = .ok (.i2l, 1) := dk_133 (dk_at dksX0_offer_1 7 rfl rfl)
theorem dX0_offer_31 : decode cX0_offer 31 = .ok (.lconst 0, 1) := dk_9 (dk_at dksX0_offer_1 8 rfl rfl)
theorem dX0_offer_32 : decode cX0_offer 32 = .ok (.ldc2_w 404, 3) := dk_20 1 148 (dk_at dksX0_offer_1 9 rfl rfl)
theorem dX0_offer_35 : decode cX0_offer 35 = .ok (.invokestatic 234, 3) := dk_184 0 234 (dk_at dksX0_offer_1 12 rfl rfl)
theorem dX0_offer_38 : decode cX0_offer 38 = .ok (.ifCond .eq 39, 3) := dk_153 0 39 (dk_at dksX0_offer_1 15 rfl rfl)
theorem dX0_offer_41 : decode cX0_offer 41 = .ok (.iload_n 2, 1) := dk_28 (dk_at dksX0_offer_1 18 rfl rfl)
theorem dX0_offer_42 : decode cX0_offer 42 = .ok (.i2l, 1) := dk_133 (dk_at dksX0_offer_1 19 rfl rfl)
theorem dX0_offer_43 : decode cX0_offer 43 = .ok (.lconst 0, 1) := dk_9 (dk_at dksX0_offer_1 20 rfl rfl)
theorem dX0_offer_44 : decode cX0_offer 44 = .ok (.ldc2_w 406, 3) := dk_20 1 150 (dk_at dksX0_offer_1 21 rfl rfl)
theorem dX0_offer_47 : decode cX0_offer 47 = .ok (.invokestatic 234, 3) := dk_184 0 234 (dk_at dksX0_offer_2 0 rfl rfl)
theorem dX0_offer_50 : decode cX0_offer 50 = .ok (.ifCond .eq 27, 3) := dk_153 0 27 (dk_at dksX0_offer_2 3 rfl rfl)
theorem dX0_offer_53 : decode cX0_offer 53 = .ok (.iload_n 3, 1) := dk_29 (dk_at dksX0_offer_2 6 rfl rfl)
theorem dX0_offer_54 : decode cX0_offer 54 = .ok (.i2l, 1) := dk_133 (dk_at dksX0_offer_2 7 rfl rfl)
theorem dX0_offer_55 : decode cX0_offer 55 = .ok (.lconst 0, 1) := dk_9 (dk_at dksX0_offer_2 8 rfl rfl)
theorem dX0_offer_56 : decode cX0_offer 56 = .ok (.ldc2_w 271, 3) := dk_20 1 15 (dk_at dksX0_offer_2 9 rfl rfl)
theorem dX0_offer_59 : decode cX0_offer 59 = .ok (.invokestatic 234, 3) := dk_184 0 234 (dk_at dksX0_offer_2 12 rfl rfl)
theorem dX0_offer_62 : decode cX0_offer 62 = .ok (.ifCond .eq 15, 3) := dk_153 0 15 (dk_at dksX0_offer_2 15 rfl rfl)
theorem dX0_offer_65 : decode cX0_offer 65 = .ok (.aload_n 0, 1) := dk_42 (dk_at dksX0_offer_2 18 rfl rfl)
theorem dX0_offer_66 : decode cX0_offer 66 = .ok (.getfield 153, 3) := dk_180 0 153 (dk_at dksX0_offer_2 19 rfl rfl)
theorem dX0_offer_69 : decode cX0_offer 69 = .ok (.getfield 401, 3) := dk_180 1 145 (dk_at dksX0_offer_3 0 rfl rfl)
theorem dX0_offer_72 : decode cX0_offer 72 = .ok (.bipush 6, 2) := dk_16 6 (dk_at dksX0_offer_3 3 rfl rfl)
theorem dX0_offer_74 : decode cX0_offer 74 = .ok (.if_icmp .ne 6, 3) := dk_160 0 6 (dk_at dksX0_offer_3 5 rfl rfl)
theorem dX0_offer_77 : decode cX0_offer 77 = .ok (.bipush (-2), 2) := dk_16 254 (dk_at dksX0_offer_3 8 rfl rfl)
theorem dX0_offer_79 : decode cX0_offer 79 = .ok (.ireturn, 1) := dk_172 (dk_at dksX0_offer_3 10 rfl rfl)
theorem dX0_offer_80 : decode cX0_offer 80 = .ok (.iconst 3, 1) := dk_6 (dk_at dksX0_offer_3 11 rfl rfl)
theorem dX0_offer_81 : decode cX0_offer 81 = .ok (.aload_n 0, 1) := dk_42 (dk_at dksX0_offer_3 12 rfl rfl)
theorem dX0_offer_82 : decode cX0_offer 82 = .ok (.getfield 153, 3) := dk_180 0 153 (dk_at dksX0_offer_3 13 rfl rfl)
theorem dX0_offer_85 : decode cX0_offer 85 = .ok (.getfield 401, 3) := dk_180 1 145 (dk_at dksX0_offer_3 16 rfl rfl)
theorem dX0_offer_88 : decode cX0_offer 88 = .ok (.imul, 1) := dk_104 (dk_at dksX0_offer_3 19 rfl rfl)
theorem dX0_offer_89 : decode cX0_offer 89 = .ok (.istore 4, 2) := dk_54 4 (dk_at dksX0_offer_3 20 rfl rfl)
theorem dX0_offer_91 : decode cX0_offer 91 = .ok (.aload_n 0, 1) := dk_42 (dk_at dksX0_offer_3 22 rfl rfl)
theorem dX0_offer_92 : decode cX0_offer 92 = .ok (.getfield 153, 3) := dk_180 0 153 (dk_at dksX0_offer_4 0 rfl rfl)
theorem dX0_offer_95 : decode cX0_offer 95 = .ok (.getfield 408, 3) := dk_180 1 152 (dk_at dksX0_offer_4 3 rfl rfl)
theorem dX0_offer_98 : decode cX0_offer 98 = .ok (.iload 4, 2) := dk_21 4 (dk_at dksX0_offer_4 6 rfl rfl)
theorem dX0_offer_100 : decode cX0_offer 100 = .ok (.iload_n 1, 1) := dk_27 (dk_at dksX0_offer_4 8 rfl rfl)
theorem dX0_offer_101 : decode cX0_offer 101 = .ok (.iastore, 1) := dk_79 (dk_at dksX0_offer_4 9 rfl rfl)
theorem dX0_offer_102 : decode cX0_offer 102 = .ok (.aload_n 0, 1) := dk_42 (dk_at dksX0_offer_4 10 rfl rfl)
theorem dX0_offer_103 : decode cX0_offer 103 = .ok (.getfield 153, 3) := dk_180 0 153 (dk_at dksX0_offer_4 11 rfl rfl)
theorem dX0_offer_106 : decode cX0_offer 106 = .ok (.getfield 408, 3) := dk_180 1 152 (dk_at dksX0_offer_4 14 rfl rfl)
theorem dX0_offer_109 : decode cX0_offer 109 = .ok (.iload 4, 2) := dk_21 4 (dk_at dksX0_offer_4 17 rfl rfl)
theorem dX0_offer_111 : decode cX0_offer 111 = .ok (.iconst 1, 1) := dk_4 (dk_at dksX0_offer_4 19 rfl rfl)
theorem dX0_offer_112 : decode cX0_offer 112 = .ok (.iadd, 1) := dk_96 (dk_at dksX0_offer_4 20 rfl rfl)
theorem dX0_offer_113 : decode cX0_offer 113 = .ok (.iload_n 2, 1) := dk_28 (dk_at dksX0_offer_4 21 rfl rfl)
theorem dX0_offer_114 : decode cX0_offer 114 = .ok (.iastore, 1) := dk_79 (dk_at dksX0_offer_4 22 rfl rfl)
theorem dX0_offer_115 : decode cX0_offer 115 = .ok (.aload_n 0, 1) := dk_42 (dk_at dksX0_offer_4 23 rfl rfl)
theorem dX0_offer_116 : decode cX0_offer 116 = .ok (.getfield 153, 3) := dk_180 0 153 (dk_at dksX0_offer_5 0 rfl rfl)
theorem dX0_offer_119 : decode cX0_offer 119 = .ok (.getfield 408, 3) := dk_180 1 152 (dk_at dksX0_offer_5 3 rfl rfl)
theorem dX0_offer_122 : decode cX0_offer 122 = .ok (.iload 4, 2) := dk_21 4 (dk_at dksX0_offer_5 6 rfl rfl)
theorem dX0_offer_124 : decode cX0_offer 124 = .ok (.iconst 2, 1) := dk_5 (dk_at dksX0_offer_5 8 rfl rfl)
theorem dX0_offer_125 : decode cX0_offer 125 = .ok (.iadd, 1) := dk_96 (dk_at dksX0_offer_5 9 rfl rfl)
theorem dX0_offer_126 : decode cX0_offer 126 = .ok (.iload_n 3, 1) := dk_29 (dk_at dksX0_offer_5 10 rfl rfl)
theorem dX0_offer_127 : decode cX0_offer 127 = .ok (.iastore, 1) := dk_79 (dk_at dksX0_offer_5 11 rfl rfl)
theorem dX0_offer_128 : decode cX0_offer 128 = .ok (.aload_n 0, 1) := dk_42 (dk_at dksX0_offer_5 12 rfl rfl)
theorem dX0_offer_129 : decode cX0_offer 129 = .ok (.getfield 153, 3) := dk_180 0 153 (dk_at dksX0_offer_5 13 rfl rfl)
theorem dX0_offer_132 : decode cX0_offer 132 = .ok (.dup, 1) := dk_89 (dk_at dksX0_offer_5 16 rfl rfl)
theorem dX0_offer_133 : decode cX0_offer 133 = .ok (.getfield 401, 3) := dk_180 1 145 (dk_at dksX0_offer_5 17 rfl rfl)
theorem dX0_offer_136 : decode cX0_offer 136 = .ok (.iconst 1, 1) := dk_4 (dk_at dksX0_offer_5 20 rfl rfl)
theorem dX0_offer_137 : decode cX0_offer 137 = .ok (.iadd, 1) := dk_96 (dk_at dksX0_offer_5 21 rfl rfl)
theorem dX0_offer_138 : decode cX0_offer 138 = .ok (.putfield 401, 3) := dk_181 1 145 (dk_at dksX0_offer_6 0 rfl rfl)
theorem dX0_offer_141 : decode cX0_offer 141 = .ok (.aload_n 0, 1) := dk_42 (dk_at dksX0_offer_6 3 rfl rfl)
theorem dX0_offer_142 : decode cX0_offer 142 = .ok (.getfield 153, 3) := dk_180 0 153 (dk_at dksX0_offer_6 4 rfl rfl)
theorem dX0_offer_145 : decode cX0_offer 145 = .ok (.getfield 401, 3) := dk_180 1 145 (dk_at dksX0_offer_6 7 rfl rfl)
theorem dX0_offer_148 : decode cX0_offer 148 = .ok (.ireturn, 1) := dk_172 (dk_at dksX0_offer_6 10 rfl rfl)
abbrev cX0_take : ByteArray := prog_1_method_51_code
def yX0_take : MethodName := ⟨RX0, "take", "(II)I"⟩
def dkwX0_take_5 : List UInt8 := [160, 0, 8, 21, 6, 167, 0, 16, 21, 5, 2, 160, 0, 8, 16, 254, 167, 0, 5, 21, 5, 172]
abbrev dktX0_take_5 : List UInt8 := dkwX0_take_5 ++ []
def dkwX0_take_4 : List UInt8 := [21, 6, 163, 0, 6, 167, 0, 11, 21, 7, 54, 5, 21, 8, 54, 6, 132, 7, 1, 167, 255, 212, 28, 4]
abbrev dktX0_take_4 : List UInt8 := dkwX0_take_4 ++ dktX0_take_5
def dkwX0_take_3 : List UInt8 := [42, 180, 0, 153, 180, 1, 145, 162, 0, 38, 42, 29, 21, 4, 21, 7, 182, 1, 161, 54, 8, 21, 8]
abbrev dktX0_take_3 : List UInt8 := dkwX0_take_3 ++ dktX0_take_4
def dkwX0_take_2 : List UInt8 := [29, 182, 1, 158, 54, 4, 2, 54, 5, 42, 29, 21, 4, 2, 182, 1, 161, 54, 6, 3, 54, 7, 21, 7]
abbrev dktX0_take_2 : List UInt8 := dkwX0_take_2 ++ dktX0_take_3
def dkwX0_take_1 : List UInt8 := [42, 180, 0, 153, 182, 0, 187, 182, 0, 190, 42, 180, 0, 153, 180, 1, 155, 27, 46, 62, 42, 180, 0, 153]
abbrev dktX0_take_1 : List UInt8 := dkwX0_take_1 ++ dktX0_take_2
def dkwX0_take_0 : List UInt8 := [42, 27, 182, 0, 212, 153, 0, 13, 28, 133, 9, 10, 184, 0, 234, 154, 0, 5, 2, 172, 42, 180, 0, 153]
abbrev dktX0_take_0 : List UInt8 := dkwX0_take_0 ++ dktX0_take_1
theorem dksX0_take_0 : cX0_take.data.toList.drop 0 = dktX0_take_0 := by decide +kernel
theorem dksX0_take_1 : cX0_take.data.toList.drop 24 = dktX0_take_1 := dk_seg dksX0_take_0 24 rfl rfl
theorem dksX0_take_2 : cX0_take.data.toList.drop 48 = dktX0_take_2 := dk_seg dksX0_take_1 24 rfl rfl
theorem dksX0_take_3 : cX0_take.data.toList.drop 72 = dktX0_take_3 := dk_seg dksX0_take_2 24 rfl rfl
theorem dksX0_take_4 : cX0_take.data.toList.drop 95 = dktX0_take_4 := dk_seg dksX0_take_3 23 rfl rfl
theorem dksX0_take_5 : cX0_take.data.toList.drop 119 = dktX0_take_5 := dk_seg dksX0_take_4 24 rfl rfl
theorem dX0_take_0 : decode cX0_take 0 = .ok (.aload_n 0, 1) := dk_42 (dk_at dksX0_take_0 0 rfl rfl)
theorem dX0_take_1 : decode cX0_take 1 = .ok (.iload_n 1, 1) := dk_27 (dk_at dksX0_take_0 1 rfl rfl)
theorem dX0_take_2 : decode cX0_take 2 = .ok (.invokevirtual 212, 3) := dk_182 0 212 (dk_at dksX0_take_0 2 rfl rfl)
theorem dX0_take_5 : decode cX0_take 5 = .ok (.ifCond .eq 13, 3) := dk_153 0 13 (dk_at dksX0_take_0 5 rfl rfl)
theorem dX0_take_8 : decode cX0_take 8 = .ok (.iload_n 2, 1) := dk_28 (dk_at dksX0_take_0 8 rfl rfl)
theorem dX0_take_9 : decode cX0_take 9 = .ok (.i2l, 1) := dk_133 (dk_at dksX0_take_0 9 rfl rfl)
theorem dX0_take_10 : decode cX0_take 10 = .ok (.lconst 0, 1) := dk_9 (dk_at dksX0_take_0 10 rfl rfl)
theorem dX0_take_11 : decode cX0_take 11 = .ok (.lconst 1, 1) := dk_10 (dk_at dksX0_take_0 11 rfl rfl)
theorem dX0_take_12 : decode cX0_take 12 = .ok (.invokestatic 234, 3) := dk_184 0 234 (dk_at dksX0_take_0 12 rfl rfl)
theorem dX0_take_15 : decode cX0_take 15 = .ok (.ifCond .ne 5, 3) := dk_154 0 5 (dk_at dksX0_take_0 15 rfl rfl)
theorem dX0_take_18 : decode cX0_take 18 = .ok (.iconst (-1), 1) := dk_2 (dk_at dksX0_take_0 18 rfl rfl)
theorem dX0_take_19 : decode cX0_take 19 = .ok (.ireturn, 1) := dk_172 (dk_at dksX0_take_0 19 rfl rfl)
theorem dX0_take_20 : decode cX0_take 20 = .ok (.aload_n 0, 1) := dk_42 (dk_at dksX0_take_0 20 rfl rfl)
theorem dX0_take_21 : decode cX0_take 21 = .ok (.getfield 153, 3) := dk_180 0 153 (dk_at dksX0_take_0 21 rfl rfl)
theorem dX0_take_24 : decode cX0_take 24 = .ok (.aload_n 0, 1) := dk_42 (dk_at dksX0_take_1 0 rfl rfl)
theorem dX0_take_25 : decode cX0_take 25 = .ok (.getfield 153, 3) := dk_180 0 153 (dk_at dksX0_take_1 1 rfl rfl)
theorem dX0_take_28 : decode cX0_take 28 = .ok (.invokevirtual 187, 3) := dk_182 0 187 (dk_at dksX0_take_1 4 rfl rfl)
theorem dX0_take_31 : decode cX0_take 31 = .ok (.invokevirtual 190, 3) := dk_182 0 190 (dk_at dksX0_take_1 7 rfl rfl)
theorem dX0_take_34 : decode cX0_take 34 = .ok (.aload_n 0, 1) := dk_42 (dk_at dksX0_take_1 10 rfl rfl)
theorem dX0_take_35 : decode cX0_take 35 = .ok (.getfield 153, 3) := dk_180 0 153 (dk_at dksX0_take_1 11 rfl rfl)
theorem dX0_take_38 : decode cX0_take 38 = .ok (.getfield 411, 3) := dk_180 1 155 (dk_at dksX0_take_1 14 rfl rfl)
theorem dX0_take_41 : decode cX0_take 41 = .ok (.iload_n 1, 1) := dk_27 (dk_at dksX0_take_1 17 rfl rfl)
theorem dX0_take_42 : decode cX0_take 42 = .ok (.iaload, 1) := dk_46 (dk_at dksX0_take_1 18 rfl rfl)
theorem dX0_take_43 : decode cX0_take 43 = .ok (.istore_n 3, 1) := dk_62 (dk_at dksX0_take_1 19 rfl rfl)
theorem dX0_take_44 : decode cX0_take 44 = .ok (.aload_n 0, 1) := dk_42 (dk_at dksX0_take_1 20 rfl rfl)
theorem dX0_take_45 : decode cX0_take 45 = .ok (.getfield 153, 3) := dk_180 0 153 (dk_at dksX0_take_1 21 rfl rfl)
theorem dX0_take_48 : decode cX0_take 48 = .ok (.iload_n 3, 1) := dk_29 (dk_at dksX0_take_2 0 rfl rfl)
theorem dX0_take_49 : decode cX0_take 49 = .ok (.invokevirtual 414, 3) := dk_182 1 158 (dk_at dksX0_take_2 1 rfl rfl)
theorem dX0_take_52 : decode cX0_take 52 = .ok (.istore 4, 2) := dk_54 4 (dk_at dksX0_take_2 4 rfl rfl)
theorem dX0_take_54 : decode cX0_take 54 = .ok (.iconst (-1), 1) := dk_2 (dk_at dksX0_take_2 6 rfl rfl)
theorem dX0_take_55 : decode cX0_take 55 = .ok (.istore 5, 2) := dk_54 5 (dk_at dksX0_take_2 7 rfl rfl)
theorem dX0_take_57 : decode cX0_take 57 = .ok (.aload_n 0, 1) := dk_42 (dk_at dksX0_take_2 9 rfl rfl)
theorem dX0_take_58 : decode cX0_take 58 = .ok (.iload_n 3, 1) := dk_29 (dk_at dksX0_take_2 10 rfl rfl)
theorem dX0_take_59 : decode cX0_take 59 = .ok (.iload 4, 2) := dk_21 4 (dk_at dksX0_take_2 11 rfl rfl)
theorem dX0_take_61 : decode cX0_take 61 = .ok (.iconst (-1), 1) := dk_2 (dk_at dksX0_take_2 13 rfl rfl)
theorem dX0_take_62 : decode cX0_take 62 = .ok (.invokevirtual 417, 3) := dk_182 1 161 (dk_at dksX0_take_2 14 rfl rfl)
theorem dX0_take_65 : decode cX0_take 65 = .ok (.istore 6, 2) := dk_54 6 (dk_at dksX0_take_2 17 rfl rfl)
theorem dX0_take_67 : decode cX0_take 67 = .ok (.iconst 0, 1) := dk_3 (dk_at dksX0_take_2 19 rfl rfl)
theorem dX0_take_68 : decode cX0_take 68 = .ok (.istore 7, 2) := dk_54 7 (dk_at dksX0_take_2 20 rfl rfl)
theorem dX0_take_70 : decode cX0_take 70 = .ok (.iload 7, 2) := dk_21 7 (dk_at dksX0_take_2 22 rfl rfl)
theorem dX0_take_72 : decode cX0_take 72 = .ok (.aload_n 0, 1) := dk_42 (dk_at dksX0_take_3 0 rfl rfl)
theorem dX0_take_73 : decode cX0_take 73 = .ok (.getfield 153, 3) := dk_180 0 153 (dk_at dksX0_take_3 1 rfl rfl)
theorem dX0_take_76 : decode cX0_take 76 = .ok (.getfield 401, 3) := dk_180 1 145 (dk_at dksX0_take_3 4 rfl rfl)
theorem dX0_take_79 : decode cX0_take 79 = .ok (.if_icmp .ge 38, 3) := dk_162 0 38 (dk_at dksX0_take_3 7 rfl rfl)
theorem dX0_take_82 : decode cX0_take 82 = .ok (.aload_n 0, 1) := dk_42 (dk_at dksX0_take_3 10 rfl rfl)
theorem dX0_take_83 : decode cX0_take 83 = .ok (.iload_n 3, 1) := dk_29 (dk_at dksX0_take_3 11 rfl rfl)
theorem dX0_take_84 : decode cX0_take 84 = .ok (.iload 4, 2) := dk_21 4 (dk_at dksX0_take_3 12 rfl rfl)
theorem dX0_take_86 : decode cX0_take 86 = .ok (.iload 7, 2) := dk_21 7 (dk_at dksX0_take_3 14 rfl rfl)
theorem dX0_take_88 : decode cX0_take 88 = .ok (.invokevirtual 417, 3) := dk_182 1 161 (dk_at dksX0_take_3 16 rfl rfl)
theorem dX0_take_91 : decode cX0_take 91 = .ok (.istore 8, 2) := dk_54 8 (dk_at dksX0_take_3 19 rfl rfl)
theorem dX0_take_93 : decode cX0_take 93 = .ok (.iload 8, 2) := dk_21 8 (dk_at dksX0_take_3 21 rfl rfl)
theorem dX0_take_95 : decode cX0_take 95 = .ok (.iload 6, 2) := dk_21 6 (dk_at dksX0_take_4 0 rfl rfl)
theorem dX0_take_97 : decode cX0_take 97 = .ok (.if_icmp .gt 6, 3) := dk_163 0 6 (dk_at dksX0_take_4 2 rfl rfl)
theorem dX0_take_100 : decode cX0_take 100 = .ok (.goto 11, 3) := dk_167 0 11 (dk_at dksX0_take_4 5 rfl rfl)
theorem dX0_take_103 : decode cX0_take 103 = .ok (.iload 7, 2) := dk_21 7 (dk_at dksX0_take_4 8 rfl rfl)
theorem dX0_take_105 : decode cX0_take 105 = .ok (.istore 5, 2) := dk_54 5 (dk_at dksX0_take_4 10 rfl rfl)
theorem dX0_take_107 : decode cX0_take 107 = .ok (.iload 8, 2) := dk_21 8 (dk_at dksX0_take_4 12 rfl rfl)
theorem dX0_take_109 : decode cX0_take 109 = .ok (.istore 6, 2) := dk_54 6 (dk_at dksX0_take_4 14 rfl rfl)
theorem dX0_take_111 : decode cX0_take 111 = .ok (.iinc 7 1, 3) := dk_132 7 1 (dk_at dksX0_take_4 16 rfl rfl)
theorem dX0_take_114 : decode cX0_take 114 = .ok (.goto (-44), 3) := dk_167 255 212 (dk_at dksX0_take_4 19 rfl rfl)
theorem dX0_take_117 : decode cX0_take 117 = .ok (.iload_n 2, 1) := dk_28 (dk_at dksX0_take_4 22 rfl rfl)
theorem dX0_take_118 : decode cX0_take 118 = .ok (.iconst 1, 1) := dk_4 (dk_at dksX0_take_4 23 rfl rfl)
theorem dX0_take_119 : decode cX0_take 119 = .ok (.if_icmp .ne 8, 3) := dk_160 0 8 (dk_at dksX0_take_5 0 rfl rfl)
theorem dX0_take_122 : decode cX0_take 122 = .ok (.iload 6, 2) := dk_21 6 (dk_at dksX0_take_5 3 rfl rfl)
theorem dX0_take_124 : decode cX0_take 124 = .ok (.goto 16, 3) := dk_167 0 16 (dk_at dksX0_take_5 5 rfl rfl)
theorem dX0_take_127 : decode cX0_take 127 = .ok (.iload 5, 2) := dk_21 5 (dk_at dksX0_take_5 8 rfl rfl)
theorem dX0_take_129 : decode cX0_take 129 = .ok (.iconst (-1), 1) := dk_2 (dk_at dksX0_take_5 10 rfl rfl)
theorem dX0_take_130 : decode cX0_take 130 = .ok (.if_icmp .ne 8, 3) := dk_160 0 8 (dk_at dksX0_take_5 11 rfl rfl)
theorem dX0_take_133 : decode cX0_take 133 = .ok (.bipush (-2), 2) := dk_16 254 (dk_at dksX0_take_5 14 rfl rfl)
theorem dX0_take_135 : decode cX0_take 135 = .ok (.goto 5, 3) := dk_167 0 5 (dk_at dksX0_take_5 16 rfl rfl)
theorem dX0_take_138 : decode cX0_take 138 = .ok (.iload 5, 2) := dk_21 5 (dk_at dksX0_take_5 19 rfl rfl)
theorem dX0_take_140 : decode cX0_take 140 = .ok (.ireturn, 1) := dk_172 (dk_at dksX0_take_5 21 rfl rfl)
abbrev cX0_staysWith : ByteArray := prog_1_method_50_code
def yX0_staysWith : MethodName := ⟨RX0, "staysWith", "(III)I"⟩
def dkwX0_staysWith_4 : List UInt8 := [172]
abbrev dktX0_staysWith_4 : List UInt8 := dkwX0_staysWith_4 ++ []
def dkwX0_staysWith_3 : List UInt8 := [6, 29, 104, 46, 100, 96, 54, 5, 21, 5, 156, 0, 6, 21, 4, 172, 132, 4, 1, 167, 255, 171, 16, 100]
abbrev dktX0_staysWith_3 : List UInt8 := dkwX0_staysWith_3 ++ dktX0_staysWith_4
def dkwX0_staysWith_2 : List UInt8 := [180, 0, 153, 180, 1, 152, 6, 29, 104, 5, 96, 46, 104, 100, 184, 1, 83, 42, 180, 0, 153, 180, 1, 152]
abbrev dktX0_staysWith_2 : List UInt8 := dkwX0_staysWith_2 ++ dktX0_staysWith_3
def dkwX0_staysWith_1 : List UInt8 := [159, 0, 54, 21, 5, 3, 42, 180, 0, 153, 180, 1, 152, 6, 29, 104, 4, 96, 46, 21, 4, 42]
abbrev dktX0_staysWith_1 : List UInt8 := dkwX0_staysWith_1 ++ dktX0_staysWith_2
def dkwX0_staysWith_0 : List UInt8 := [3, 54, 4, 21, 4, 16, 100, 162, 0, 84, 42, 27, 21, 4, 182, 1, 89, 28, 100, 54, 5, 29, 2]
abbrev dktX0_staysWith_0 : List UInt8 := dkwX0_staysWith_0 ++ dktX0_staysWith_1
theorem dksX0_staysWith_0 : cX0_staysWith.data.toList.drop 0 = dktX0_staysWith_0 := by decide +kernel
theorem dksX0_staysWith_1 : cX0_staysWith.data.toList.drop 23 = dktX0_staysWith_1 := dk_seg dksX0_staysWith_0 23 rfl rfl
theorem dksX0_staysWith_2 : cX0_staysWith.data.toList.drop 45 = dktX0_staysWith_2 := dk_seg dksX0_staysWith_1 22 rfl rfl
theorem dksX0_staysWith_3 : cX0_staysWith.data.toList.drop 69 = dktX0_staysWith_3 := dk_seg dksX0_staysWith_2 24 rfl rfl
theorem dksX0_staysWith_4 : cX0_staysWith.data.toList.drop 93 = dktX0_staysWith_4 := dk_seg dksX0_staysWith_3 24 rfl rfl
theorem dX0_staysWith_0 : decode cX0_staysWith 0 = .ok (.iconst 0, 1) := dk_3 (dk_at dksX0_staysWith_0 0 rfl rfl)
theorem dX0_staysWith_1 : decode cX0_staysWith 1 = .ok (.istore 4, 2) := dk_54 4 (dk_at dksX0_staysWith_0 1 rfl rfl)
theorem dX0_staysWith_3 : decode cX0_staysWith 3 = .ok (.iload 4, 2) := dk_21 4 (dk_at dksX0_staysWith_0 3 rfl rfl)
theorem dX0_staysWith_5 : decode cX0_staysWith 5 = .ok (.bipush 100, 2) := dk_16 100 (dk_at dksX0_staysWith_0 5 rfl rfl)
theorem dX0_staysWith_7 : decode cX0_staysWith 7 = .ok (.if_icmp .ge 84, 3) := dk_162 0 84 (dk_at dksX0_staysWith_0 7 rfl rfl)
theorem dX0_staysWith_10 : decode cX0_staysWith 10 = .ok (.aload_n 0, 1) := dk_42 (dk_at dksX0_staysWith_0 10 rfl rfl)
theorem dX0_staysWith_11 : decode cX0_staysWith 11 = .ok (.iload_n 1, 1) := dk_27 (dk_at dksX0_staysWith_0 11 rfl rfl)
theorem dX0_staysWith_12 : decode cX0_staysWith 12 = .ok (.iload 4, 2) := dk_21 4 (dk_at dksX0_staysWith_0 12 rfl rfl)
theorem dX0_staysWith_14 : decode cX0_staysWith 14 = .ok (.invokevirtual 345, 3) := dk_182 1 89 (dk_at dksX0_staysWith_0 14 rfl rfl)
theorem dX0_staysWith_17 : decode cX0_staysWith 17 = .ok (.iload_n 2, 1) := dk_28 (dk_at dksX0_staysWith_0 17 rfl rfl)
theorem dX0_staysWith_18 : decode cX0_staysWith 18 = .ok (.isub, 1) := dk_100 (dk_at dksX0_staysWith_0 18 rfl rfl)
theorem dX0_staysWith_19 : decode cX0_staysWith 19 = .ok (.istore 5, 2) := dk_54 5 (dk_at dksX0_staysWith_0 19 rfl rfl)
theorem dX0_staysWith_21 : decode cX0_staysWith 21 = .ok (.iload_n 3, 1) := dk_29 (dk_at dksX0_staysWith_0 21 rfl rfl)
theorem dX0_staysWith_22 : decode cX0_staysWith 22 = .ok (.iconst (-1), 1) := dk_2 (dk_at dksX0_staysWith_0 22 rfl rfl)
theorem dX0_staysWith_23 : decode cX0_staysWith 23 = .ok (.if_icmp .eq 54, 3) := dk_159 0 54 (dk_at dksX0_staysWith_1 0 rfl rfl)
theorem dX0_staysWith_26 : decode cX0_staysWith 26 = .ok (.iload 5, 2) := dk_21 5 (dk_at dksX0_staysWith_1 3 rfl rfl)
theorem dX0_staysWith_28 : decode cX0_staysWith 28 = .ok (.iconst 0, 1) := dk_3 (dk_at dksX0_staysWith_1 5 rfl rfl)
theorem dX0_staysWith_29 : decode cX0_staysWith 29 = .ok (.aload_n 0, 1) := dk_42 (dk_at dksX0_staysWith_1 6 rfl rfl)
theorem dX0_staysWith_30 : decode cX0_staysWith 30 = .ok (.getfield 153, 3) := dk_180 0 153 (dk_at dksX0_staysWith_1 7 rfl rfl)
theorem dX0_staysWith_33 : decode cX0_staysWith 33 = .ok (.getfield 408, 3) := dk_180 1 152 (dk_at dksX0_staysWith_1 10 rfl rfl)
theorem dX0_staysWith_36 : decode cX0_staysWith 36 = .ok (.iconst 3, 1) := dk_6 (dk_at dksX0_staysWith_1 13 rfl rfl)
theorem dX0_staysWith_37 : decode cX0_staysWith 37 = .ok (.iload_n 3, 1) := dk_29 (dk_at dksX0_staysWith_1 14 rfl rfl)
theorem dX0_staysWith_38 : decode cX0_staysWith 38 = .ok (.imul, 1) := dk_104 (dk_at dksX0_staysWith_1 15 rfl rfl)
theorem dX0_staysWith_39 : decode cX0_staysWith 39 = .ok (.iconst 1, 1) := dk_4 (dk_at dksX0_staysWith_1 16 rfl rfl)
theorem dX0_staysWith_40 : decode cX0_staysWith 40 = .ok (.iadd, 1) := dk_96 (dk_at dksX0_staysWith_1 17 rfl rfl)
theorem dX0_staysWith_41 : decode cX0_staysWith 41 = .ok (.iaload, 1) := dk_46 (dk_at dksX0_staysWith_1 18 rfl rfl)
theorem dX0_staysWith_42 : decode cX0_staysWith 42 = .ok (.iload 4, 2) := dk_21 4 (dk_at dksX0_staysWith_1 19 rfl rfl)
theorem dX0_staysWith_44 : decode cX0_staysWith 44 = .ok (.aload_n 0, 1) := dk_42 (dk_at dksX0_staysWith_1 21 rfl rfl)
theorem dX0_staysWith_45 : decode cX0_staysWith 45 = .ok (.getfield 153, 3) := dk_180 0 153 (dk_at dksX0_staysWith_2 0 rfl rfl)
theorem dX0_staysWith_48 : decode cX0_staysWith 48 = .ok (.getfield 408, 3) := dk_180 1 152 (dk_at dksX0_staysWith_2 3 rfl rfl)
theorem dX0_staysWith_51 : decode cX0_staysWith 51 = .ok (.iconst 3, 1) := dk_6 (dk_at dksX0_staysWith_2 6 rfl rfl)
theorem dX0_staysWith_52 : decode cX0_staysWith 52 = .ok (.iload_n 3, 1) := dk_29 (dk_at dksX0_staysWith_2 7 rfl rfl)
theorem dX0_staysWith_53 : decode cX0_staysWith 53 = .ok (.imul, 1) := dk_104 (dk_at dksX0_staysWith_2 8 rfl rfl)
theorem dX0_staysWith_54 : decode cX0_staysWith 54 = .ok (.iconst 2, 1) := dk_5 (dk_at dksX0_staysWith_2 9 rfl rfl)
theorem dX0_staysWith_55 : decode cX0_staysWith 55 = .ok (.iadd, 1) := dk_96 (dk_at dksX0_staysWith_2 10 rfl rfl)
theorem dX0_staysWith_56 : decode cX0_staysWith 56 = .ok (.iaload, 1) := dk_46 (dk_at dksX0_staysWith_2 11 rfl rfl)
theorem dX0_staysWith_57 : decode cX0_staysWith 57 = .ok (.imul, 1) := dk_104 (dk_at dksX0_staysWith_2 12 rfl rfl)
theorem dX0_staysWith_58 : decode cX0_staysWith 58 = .ok (.isub, 1) := dk_100 (dk_at dksX0_staysWith_2 13 rfl rfl)
theorem dX0_staysWith_59 : decode cX0_staysWith 59 = .ok (.invokestatic 339, 3) := dk_184 1 83 (dk_at dksX0_staysWith_2 14 rfl rfl)
theorem dX0_staysWith_62 : decode cX0_staysWith 62 = .ok (.aload_n 0, 1) := dk_42 (dk_at dksX0_staysWith_2 17 rfl rfl)
theorem dX0_staysWith_63 : decode cX0_staysWith 63 = .ok (.getfield 153, 3) := dk_180 0 153 (dk_at dksX0_staysWith_2 18 rfl rfl)
theorem dX0_staysWith_66 : decode cX0_staysWith 66 = .ok (.getfield 408, 3) := dk_180 1 152 (dk_at dksX0_staysWith_2 21 rfl rfl)
theorem dX0_staysWith_69 : decode cX0_staysWith 69 = .ok (.iconst 3, 1) := dk_6 (dk_at dksX0_staysWith_3 0 rfl rfl)
theorem dX0_staysWith_70 : decode cX0_staysWith 70 = .ok (.iload_n 3, 1) := dk_29 (dk_at dksX0_staysWith_3 1 rfl rfl)
theorem dX0_staysWith_71 : decode cX0_staysWith 71 = .ok (.imul, 1) := dk_104 (dk_at dksX0_staysWith_3 2 rfl rfl)
theorem dX0_staysWith_72 : decode cX0_staysWith 72 = .ok (.iaload, 1) := dk_46 (dk_at dksX0_staysWith_3 3 rfl rfl)
theorem dX0_staysWith_73 : decode cX0_staysWith 73 = .ok (.isub, 1) := dk_100 (dk_at dksX0_staysWith_3 4 rfl rfl)
theorem dX0_staysWith_74 : decode cX0_staysWith 74 = .ok (.iadd, 1) := dk_96 (dk_at dksX0_staysWith_3 5 rfl rfl)
theorem dX0_staysWith_75 : decode cX0_staysWith 75 = .ok (.istore 5, 2) := dk_54 5 (dk_at dksX0_staysWith_3 6 rfl rfl)
theorem dX0_staysWith_77 : decode cX0_staysWith 77 = .ok (.iload 5, 2) := dk_21 5 (dk_at dksX0_staysWith_3 8 rfl rfl)
theorem dX0_staysWith_79 : decode cX0_staysWith 79 = .ok (.ifCond .ge 6, 3) := dk_156 0 6 (dk_at dksX0_staysWith_3 10 rfl rfl)
theorem dX0_staysWith_82 : decode cX0_staysWith 82 = .ok (.iload 4, 2) := dk_21 4 (dk_at dksX0_staysWith_3 13 rfl rfl)
theorem dX0_staysWith_84 : decode cX0_staysWith 84 = .ok (.ireturn, 1) := dk_172 (dk_at dksX0_staysWith_3 15 rfl rfl)
theorem dX0_staysWith_85 : decode cX0_staysWith 85 = .ok (.iinc 4 1, 3) := dk_132 4 1 (dk_at dksX0_staysWith_3 16 rfl rfl)
theorem dX0_staysWith_88 : decode cX0_staysWith 88 = .ok (.goto (-85), 3) := dk_167 255 171 (dk_at dksX0_staysWith_3 19 rfl rfl)
theorem dX0_staysWith_91 : decode cX0_staysWith 91 = .ok (.bipush 100, 2) := dk_16 100 (dk_at dksX0_staysWith_3 22 rfl rfl)
theorem dX0_staysWith_93 : decode cX0_staysWith 93 = .ok (.ireturn, 1) := dk_172 (dk_at dksX0_staysWith_4 0 rfl rfl)
abbrev cX0_game : ByteArray := prog_1_method_53_code
def yX0_game : MethodName := ⟨RX0, "game", "(II)I"⟩
def dkwX0_game_6 : List UInt8 := [153, 0, 6, 21, 4, 172, 132, 4, 1, 167, 255, 228, 16, 254, 172]
abbrev dktX0_game_6 : List UInt8 := dkwX0_game_6 ++ []
def dkwX0_game_5 : List UInt8 := [172, 3, 54, 4, 21, 4, 42, 180, 0, 153, 180, 0, 156, 162, 0, 22, 42, 29, 21, 4, 182, 1, 165]
abbrev dktX0_game_5 : List UInt8 := dkwX0_game_5 ++ dktX0_game_6
def dkwX0_game_4 : List UInt8 := [132, 4, 1, 167, 255, 191, 28, 154, 0, 18, 42, 180, 0, 116, 29, 51, 153, 0, 7, 4, 167, 0, 4, 3]
abbrev dktX0_game_4 : List UInt8 := dkwX0_game_4 ++ dktX0_game_5
def dkwX0_game_3 : List UInt8 := [180, 0, 116, 21, 4, 92, 51, 42, 21, 4, 21, 5, 182, 1, 165, 128, 84, 132, 5, 1, 167, 255, 214]
abbrev dktX0_game_3 : List UInt8 := dkwX0_game_3 ++ dktX0_game_4
def dkwX0_game_2 : List UInt8 := [54, 5, 21, 5, 42, 180, 0, 153, 180, 0, 156, 162, 0, 36, 21, 4, 29, 2, 130, 126, 154, 0, 27, 42]
abbrev dktX0_game_2 : List UInt8 := dkwX0_game_2 ++ dktX0_game_3
def dkwX0_game_1 : List UInt8 := [27, 182, 0, 213, 62, 3, 54, 4, 21, 4, 29, 163, 0, 65, 42, 180, 0, 116, 21, 4, 3, 84, 3]
abbrev dktX0_game_1 : List UInt8 := dkwX0_game_1 ++ dktX0_game_2
def dkwX0_game_0 : List UInt8 := [42, 27, 182, 0, 212, 153, 0, 13, 28, 133, 9, 10, 184, 0, 234, 154, 0, 5, 2, 172, 42, 180, 0, 153]
abbrev dktX0_game_0 : List UInt8 := dkwX0_game_0 ++ dktX0_game_1
theorem dksX0_game_0 : cX0_game.data.toList.drop 0 = dktX0_game_0 := by decide +kernel
theorem dksX0_game_1 : cX0_game.data.toList.drop 24 = dktX0_game_1 := dk_seg dksX0_game_0 24 rfl rfl
theorem dksX0_game_2 : cX0_game.data.toList.drop 47 = dktX0_game_2 := dk_seg dksX0_game_1 23 rfl rfl
theorem dksX0_game_3 : cX0_game.data.toList.drop 71 = dktX0_game_3 := dk_seg dksX0_game_2 24 rfl rfl
theorem dksX0_game_4 : cX0_game.data.toList.drop 94 = dktX0_game_4 := dk_seg dksX0_game_3 23 rfl rfl
theorem dksX0_game_5 : cX0_game.data.toList.drop 118 = dktX0_game_5 := dk_seg dksX0_game_4 24 rfl rfl
theorem dksX0_game_6 : cX0_game.data.toList.drop 141 = dktX0_game_6 := dk_seg dksX0_game_5 23 rfl rfl
theorem dX0_game_0 : decode cX0_game 0 = .ok (.aload_n 0, 1) := dk_42 (dk_at dksX0_game_0 0 rfl rfl)
theorem dX0_game_1 : decode cX0_game 1 = .ok (.iload_n 1, 1) := dk_27 (dk_at dksX0_game_0 1 rfl rfl)
theorem dX0_game_2 : decode cX0_game 2 = .ok (.invokevirtual 212, 3) := dk_182 0 212 (dk_at dksX0_game_0 2 rfl rfl)
theorem dX0_game_5 : decode cX0_game 5 = .ok (.ifCond .eq 13, 3) := dk_153 0 13 (dk_at dksX0_game_0 5 rfl rfl)
theorem dX0_game_8 : decode cX0_game 8 = .ok (.iload_n 2, 1) := dk_28 (dk_at dksX0_game_0 8 rfl rfl)
theorem dX0_game_9 : decode cX0_game 9 = .ok (.i2l, 1) := dk_133 (dk_at dksX0_game_0 9 rfl rfl)
theorem dX0_game_10 : decode cX0_game 10 = .ok (.lconst 0, 1) := dk_9 (dk_at dksX0_game_0 10 rfl rfl)
theorem dX0_game_11 : decode cX0_game 11 = .ok (.lconst 1, 1) := dk_10 (dk_at dksX0_game_0 11 rfl rfl)
theorem dX0_game_12 : decode cX0_game 12 = .ok (.invokestatic 234, 3) := dk_184 0 234 (dk_at dksX0_game_0 12 rfl rfl)
theorem dX0_game_15 : decode cX0_game 15 = .ok (.ifCond .ne 5, 3) := dk_154 0 5 (dk_at dksX0_game_0 15 rfl rfl)
theorem dX0_game_18 : decode cX0_game 18 = .ok (.iconst (-1), 1) := dk_2 (dk_at dksX0_game_0 18 rfl rfl)
theorem dX0_game_19 : decode cX0_game 19 = .ok (.ireturn, 1) := dk_172 (dk_at dksX0_game_0 19 rfl rfl)
theorem dX0_game_20 : decode cX0_game 20 = .ok (.aload_n 0, 1) := dk_42 (dk_at dksX0_game_0 20 rfl rfl)
theorem dX0_game_21 : decode cX0_game 21 = .ok (.getfield 153, 3) := dk_180 0 153 (dk_at dksX0_game_0 21 rfl rfl)
theorem dX0_game_24 : decode cX0_game 24 = .ok (.iload_n 1, 1) := dk_27 (dk_at dksX0_game_1 0 rfl rfl)
theorem dX0_game_25 : decode cX0_game 25 = .ok (.invokevirtual 213, 3) := dk_182 0 213 (dk_at dksX0_game_1 1 rfl rfl)
theorem dX0_game_28 : decode cX0_game 28 = .ok (.istore_n 3, 1) := dk_62 (dk_at dksX0_game_1 4 rfl rfl)
theorem dX0_game_29 : decode cX0_game 29 = .ok (.iconst 0, 1) := dk_3 (dk_at dksX0_game_1 5 rfl rfl)
theorem dX0_game_30 : decode cX0_game 30 = .ok (.istore 4, 2) := dk_54 4 (dk_at dksX0_game_1 6 rfl rfl)
theorem dX0_game_32 : decode cX0_game 32 = .ok (.iload 4, 2) := dk_21 4 (dk_at dksX0_game_1 8 rfl rfl)
theorem dX0_game_34 : decode cX0_game 34 = .ok (.iload_n 3, 1) := dk_29 (dk_at dksX0_game_1 10 rfl rfl)
theorem dX0_game_35 : decode cX0_game 35 = .ok (.if_icmp .gt 65, 3) := dk_163 0 65 (dk_at dksX0_game_1 11 rfl rfl)
theorem dX0_game_38 : decode cX0_game 38 = .ok (.aload_n 0, 1) := dk_42 (dk_at dksX0_game_1 14 rfl rfl)
theorem dX0_game_39 : decode cX0_game 39 = .ok (.getfield 116, 3) := dk_180 0 116 (dk_at dksX0_game_1 15 rfl rfl)
theorem dX0_game_42 : decode cX0_game 42 = .ok (.iload 4, 2) := dk_21 4 (dk_at dksX0_game_1 18 rfl rfl)
theorem dX0_game_44 : decode cX0_game 44 = .ok (.iconst 0, 1) := dk_3 (dk_at dksX0_game_1 20 rfl rfl)
theorem dX0_game_45 : decode cX0_game 45 = .ok (.bastore, 1) := dk_84 (dk_at dksX0_game_1 21 rfl rfl)
theorem dX0_game_46 : decode cX0_game 46 = .ok (.iconst 0, 1) := dk_3 (dk_at dksX0_game_1 22 rfl rfl)
theorem dX0_game_47 : decode cX0_game 47 = .ok (.istore 5, 2) := dk_54 5 (dk_at dksX0_game_2 0 rfl rfl)
theorem dX0_game_49 : decode cX0_game 49 = .ok (.iload 5, 2) := dk_21 5 (dk_at dksX0_game_2 2 rfl rfl)
theorem dX0_game_51 : decode cX0_game 51 = .ok (.aload_n 0, 1) := dk_42 (dk_at dksX0_game_2 4 rfl rfl)
theorem dX0_game_52 : decode cX0_game 52 = .ok (.getfield 153, 3) := dk_180 0 153 (dk_at dksX0_game_2 5 rfl rfl)
theorem dX0_game_55 : decode cX0_game 55 = .ok (.getfield 156, 3) := dk_180 0 156 (dk_at dksX0_game_2 8 rfl rfl)
theorem dX0_game_58 : decode cX0_game 58 = .ok (.if_icmp .ge 36, 3) := dk_162 0 36 (dk_at dksX0_game_2 11 rfl rfl)
theorem dX0_game_61 : decode cX0_game 61 = .ok (.iload 4, 2) := dk_21 4 (dk_at dksX0_game_2 14 rfl rfl)
theorem dX0_game_63 : decode cX0_game 63 = .ok (.iload_n 3, 1) := dk_29 (dk_at dksX0_game_2 16 rfl rfl)
theorem dX0_game_64 : decode cX0_game 64 = .ok (.iconst (-1), 1) := dk_2 (dk_at dksX0_game_2 17 rfl rfl)
theorem dX0_game_65 : decode cX0_game 65 = .ok (.ixor, 1) := dk_130 (dk_at dksX0_game_2 18 rfl rfl)
theorem dX0_game_66 : decode cX0_game 66 = .ok (.iand, 1) := dk_126 (dk_at dksX0_game_2 19 rfl rfl)
theorem dX0_game_67 : decode cX0_game 67 = .ok (.ifCond .ne 27, 3) := dk_154 0 27 (dk_at dksX0_game_2 20 rfl rfl)
theorem dX0_game_70 : decode cX0_game 70 = .ok (.aload_n 0, 1) := dk_42 (dk_at dksX0_game_2 23 rfl rfl)
theorem dX0_game_71 : decode cX0_game 71 = .ok (.getfield 116, 3) := dk_180 0 116 (dk_at dksX0_game_3 0 rfl rfl)
theorem dX0_game_74 : decode cX0_game 74 = .ok (.iload 4, 2) := dk_21 4 (dk_at dksX0_game_3 3 rfl rfl)
theorem dX0_game_76 : decode cX0_game 76 = .ok (.dup2, 1) := dk_92 (dk_at dksX0_game_3 5 rfl rfl)
theorem dX0_game_77 : decode cX0_game 77 = .ok (.baload, 1) := dk_51 (dk_at dksX0_game_3 6 rfl rfl)
theorem dX0_game_78 : decode cX0_game 78 = .ok (.aload_n 0, 1) := dk_42 (dk_at dksX0_game_3 7 rfl rfl)
theorem dX0_game_79 : decode cX0_game 79 = .ok (.iload 4, 2) := dk_21 4 (dk_at dksX0_game_3 8 rfl rfl)
theorem dX0_game_81 : decode cX0_game 81 = .ok (.iload 5, 2) := dk_21 5 (dk_at dksX0_game_3 10 rfl rfl)
theorem dX0_game_83 : decode cX0_game 83 = .ok (.invokevirtual 421, 3) := dk_182 1 165 (dk_at dksX0_game_3 12 rfl rfl)
theorem dX0_game_86 : decode cX0_game 86 = .ok (.ior, 1) := dk_128 (dk_at dksX0_game_3 15 rfl rfl)
theorem dX0_game_87 : decode cX0_game 87 = .ok (.bastore, 1) := dk_84 (dk_at dksX0_game_3 16 rfl rfl)
theorem dX0_game_88 : decode cX0_game 88 = .ok (.iinc 5 1, 3) := dk_132 5 1 (dk_at dksX0_game_3 17 rfl rfl)
theorem dX0_game_91 : decode cX0_game 91 = .ok (.goto (-42), 3) := dk_167 255 214 (dk_at dksX0_game_3 20 rfl rfl)
theorem dX0_game_94 : decode cX0_game 94 = .ok (.iinc 4 1, 3) := dk_132 4 1 (dk_at dksX0_game_4 0 rfl rfl)
theorem dX0_game_97 : decode cX0_game 97 = .ok (.goto (-65), 3) := dk_167 255 191 (dk_at dksX0_game_4 3 rfl rfl)
theorem dX0_game_100 : decode cX0_game 100 = .ok (.iload_n 2, 1) := dk_28 (dk_at dksX0_game_4 6 rfl rfl)
theorem dX0_game_101 : decode cX0_game 101 = .ok (.ifCond .ne 18, 3) := dk_154 0 18 (dk_at dksX0_game_4 7 rfl rfl)
theorem dX0_game_104 : decode cX0_game 104 = .ok (.aload_n 0, 1) := dk_42 (dk_at dksX0_game_4 10 rfl rfl)
theorem dX0_game_105 : decode cX0_game 105 = .ok (.getfield 116, 3) := dk_180 0 116 (dk_at dksX0_game_4 11 rfl rfl)
theorem dX0_game_108 : decode cX0_game 108 = .ok (.iload_n 3, 1) := dk_29 (dk_at dksX0_game_4 14 rfl rfl)
theorem dX0_game_109 : decode cX0_game 109 = .ok (.baload, 1) := dk_51 (dk_at dksX0_game_4 15 rfl rfl)
theorem dX0_game_110 : decode cX0_game 110 = .ok (.ifCond .eq 7, 3) := dk_153 0 7 (dk_at dksX0_game_4 16 rfl rfl)
theorem dX0_game_113 : decode cX0_game 113 = .ok (.iconst 1, 1) := dk_4 (dk_at dksX0_game_4 19 rfl rfl)
theorem dX0_game_114 : decode cX0_game 114 = .ok (.goto 4, 3) := dk_167 0 4 (dk_at dksX0_game_4 20 rfl rfl)
theorem dX0_game_117 : decode cX0_game 117 = .ok (.iconst 0, 1) := dk_3 (dk_at dksX0_game_4 23 rfl rfl)
theorem dX0_game_118 : decode cX0_game 118 = .ok (.ireturn, 1) := dk_172 (dk_at dksX0_game_5 0 rfl rfl)
theorem dX0_game_119 : decode cX0_game 119 = .ok (.iconst 0, 1) := dk_3 (dk_at dksX0_game_5 1 rfl rfl)
theorem dX0_game_120 : decode cX0_game 120 = .ok (.istore 4, 2) := dk_54 4 (dk_at dksX0_game_5 2 rfl rfl)
theorem dX0_game_122 : decode cX0_game 122 = .ok (.iload 4, 2) := dk_21 4 (dk_at dksX0_game_5 4 rfl rfl)
theorem dX0_game_124 : decode cX0_game 124 = .ok (.aload_n 0, 1) := dk_42 (dk_at dksX0_game_5 6 rfl rfl)
theorem dX0_game_125 : decode cX0_game 125 = .ok (.getfield 153, 3) := dk_180 0 153 (dk_at dksX0_game_5 7 rfl rfl)
theorem dX0_game_128 : decode cX0_game 128 = .ok (.getfield 156, 3) := dk_180 0 156 (dk_at dksX0_game_5 10 rfl rfl)
theorem dX0_game_131 : decode cX0_game 131 = .ok (.if_icmp .ge 22, 3) := dk_162 0 22 (dk_at dksX0_game_5 13 rfl rfl)
theorem dX0_game_134 : decode cX0_game 134 = .ok (.aload_n 0, 1) := dk_42 (dk_at dksX0_game_5 16 rfl rfl)
theorem dX0_game_135 : decode cX0_game 135 = .ok (.iload_n 3, 1) := dk_29 (dk_at dksX0_game_5 17 rfl rfl)
theorem dX0_game_136 : decode cX0_game 136 = .ok (.iload 4, 2) := dk_21 4 (dk_at dksX0_game_5 18 rfl rfl)
theorem dX0_game_138 : decode cX0_game 138 = .ok (.invokevirtual 421, 3) := dk_182 1 165 (dk_at dksX0_game_5 20 rfl rfl)
theorem dX0_game_141 : decode cX0_game 141 = .ok (.ifCond .eq 6, 3) := dk_153 0 6 (dk_at dksX0_game_6 0 rfl rfl)
theorem dX0_game_144 : decode cX0_game 144 = .ok (.iload 4, 2) := dk_21 4 (dk_at dksX0_game_6 3 rfl rfl)
theorem dX0_game_146 : decode cX0_game 146 = .ok (.ireturn, 1) := dk_172 (dk_at dksX0_game_6 5 rfl rfl)
theorem dX0_game_147 : decode cX0_game 147 = .ok (.iinc 4 1, 3) := dk_132 4 1 (dk_at dksX0_game_6 6 rfl rfl)
theorem dX0_game_150 : decode cX0_game 150 = .ok (.goto (-28), 3) := dk_167 255 228 (dk_at dksX0_game_6 9 rfl rfl)
theorem dX0_game_153 : decode cX0_game 153 = .ok (.bipush (-2), 2) := dk_16 254 (dk_at dksX0_game_6 12 rfl rfl)
theorem dX0_game_155 : decode cX0_game 155 = .ok (.ireturn, 1) := dk_172 (dk_at dksX0_game_6 14 rfl rfl)
abbrev cX0_isWon : ByteArray := prog_1_method_52_code
def yX0_isWon : MethodName := ⟨RX0, "isWon", "(II)Z"⟩
def dkwX0_isWon_1 : List UInt8 := [155, 0, 22, 42, 180, 0, 116, 27, 4, 28, 120, 2, 130, 126, 51, 154, 0, 7, 4, 167, 0, 4, 3, 172]
abbrev dktX0_isWon_1 : List UInt8 := dkwX0_isWon_1 ++ []
def dkwX0_isWon_0 : List UInt8 := [27, 28, 184, 1, 38, 153, 0, 39, 42, 180, 0, 153, 27, 4, 28, 120, 2, 130, 126, 182, 1, 80]
abbrev dktX0_isWon_0 : List UInt8 := dkwX0_isWon_0 ++ dktX0_isWon_1
theorem dksX0_isWon_0 : cX0_isWon.data.toList.drop 0 = dktX0_isWon_0 := by decide +kernel
theorem dksX0_isWon_1 : cX0_isWon.data.toList.drop 22 = dktX0_isWon_1 := dk_seg dksX0_isWon_0 22 rfl rfl
theorem dX0_isWon_0 : decode cX0_isWon 0 = .ok (.iload_n 1, 1) := dk_27 (dk_at dksX0_isWon_0 0 rfl rfl)
theorem dX0_isWon_1 : decode cX0_isWon 1 = .ok (.iload_n 2, 1) := dk_28 (dk_at dksX0_isWon_0 1 rfl rfl)
theorem dX0_isWon_2 : decode cX0_isWon 2 = .ok (.invokestatic 294, 3) := dk_184 1 38 (dk_at dksX0_isWon_0 2 rfl rfl)
theorem dX0_isWon_5 : decode cX0_isWon 5 = .ok (.ifCond .eq 39, 3) := dk_153 0 39 (dk_at dksX0_isWon_0 5 rfl rfl)
theorem dX0_isWon_8 : decode cX0_isWon 8 = .ok (.aload_n 0, 1) := dk_42 (dk_at dksX0_isWon_0 8 rfl rfl)
theorem dX0_isWon_9 : decode cX0_isWon 9 = .ok (.getfield 153, 3) := dk_180 0 153 (dk_at dksX0_isWon_0 9 rfl rfl)
theorem dX0_isWon_12 : decode cX0_isWon 12 = .ok (.iload_n 1, 1) := dk_27 (dk_at dksX0_isWon_0 12 rfl rfl)
theorem dX0_isWon_13 : decode cX0_isWon 13 = .ok (.iconst 1, 1) := dk_4 (dk_at dksX0_isWon_0 13 rfl rfl)
theorem dX0_isWon_14 : decode cX0_isWon 14 = .ok (.iload_n 2, 1) := dk_28 (dk_at dksX0_isWon_0 14 rfl rfl)
theorem dX0_isWon_15 : decode cX0_isWon 15 = .ok (.ishl, 1) := dk_120 (dk_at dksX0_isWon_0 15 rfl rfl)
theorem dX0_isWon_16 : decode cX0_isWon 16 = .ok (.iconst (-1), 1) := dk_2 (dk_at dksX0_isWon_0 16 rfl rfl)
theorem dX0_isWon_17 : decode cX0_isWon 17 = .ok (.ixor, 1) := dk_130 (dk_at dksX0_isWon_0 17 rfl rfl)
theorem dX0_isWon_18 : decode cX0_isWon 18 = .ok (.iand, 1) := dk_126 (dk_at dksX0_isWon_0 18 rfl rfl)
theorem dX0_isWon_19 : decode cX0_isWon 19 = .ok (.invokevirtual 336, 3) := dk_182 1 80 (dk_at dksX0_isWon_0 19 rfl rfl)
theorem dX0_isWon_22 : decode cX0_isWon 22 = .ok (.ifCond .lt 22, 3) := dk_155 0 22 (dk_at dksX0_isWon_1 0 rfl rfl)
theorem dX0_isWon_25 : decode cX0_isWon 25 = .ok (.aload_n 0, 1) := dk_42 (dk_at dksX0_isWon_1 3 rfl rfl)
theorem dX0_isWon_26 : decode cX0_isWon 26 = .ok (.getfield 116, 3) := dk_180 0 116 (dk_at dksX0_isWon_1 4 rfl rfl)
theorem dX0_isWon_29 : decode cX0_isWon 29 = .ok (.iload_n 1, 1) := dk_27 (dk_at dksX0_isWon_1 7 rfl rfl)
theorem dX0_isWon_30 : decode cX0_isWon 30 = .ok (.iconst 1, 1) := dk_4 (dk_at dksX0_isWon_1 8 rfl rfl)
theorem dX0_isWon_31 : decode cX0_isWon 31 = .ok (.iload_n 2, 1) := dk_28 (dk_at dksX0_isWon_1 9 rfl rfl)
theorem dX0_isWon_32 : decode cX0_isWon 32 = .ok (.ishl, 1) := dk_120 (dk_at dksX0_isWon_1 10 rfl rfl)
theorem dX0_isWon_33 : decode cX0_isWon 33 = .ok (.iconst (-1), 1) := dk_2 (dk_at dksX0_isWon_1 11 rfl rfl)
theorem dX0_isWon_34 : decode cX0_isWon 34 = .ok (.ixor, 1) := dk_130 (dk_at dksX0_isWon_1 12 rfl rfl)
theorem dX0_isWon_35 : decode cX0_isWon 35 = .ok (.iand, 1) := dk_126 (dk_at dksX0_isWon_1 13 rfl rfl)
theorem dX0_isWon_36 : decode cX0_isWon 36 = .ok (.baload, 1) := dk_51 (dk_at dksX0_isWon_1 14 rfl rfl)
theorem dX0_isWon_37 : decode cX0_isWon 37 = .ok (.ifCond .ne 7, 3) := dk_154 0 7 (dk_at dksX0_isWon_1 15 rfl rfl)
theorem dX0_isWon_40 : decode cX0_isWon 40 = .ok (.iconst 1, 1) := dk_4 (dk_at dksX0_isWon_1 18 rfl rfl)
theorem dX0_isWon_41 : decode cX0_isWon 41 = .ok (.goto 4, 3) := dk_167 0 4 (dk_at dksX0_isWon_1 19 rfl rfl)
theorem dX0_isWon_44 : decode cX0_isWon 44 = .ok (.iconst 0, 1) := dk_3 (dk_at dksX0_isWon_1 22 rfl rfl)
theorem dX0_isWon_45 : decode cX0_isWon 45 = .ok (.ireturn, 1) := dk_172 (dk_at dksX0_isWon_1 23 rfl rfl)
abbrev cX0_seed : ByteArray := prog_1_method_54_code
def yX0_seed : MethodName := ⟨RX0, "seed", "(I)I"⟩
def dkwX0_seed_0 : List UInt8 := [27, 156, 0, 5, 2, 172, 42, 180, 1, 168, 61, 42, 27, 181, 1, 168, 28, 172]
abbrev dktX0_seed_0 : List UInt8 := dkwX0_seed_0 ++ []
theorem dksX0_seed_0 : cX0_seed.data.toList.drop 0 = dktX0_seed_0 := by decide +kernel
theorem dX0_seed_0 : decode cX0_seed 0 = .ok (.iload_n 1, 1) := dk_27 (dk_at dksX0_seed_0 0 rfl rfl)
theorem dX0_seed_1 : decode cX0_seed 1 = .ok (.ifCond .ge 5, 3) := dk_156 0 5 (dk_at dksX0_seed_0 1 rfl rfl)
theorem dX0_seed_4 : decode cX0_seed 4 = .ok (.iconst (-1), 1) := dk_2 (dk_at dksX0_seed_0 4 rfl rfl)
theorem dX0_seed_5 : decode cX0_seed 5 = .ok (.ireturn, 1) := dk_172 (dk_at dksX0_seed_0 5 rfl rfl)
theorem dX0_seed_6 : decode cX0_seed 6 = .ok (.aload_n 0, 1) := dk_42 (dk_at dksX0_seed_0 6 rfl rfl)
theorem dX0_seed_7 : decode cX0_seed 7 = .ok (.getfield 424, 3) := dk_180 1 168 (dk_at dksX0_seed_0 7 rfl rfl)
theorem dX0_seed_10 : decode cX0_seed 10 = .ok (.istore_n 2, 1) := dk_61 (dk_at dksX0_seed_0 10 rfl rfl)
theorem dX0_seed_11 : decode cX0_seed 11 = .ok (.aload_n 0, 1) := dk_42 (dk_at dksX0_seed_0 11 rfl rfl)
theorem dX0_seed_12 : decode cX0_seed 12 = .ok (.iload_n 1, 1) := dk_27 (dk_at dksX0_seed_0 12 rfl rfl)
theorem dX0_seed_13 : decode cX0_seed 13 = .ok (.putfield 424, 3) := dk_181 1 168 (dk_at dksX0_seed_0 13 rfl rfl)
theorem dX0_seed_16 : decode cX0_seed 16 = .ok (.iload_n 2, 1) := dk_28 (dk_at dksX0_seed_0 16 rfl rfl)
theorem dX0_seed_17 : decode cX0_seed 17 = .ok (.ireturn, 1) := dk_172 (dk_at dksX0_seed_0 17 rfl rfl)
abbrev cX0_drawn : ByteArray := prog_1_method_56_code
def yX0_drawn : MethodName := ⟨RX0, "drawn", "(III)I"⟩
def dkwX0_drawn_8 : List UInt8 := [154, 0, 8, 21, 4, 167, 0, 15, 29, 4, 160, 0, 8, 21, 5, 167, 0, 5, 21, 6, 172]
abbrev dktX0_drawn_8 : List UInt8 := dkwX0_drawn_8 ++ []
def dkwX0_drawn_7 : List UInt8 := [21, 6, 25, 7, 180, 1, 195, 96, 54, 6, 132, 9, 1, 167, 255, 196, 132, 8, 1, 167, 255, 171, 29]
abbrev dktX0_drawn_7 : List UInt8 := dkwX0_drawn_7 ++ dktX0_drawn_8
def dkwX0_drawn_6 : List UInt8 := [96, 182, 0, 238, 184, 1, 83, 182, 1, 189, 96, 54, 4, 21, 5, 25, 7, 180, 1, 192, 96, 54, 5]
abbrev dktX0_drawn_6 : List UInt8 := dkwX0_drawn_6 ++ dktX0_drawn_7
def dkwX0_drawn_5 : List UInt8 := [21, 9, 28, 162, 0, 60, 21, 4, 25, 7, 42, 16, 10, 182, 1, 186, 25, 7, 25, 7, 180, 1, 6, 4]
abbrev dktX0_drawn_5 : List UInt8 := dkwX0_drawn_5 ++ dktX0_drawn_6
def dkwX0_drawn_4 : List UInt8 := [58, 7, 3, 54, 8, 21, 8, 27, 162, 0, 85, 25, 7, 42, 180, 0, 153, 182, 1, 183, 87, 3, 54, 9]
abbrev dktX0_drawn_4 : List UInt8 := dkwX0_drawn_4 ++ dktX0_drawn_5
def dkwX0_drawn_3 : List UInt8 := [181, 1, 171, 3, 54, 4, 3, 54, 5, 3, 54, 6, 42, 180, 0, 16, 42, 180, 0, 153, 182, 0, 149]
abbrev dktX0_drawn_3 : List UInt8 := dkwX0_drawn_3 ++ dktX0_drawn_4
def dkwX0_drawn_2 : List UInt8 := [153, 0, 15, 29, 133, 9, 20, 1, 112, 184, 0, 234, 154, 0, 5, 2, 172, 42, 42, 180, 1, 168]
abbrev dktX0_drawn_2 : List UInt8 := dkwX0_drawn_2 ++ dktX0_drawn_3
def dkwX0_drawn_1 : List UInt8 := [42, 180, 0, 153, 180, 0, 231, 42, 180, 0, 153, 180, 1, 6, 100, 184, 1, 45, 133, 184, 0, 234]
abbrev dktX0_drawn_1 : List UInt8 := dkwX0_drawn_1 ++ dktX0_drawn_2
def dkwX0_drawn_0 : List UInt8 := [42, 180, 0, 153, 198, 0, 57, 27, 133, 10, 20, 1, 181, 184, 0, 234, 153, 0, 45, 28, 133, 10, 16, 60]
abbrev dktX0_drawn_0 : List UInt8 := dkwX0_drawn_0 ++ dktX0_drawn_1
theorem dksX0_drawn_0 : cX0_drawn.data.toList.drop 0 = dktX0_drawn_0 := by decide +kernel
theorem dksX0_drawn_1 : cX0_drawn.data.toList.drop 24 = dktX0_drawn_1 := dk_seg dksX0_drawn_0 24 rfl rfl
theorem dksX0_drawn_2 : cX0_drawn.data.toList.drop 46 = dktX0_drawn_2 := dk_seg dksX0_drawn_1 22 rfl rfl
theorem dksX0_drawn_3 : cX0_drawn.data.toList.drop 68 = dktX0_drawn_3 := dk_seg dksX0_drawn_2 22 rfl rfl
theorem dksX0_drawn_4 : cX0_drawn.data.toList.drop 91 = dktX0_drawn_4 := dk_seg dksX0_drawn_3 23 rfl rfl
theorem dksX0_drawn_5 : cX0_drawn.data.toList.drop 115 = dktX0_drawn_5 := dk_seg dksX0_drawn_4 24 rfl rfl
theorem dksX0_drawn_6 : cX0_drawn.data.toList.drop 139 = dktX0_drawn_6 := dk_seg dksX0_drawn_5 24 rfl rfl
theorem dksX0_drawn_7 : cX0_drawn.data.toList.drop 162 = dktX0_drawn_7 := dk_seg dksX0_drawn_6 23 rfl rfl
theorem dksX0_drawn_8 : cX0_drawn.data.toList.drop 185 = dktX0_drawn_8 := dk_seg dksX0_drawn_7 23 rfl rfl
theorem dX0_drawn_0 : decode cX0_drawn 0 = .ok (.aload_n 0, 1) := dk_42 (dk_at dksX0_drawn_0 0 rfl rfl)
theorem dX0_drawn_1 : decode cX0_drawn 1 = .ok (.getfield 153, 3) := dk_180 0 153 (dk_at dksX0_drawn_0 1 rfl rfl)
theorem dX0_drawn_4 : decode cX0_drawn 4 = .ok (.ifnull 57, 3) := dk_198 0 57 (dk_at dksX0_drawn_0 4 rfl rfl)
theorem dX0_drawn_7 : decode cX0_drawn 7 = .ok (.iload_n 1, 1) := dk_27 (dk_at dksX0_drawn_0 7 rfl rfl)
theorem dX0_drawn_8 : decode cX0_drawn 8 = .ok (.i2l, 1) := dk_133 (dk_at dksX0_drawn_0 8 rfl rfl)
theorem dX0_drawn_9 : decode cX0_drawn 9 = .ok (.lconst 1, 1) := dk_10 (dk_at dksX0_drawn_0 9 rfl rfl)
theorem dX0_drawn_10 : decode cX0_drawn 10 = .ok (.ldc2_w 437, 3) := dk_20 1 181 (dk_at dksX0_drawn_0 10 rfl rfl)
theorem dX0_drawn_13 : decode cX0_drawn 13 = .ok (.invokestatic 234, 3) := dk_184 0 234 (dk_at dksX0_drawn_0 13 rfl rfl)
theorem dX0_drawn_16 : decode cX0_drawn 16 = .ok (.ifCond .eq 45, 3) := dk_153 0 45 (dk_at dksX0_drawn_0 16 rfl rfl)
theorem dX0_drawn_19 : decode cX0_drawn 19 = .ok (.iload_n 2, 1) := dk_28 (dk_at dksX0_drawn_0 19 rfl rfl)
theorem dX0_drawn_20 : decode cX0_drawn 20 = .ok (.i2l, 1) := dk_133 (dk_at dksX0_drawn_0 20 rfl rfl)
theorem dX0_drawn_21 : decode cX0_drawn 21 = .ok (.lconst 1, 1) := dk_10 (dk_at dksX0_drawn_0 21 rfl rfl)
theorem dX0_drawn_22 : decode cX0_drawn 22 = .ok (.bipush 60, 2) := dk_16 60 (dk_at dksX0_drawn_0 22 rfl rfl)
theorem dX0_drawn_24 : decode cX0_drawn 24 = .ok (.aload_n 0, 1) := dk_42 (dk_at dksX0_drawn_1 0 rfl rfl)
theorem dX0_drawn_25 : decode cX0_drawn 25 = .ok (.getfield 153, 3) := dk_180 0 153 (dk_at dksX0_drawn_1 1 rfl rfl)
theorem dX0_drawn_28 : decode cX0_drawn 28 = .ok (.getfield 231, 3) := dk_180 0 231 (dk_at dksX0_drawn_1 4 rfl rfl)
theorem dX0_drawn_31 : decode cX0_drawn 31 = .ok (.aload_n 0, 1) := dk_42 (dk_at dksX0_drawn_1 7 rfl rfl)
theorem dX0_drawn_32 : decode cX0_drawn 32 = .ok (.getfield 153, 3) := dk_180 0 153 (dk_at dksX0_drawn_1 8 rfl rfl)
theorem dX0_drawn_35 : decode cX0_drawn 35 = .ok (.getfield 262, 3) := dk_180 1 6 (dk_at dksX0_drawn_1 11 rfl rfl)
theorem dX0_drawn_38 : decode cX0_drawn 38 = .ok (.isub, 1) := dk_100 (dk_at dksX0_drawn_1 14 rfl rfl)
theorem dX0_drawn_39 : decode cX0_drawn 39 = .ok (.invokestatic 301, 3) := dk_184 1 45 (dk_at dksX0_drawn_1 15 rfl rfl)
theorem dX0_drawn_42 : decode cX0_drawn 42 = .ok (.i2l, 1) := dk_133 (dk_at dksX0_drawn_1 18 rfl rfl)
theorem dX0_drawn_43 : decode cX0_drawn 43 = .ok (.invokestatic 234, 3) := dk_184 0 234 (dk_at dksX0_drawn_1 19 rfl rfl)
theorem dX0_drawn_46 : decode cX0_drawn 46 = .ok (.ifCond .eq 15, 3) := dk_153 0 15 (dk_at dksX0_drawn_2 0 rfl rfl)
theorem dX0_drawn_49 : decode cX0_drawn 49 = .ok (.iload_n 3, 1) := dk_29 (dk_at dksX0_drawn_2 3 rfl rfl)
theorem dX0_drawn_50 : decode cX0_drawn 50 = .ok (.i2l, 1) := dk_133 (dk_at dksX0_drawn_2 4 rfl rfl)
theorem dX0_drawn_51 : decode cX0_drawn 51 = .ok (.lconst 0, 1) := dk_9 (dk_at dksX0_drawn_2 5 rfl rfl)
theorem dX0_drawn_52 : decode cX0_drawn 52 = .ok (.ldc2_w 368, 3) := dk_20 1 112 (dk_at dksX0_drawn_2 6 rfl rfl)
theorem dX0_drawn_55 : decode cX0_drawn 55 = .ok (.invokestatic 234, 3) := dk_184 0 234 (dk_at dksX0_drawn_2 9 rfl rfl)
theorem dX0_drawn_58 : decode cX0_drawn 58 = .ok (.ifCond .ne 5, 3) := dk_154 0 5 (dk_at dksX0_drawn_2 12 rfl rfl)
theorem dX0_drawn_61 : decode cX0_drawn 61 = .ok (.iconst (-1), 1) := dk_2 (dk_at dksX0_drawn_2 15 rfl rfl)
theorem dX0_drawn_62 : decode cX0_drawn 62 = .ok (.ireturn, 1) := dk_172 (dk_at dksX0_drawn_2 16 rfl rfl)
theorem dX0_drawn_63 : decode cX0_drawn 63 = .ok (.aload_n 0, 1) := dk_42 (dk_at dksX0_drawn_2 17 rfl rfl)
theorem dX0_drawn_64 : decode cX0_drawn 64 = .ok (.aload_n 0, 1) := dk_42 (dk_at dksX0_drawn_2 18 rfl rfl)
theorem dX0_drawn_65 : decode cX0_drawn 65 = .ok (.getfield 424, 3) := dk_180 1 168 (dk_at dksX0_drawn_2 19 rfl rfl)
theorem dX0_drawn_68 : decode cX0_drawn 68 = .ok (.putfield 427, 3) := dk_181 1 171 (dk_at dksX0_drawn_3 0 rfl rfl)
theorem dX0_drawn_71 : decode cX0_drawn 71 = .ok (.iconst 0, 1) := dk_3 (dk_at dksX0_drawn_3 3 rfl rfl)
theorem dX0_drawn_72 : decode cX0_drawn 72 = .ok (.istore 4, 2) := dk_54 4 (dk_at dksX0_drawn_3 4 rfl rfl)
theorem dX0_drawn_74 : decode cX0_drawn 74 = .ok (.iconst 0, 1) := dk_3 (dk_at dksX0_drawn_3 6 rfl rfl)
theorem dX0_drawn_75 : decode cX0_drawn 75 = .ok (.istore 5, 2) := dk_54 5 (dk_at dksX0_drawn_3 7 rfl rfl)
theorem dX0_drawn_77 : decode cX0_drawn 77 = .ok (.iconst 0, 1) := dk_3 (dk_at dksX0_drawn_3 9 rfl rfl)
theorem dX0_drawn_78 : decode cX0_drawn 78 = .ok (.istore 6, 2) := dk_54 6 (dk_at dksX0_drawn_3 10 rfl rfl)
theorem dX0_drawn_80 : decode cX0_drawn 80 = .ok (.aload_n 0, 1) := dk_42 (dk_at dksX0_drawn_3 12 rfl rfl)
theorem dX0_drawn_81 : decode cX0_drawn 81 = .ok (.getfield 16, 3) := dk_180 0 16 (dk_at dksX0_drawn_3 13 rfl rfl)
theorem dX0_drawn_84 : decode cX0_drawn 84 = .ok (.aload_n 0, 1) := dk_42 (dk_at dksX0_drawn_3 16 rfl rfl)
theorem dX0_drawn_85 : decode cX0_drawn 85 = .ok (.getfield 153, 3) := dk_180 0 153 (dk_at dksX0_drawn_3 17 rfl rfl)
theorem dX0_drawn_88 : decode cX0_drawn 88 = .ok (.invokevirtual 149, 3) := dk_182 0 149 (dk_at dksX0_drawn_3 20 rfl rfl)
theorem dX0_drawn_91 : decode cX0_drawn 91 = .ok (.astore 7, 2) := dk_58 7 (dk_at dksX0_drawn_4 0 rfl rfl)
theorem dX0_drawn_93 : decode cX0_drawn 93 = .ok (.iconst 0, 1) := dk_3 (dk_at dksX0_drawn_4 2 rfl rfl)
theorem dX0_drawn_94 : decode cX0_drawn 94 = .ok (.istore 8, 2) := dk_54 8 (dk_at dksX0_drawn_4 3 rfl rfl)
theorem dX0_drawn_96 : decode cX0_drawn 96 = .ok (.iload 8, 2) := dk_21 8 (dk_at dksX0_drawn_4 5 rfl rfl)
theorem dX0_drawn_98 : decode cX0_drawn 98 = .ok (.iload_n 1, 1) := dk_27 (dk_at dksX0_drawn_4 7 rfl rfl)
theorem dX0_drawn_99 : decode cX0_drawn 99 = .ok (.if_icmp .ge 85, 3) := dk_162 0 85 (dk_at dksX0_drawn_4 8 rfl rfl)
theorem dX0_drawn_102 : decode cX0_drawn 102 = .ok (.aload 7, 2) := dk_25 7 (dk_at dksX0_drawn_4 11 rfl rfl)
theorem dX0_drawn_104 : decode cX0_drawn 104 = .ok (.aload_n 0, 1) := dk_42 (dk_at dksX0_drawn_4 13 rfl rfl)
theorem dX0_drawn_105 : decode cX0_drawn 105 = .ok (.getfield 153, 3) := dk_180 0 153 (dk_at dksX0_drawn_4 14 rfl rfl)
theorem dX0_drawn_108 : decode cX0_drawn 108 = .ok (.invokevirtual 439, 3) := dk_182 1 183 (dk_at dksX0_drawn_4 17 rfl rfl)
theorem dX0_drawn_111 : decode cX0_drawn 111 = .ok (.pop, 1) := dk_87 (dk_at dksX0_drawn_4 20 rfl rfl)
theorem dX0_drawn_112 : decode cX0_drawn 112 = .ok (.iconst 0, 1) := dk_3 (dk_at dksX0_drawn_4 21 rfl rfl)
theorem dX0_drawn_113 : decode cX0_drawn 113 = .ok (.istore 9, 2) := dk_54 9 (dk_at dksX0_drawn_4 22 rfl rfl)
theorem dX0_drawn_115 : decode cX0_drawn 115 = .ok (.iload 9, 2) := dk_21 9 (dk_at dksX0_drawn_5 0 rfl rfl)
theorem dX0_drawn_117 : decode cX0_drawn 117 = .ok (.iload_n 2, 1) := dk_28 (dk_at dksX0_drawn_5 2 rfl rfl)
theorem dX0_drawn_118 : decode cX0_drawn 118 = .ok (.if_icmp .ge 60, 3) := dk_162 0 60 (dk_at dksX0_drawn_5 3 rfl rfl)
theorem dX0_drawn_121 : decode cX0_drawn 121 = .ok (.iload 4, 2) := dk_21 4 (dk_at dksX0_drawn_5 6 rfl rfl)
theorem dX0_drawn_123 : decode cX0_drawn 123 = .ok (.aload 7, 2) := dk_25 7 (dk_at dksX0_drawn_5 8 rfl rfl)
theorem dX0_drawn_125 : decode cX0_drawn 125 = .ok (.aload_n 0, 1) := dk_42 (dk_at dksX0_drawn_5 10 rfl rfl)
theorem dX0_drawn_126 : decode cX0_drawn 126 = .ok (.bipush 10, 2) := dk_16 10 (dk_at dksX0_drawn_5 11 rfl rfl)
theorem dX0_drawn_128 : decode cX0_drawn 128 = .ok (.invokevirtual 442, 3) := dk_182 1 186 (dk_at dksX0_drawn_5 13 rfl rfl)
theorem dX0_drawn_131 : decode cX0_drawn 131 = .ok (.aload 7, 2) := dk_25 7 (dk_at dksX0_drawn_5 16 rfl rfl)
theorem dX0_drawn_133 : decode cX0_drawn 133 = .ok (.aload 7, 2) := dk_25 7 (dk_at dksX0_drawn_5 18 rfl rfl)
theorem dX0_drawn_135 : decode cX0_drawn 135 = .ok (.getfield 262, 3) := dk_180 1 6 (dk_at dksX0_drawn_5 20 rfl rfl)
theorem dX0_drawn_138 : decode cX0_drawn 138 = .ok (.iconst 1, 1) := dk_4 (dk_at dksX0_drawn_5 23 rfl rfl)
theorem dX0_drawn_139 : decode cX0_drawn 139 = .ok (.iadd, 1) := dk_96 (dk_at dksX0_drawn_6 0 rfl rfl)
theorem dX0_drawn_140 : decode cX0_drawn 140 = .ok (.invokevirtual 238, 3) := dk_182 0 238 (dk_at dksX0_drawn_6 1 rfl rfl)
theorem dX0_drawn_143 : decode cX0_drawn 143 = .ok (.invokestatic 339, 3) := dk_184 1 83 (dk_at dksX0_drawn_6 4 rfl rfl)
theorem dX0_drawn_146 : decode cX0_drawn 146 = .ok (.invokevirtual 445, 3) := dk_182 1 189 (dk_at dksX0_drawn_6 7 rfl rfl)
theorem dX0_drawn_149 : decode cX0_drawn 149 = .ok (.iadd, 1) := dk_96 (dk_at dksX0_drawn_6 10 rfl rfl)
theorem dX0_drawn_150 : decode cX0_drawn 150 = .ok (.istore 4, 2) := dk_54 4 (dk_at dksX0_drawn_6 11 rfl rfl)
theorem dX0_drawn_152 : decode cX0_drawn 152 = .ok (.iload 5, 2) := dk_21 5 (dk_at dksX0_drawn_6 13 rfl rfl)
theorem dX0_drawn_154 : decode cX0_drawn 154 = .ok (.aload 7, 2) := dk_25 7 (dk_at dksX0_drawn_6 15 rfl rfl)
theorem dX0_drawn_156 : decode cX0_drawn 156 = .ok (.getfield 448, 3) := dk_180 1 192 (dk_at dksX0_drawn_6 17 rfl rfl)
theorem dX0_drawn_159 : decode cX0_drawn 159 = .ok (.iadd, 1) := dk_96 (dk_at dksX0_drawn_6 20 rfl rfl)
theorem dX0_drawn_160 : decode cX0_drawn 160 = .ok (.istore 5, 2) := dk_54 5 (dk_at dksX0_drawn_6 21 rfl rfl)
theorem dX0_drawn_162 : decode cX0_drawn 162 = .ok (.iload 6, 2) := dk_21 6 (dk_at dksX0_drawn_7 0 rfl rfl)
theorem dX0_drawn_164 : decode cX0_drawn 164 = .ok (.aload 7, 2) := dk_25 7 (dk_at dksX0_drawn_7 2 rfl rfl)
theorem dX0_drawn_166 : decode cX0_drawn 166 = .ok (.getfield 451, 3) := dk_180 1 195 (dk_at dksX0_drawn_7 4 rfl rfl)
theorem dX0_drawn_169 : decode cX0_drawn 169 = .ok (.iadd, 1) := dk_96 (dk_at dksX0_drawn_7 7 rfl rfl)
theorem dX0_drawn_170 : decode cX0_drawn 170 = .ok (.istore 6, 2) := dk_54 6 (dk_at dksX0_drawn_7 8 rfl rfl)
theorem dX0_drawn_172 : decode cX0_drawn 172 = .ok (.iinc 9 1, 3) := dk_132 9 1 (dk_at dksX0_drawn_7 10 rfl rfl)
theorem dX0_drawn_175 : decode cX0_drawn 175 = .ok (.goto (-60), 3) := dk_167 255 196 (dk_at dksX0_drawn_7 13 rfl rfl)
theorem dX0_drawn_178 : decode cX0_drawn 178 = .ok (.iinc 8 1, 3) := dk_132 8 1 (dk_at dksX0_drawn_7 16 rfl rfl)
theorem dX0_drawn_181 : decode cX0_drawn 181 = .ok (.goto (-85), 3) := dk_167 255 171 (dk_at dksX0_drawn_7 19 rfl rfl)
theorem dX0_drawn_184 : decode cX0_drawn 184 = .ok (.iload_n 3, 1) := dk_29 (dk_at dksX0_drawn_7 22 rfl rfl)
theorem dX0_drawn_185 : decode cX0_drawn 185 = .ok (.ifCond .ne 8, 3) := dk_154 0 8 (dk_at dksX0_drawn_8 0 rfl rfl)
theorem dX0_drawn_188 : decode cX0_drawn 188 = .ok (.iload 4, 2) := dk_21 4 (dk_at dksX0_drawn_8 3 rfl rfl)
theorem dX0_drawn_190 : decode cX0_drawn 190 = .ok (.goto 15, 3) := dk_167 0 15 (dk_at dksX0_drawn_8 5 rfl rfl)
theorem dX0_drawn_193 : decode cX0_drawn 193 = .ok (.iload_n 3, 1) := dk_29 (dk_at dksX0_drawn_8 8 rfl rfl)
theorem dX0_drawn_194 : decode cX0_drawn 194 = .ok (.iconst 1, 1) := dk_4 (dk_at dksX0_drawn_8 9 rfl rfl)
theorem dX0_drawn_195 : decode cX0_drawn 195 = .ok (.if_icmp .ne 8, 3) := dk_160 0 8 (dk_at dksX0_drawn_8 10 rfl rfl)
theorem dX0_drawn_198 : decode cX0_drawn 198 = .ok (.iload 5, 2) := dk_21 5 (dk_at dksX0_drawn_8 13 rfl rfl)
theorem dX0_drawn_200 : decode cX0_drawn 200 = .ok (.goto 5, 3) := dk_167 0 5 (dk_at dksX0_drawn_8 15 rfl rfl)
theorem dX0_drawn_203 : decode cX0_drawn 203 = .ok (.iload 6, 2) := dk_21 6 (dk_at dksX0_drawn_8 18 rfl rfl)
theorem dX0_drawn_205 : decode cX0_drawn 205 = .ok (.ireturn, 1) := dk_172 (dk_at dksX0_drawn_8 20 rfl rfl)
abbrev cX0_draw : ByteArray := prog_1_method_55_code
def yX0_draw : MethodName := ⟨RX0, "draw", "(I)I"⟩
def dkwX0_draw_1 : List UInt8 := [180, 1, 171, 19, 1, 180, 108, 27, 112, 172]
abbrev dktX0_draw_1 : List UInt8 := dkwX0_draw_1 ++ []
def dkwX0_draw_0 : List UInt8 := [42, 42, 180, 1, 171, 133, 20, 1, 174, 105, 20, 1, 176, 97, 20, 1, 178, 113, 136, 181, 1, 171, 42]
abbrev dktX0_draw_0 : List UInt8 := dkwX0_draw_0 ++ dktX0_draw_1
theorem dksX0_draw_0 : cX0_draw.data.toList.drop 0 = dktX0_draw_0 := by decide +kernel
theorem dksX0_draw_1 : cX0_draw.data.toList.drop 23 = dktX0_draw_1 := dk_seg dksX0_draw_0 23 rfl rfl
theorem dX0_draw_0 : decode cX0_draw 0 = .ok (.aload_n 0, 1) := dk_42 (dk_at dksX0_draw_0 0 rfl rfl)
theorem dX0_draw_1 : decode cX0_draw 1 = .ok (.aload_n 0, 1) := dk_42 (dk_at dksX0_draw_0 1 rfl rfl)
theorem dX0_draw_2 : decode cX0_draw 2 = .ok (.getfield 427, 3) := dk_180 1 171 (dk_at dksX0_draw_0 2 rfl rfl)
theorem dX0_draw_5 : decode cX0_draw 5 = .ok (.i2l, 1) := dk_133 (dk_at dksX0_draw_0 5 rfl rfl)
theorem dX0_draw_6 : decode cX0_draw 6 = .ok (.ldc2_w 430, 3) := dk_20 1 174 (dk_at dksX0_draw_0 6 rfl rfl)
theorem dX0_draw_9 : decode cX0_draw 9 = .ok (.lmul, 1) := dk_105 (dk_at dksX0_draw_0 9 rfl rfl)
theorem dX0_draw_10 : decode cX0_draw 10 = .ok (.ldc2_w 432, 3) := dk_20 1 176 (dk_at dksX0_draw_0 10 rfl rfl)
theorem dX0_draw_13 : decode cX0_draw 13 = .ok (.ladd, 1) := dk_97 (dk_at dksX0_draw_0 13 rfl rfl)
theorem dX0_draw_14 : decode cX0_draw 14 = .ok (.ldc2_w 434, 3) := dk_20 1 178 (dk_at dksX0_draw_0 14 rfl rfl)
theorem dX0_draw_17 : decode cX0_draw 17 = .ok (.lrem, 1) := dk_113 (dk_at dksX0_draw_0 17 rfl rfl)
theorem dX0_draw_18 : decode cX0_draw 18 = .ok (.l2i, 1) := dk_136 (dk_at dksX0_draw_0 18 rfl rfl)
theorem dX0_draw_19 : decode cX0_draw 19 = .ok (.putfield 427, 3) := dk_181 1 171 (dk_at dksX0_draw_0 19 rfl rfl)
theorem dX0_draw_22 : decode cX0_draw 22 = .ok (.aload_n 0, 1) := dk_42 (dk_at dksX0_draw_0 22 rfl rfl)
theorem dX0_draw_23 : decode cX0_draw 23 = .ok (.getfield 427, 3) := dk_180 1 171 (dk_at dksX0_draw_1 0 rfl rfl)
theorem dX0_draw_26 : decode cX0_draw 26 = .ok (.ldc_w 436, 3) := dk_19 1 180 (dk_at dksX0_draw_1 3 rfl rfl)
theorem dX0_draw_29 : decode cX0_draw 29 = .ok (.idiv, 1) := dk_108 (dk_at dksX0_draw_1 6 rfl rfl)
theorem dX0_draw_30 : decode cX0_draw 30 = .ok (.iload_n 1, 1) := dk_27 (dk_at dksX0_draw_1 7 rfl rfl)
theorem dX0_draw_31 : decode cX0_draw 31 = .ok (.irem, 1) := dk_112 (dk_at dksX0_draw_1 8 rfl rfl)
theorem dX0_draw_32 : decode cX0_draw 32 = .ok (.ireturn, 1) := dk_172 (dk_at dksX0_draw_1 9 rfl rfl)
abbrev cX0_count : ByteArray := prog_1_method_58_code
def yX0_count : MethodName := ⟨RX0, "count", "(I)I"⟩
def dkwX0_count_8 : List UInt8 := [180, 0, 153, 180, 1, 145, 172, 42, 180, 0, 153, 180, 0, 244, 172]
abbrev dktX0_count_8 : List UInt8 := dkwX0_count_8 ++ []
def dkwX0_count_7 : List UInt8 := [42, 180, 0, 153, 180, 1, 6, 172, 42, 182, 1, 203, 172, 42, 180, 0, 153, 182, 1, 50, 172, 42]
abbrev dktX0_count_7 : List UInt8 := dkwX0_count_7 ++ dktX0_count_8
def dkwX0_count_6 : List UInt8 := [42, 180, 0, 153, 180, 0, 156, 172, 42, 180, 0, 153, 180, 0, 216, 172, 42, 180, 0, 153, 180, 1, 200, 172]
abbrev dktX0_count_6 : List UInt8 := dkwX0_count_6 ++ dktX0_count_7
def dkwX0_count_5 : List UInt8 := [42, 180, 0, 153, 180, 0, 231, 172, 42, 180, 0, 153, 180, 1, 21, 172, 42, 180, 0, 153, 180, 0, 170, 172]
abbrev dktX0_count_5 : List UInt8 := dkwX0_count_5 ++ dktX0_count_6
def dkwX0_count_4 : List UInt8 := [170, 0, 0, 0, 134, 0, 0, 0, 0, 0, 0, 0, 10, 0, 0, 0, 57, 0, 0, 0, 65, 0, 0, 0, 73, 0, 0, 0, 81, 0, 0, 0, 89, 0, 0, 0, 97, 0, 0, 0, 134, 0, 0, 0, 105, 0, 0, 0, 113, 0, 0, 0, 118, 0, 0, 0, 126]
abbrev dktX0_count_4 : List UInt8 := dkwX0_count_4 ++ dktX0_count_5
def dkwX0_count_3 : List UInt8 := [154, 0, 5, 2, 172, 42, 180, 0, 153, 199, 0, 5, 3, 172, 27]
abbrev dktX0_count_3 : List UInt8 := dkwX0_count_3 ++ dktX0_count_4
def dkwX0_count_2 : List UInt8 := [42, 180, 0, 163, 172, 42, 180, 1, 168, 172, 42, 180, 0, 126, 172, 27, 133, 9, 20, 1, 198, 184, 0, 234]
abbrev dktX0_count_2 : List UInt8 := dkwX0_count_2 ++ dktX0_count_3
def dkwX0_count_1 : List UInt8 := [171, 0, 0, 0, 0, 0, 50, 0, 0, 0, 3, 0, 0, 0, 6, 0, 0, 0, 35, 0, 0, 0, 12, 0, 0, 0, 40, 0, 0, 0, 13, 0, 0, 0, 45]
abbrev dktX0_count_1 : List UInt8 := dkwX0_count_1 ++ dktX0_count_2
def dkwX0_count_0 : List UInt8 := [27]
abbrev dktX0_count_0 : List UInt8 := dkwX0_count_0 ++ dktX0_count_1
theorem dksX0_count_0 : cX0_count.data.toList.drop 0 = dktX0_count_0 := by decide +kernel
theorem dksX0_count_1 : cX0_count.data.toList.drop 1 = dktX0_count_1 := dk_seg dksX0_count_0 1 rfl rfl
theorem dksX0_count_2 : cX0_count.data.toList.drop 36 = dktX0_count_2 := dk_seg dksX0_count_1 35 rfl rfl
theorem dksX0_count_3 : cX0_count.data.toList.drop 60 = dktX0_count_3 := dk_seg dksX0_count_2 24 rfl rfl
theorem dksX0_count_4 : cX0_count.data.toList.drop 75 = dktX0_count_4 := dk_seg dksX0_count_3 15 rfl rfl
theorem dksX0_count_5 : cX0_count.data.toList.drop 132 = dktX0_count_5 := dk_seg dksX0_count_4 57 rfl rfl
theorem dksX0_count_6 : cX0_count.data.toList.drop 156 = dktX0_count_6 := dk_seg dksX0_count_5 24 rfl rfl
theorem dksX0_count_7 : cX0_count.data.toList.drop 180 = dktX0_count_7 := dk_seg dksX0_count_6 24 rfl rfl
theorem dksX0_count_8 : cX0_count.data.toList.drop 202 = dktX0_count_8 := dk_seg dksX0_count_7 22 rfl rfl
theorem dX0_count_0 : decode cX0_count 0 = .ok (.iload_n 1, 1) := dk_27 (dk_at dksX0_count_0 0 rfl rfl)
theorem dX0_count_1 : decode cX0_count 1 = .ok (.lookupswitch 50 #[(6, 35), (12, 40), (13, 45)], 35) := by decide +kernel
theorem dX0_count_36 : decode cX0_count 36 = .ok (.aload_n 0, 1) := dk_42 (dk_at dksX0_count_2 0 rfl rfl)
theorem dX0_count_37 : decode cX0_count 37 = .ok (.getfield 163, 3) := dk_180 0 163 (dk_at dksX0_count_2 1 rfl rfl)
theorem dX0_count_40 : decode cX0_count 40 = .ok (.ireturn, 1) := dk_172 (dk_at dksX0_count_2 4 rfl rfl)
theorem dX0_count_41 : decode cX0_count 41 = .ok (.aload_n 0, 1) := dk_42 (dk_at dksX0_count_2 5 rfl rfl)
theorem dX0_count_42 : decode cX0_count 42 = .ok (.getfield 424, 3) := dk_180 1 168 (dk_at dksX0_count_2 6 rfl rfl)
theorem dX0_count_45 : decode cX0_count 45 = .ok (.ireturn, 1) := dk_172 (dk_at dksX0_count_2 9 rfl rfl)
theorem dX0_count_46 : decode cX0_count 46 = .ok (.aload_n 0, 1) := dk_42 (dk_at dksX0_count_2 10 rfl rfl)
theorem dX0_count_47 : decode cX0_count 47 = .ok (.getfield 126, 3) := dk_180 0 126 (dk_at dksX0_count_2 11 rfl rfl)
theorem dX0_count_50 : decode cX0_count 50 = .ok (.ireturn, 1) := dk_172 (dk_at dksX0_count_2 14 rfl rfl)
theorem dX0_count_51 : decode cX0_count 51 = .ok (.iload_n 1, 1) := dk_27 (dk_at dksX0_count_2 15 rfl rfl)
theorem dX0_count_52 : decode cX0_count 52 = .ok (.i2l, 1) := dk_133 (dk_at dksX0_count_2 16 rfl rfl)
theorem dX0_count_53 : decode cX0_count 53 = .ok (.lconst 0, 1) := dk_9 (dk_at dksX0_count_2 17 rfl rfl)
theorem dX0_count_54 : decode cX0_count 54 = .ok (.ldc2_w 454, 3) := dk_20 1 198 (dk_at dksX0_count_2 18 rfl rfl)
theorem dX0_count_57 : decode cX0_count 57 = .ok (.invokestatic 234, 3) := dk_184 0 234 (dk_at dksX0_count_2 21 rfl rfl)
theorem dX0_count_60 : decode cX0_count 60 = .ok (.ifCond .ne 5, 3) := dk_154 0 5 (dk_at dksX0_count_3 0 rfl rfl)
theorem dX0_count_63 : decode cX0_count 63 = .ok (.iconst (-1), 1) := dk_2 (dk_at dksX0_count_3 3 rfl rfl)
theorem dX0_count_64 : decode cX0_count 64 = .ok (.ireturn, 1) := dk_172 (dk_at dksX0_count_3 4 rfl rfl)
theorem dX0_count_65 : decode cX0_count 65 = .ok (.aload_n 0, 1) := dk_42 (dk_at dksX0_count_3 5 rfl rfl)
theorem dX0_count_66 : decode cX0_count 66 = .ok (.getfield 153, 3) := dk_180 0 153 (dk_at dksX0_count_3 6 rfl rfl)
theorem dX0_count_69 : decode cX0_count 69 = .ok (.ifnonnull 5, 3) := dk_199 0 5 (dk_at dksX0_count_3 9 rfl rfl)
theorem dX0_count_72 : decode cX0_count 72 = .ok (.iconst 0, 1) := dk_3 (dk_at dksX0_count_3 12 rfl rfl)
theorem dX0_count_73 : decode cX0_count 73 = .ok (.ireturn, 1) := dk_172 (dk_at dksX0_count_3 13 rfl rfl)
theorem dX0_count_74 : decode cX0_count 74 = .ok (.iload_n 1, 1) := dk_27 (dk_at dksX0_count_3 14 rfl rfl)
theorem dX0_count_75 : decode cX0_count 75 = .ok (.tableswitch 134 0 10 #[57, 65, 73, 81, 89, 97, 134, 105, 113, 118, 126], 57) := by decide +kernel
theorem dX0_count_132 : decode cX0_count 132 = .ok (.aload_n 0, 1) := dk_42 (dk_at dksX0_count_5 0 rfl rfl)
theorem dX0_count_133 : decode cX0_count 133 = .ok (.getfield 153, 3) := dk_180 0 153 (dk_at dksX0_count_5 1 rfl rfl)
theorem dX0_count_136 : decode cX0_count 136 = .ok (.getfield 231, 3) := dk_180 0 231 (dk_at dksX0_count_5 4 rfl rfl)
theorem dX0_count_139 : decode cX0_count 139 = .ok (.ireturn, 1) := dk_172 (dk_at dksX0_count_5 7 rfl rfl)
theorem dX0_count_140 : decode cX0_count 140 = .ok (.aload_n 0, 1) := dk_42 (dk_at dksX0_count_5 8 rfl rfl)
theorem dX0_count_141 : decode cX0_count 141 = .ok (.getfield 153, 3) := dk_180 0 153 (dk_at dksX0_count_5 9 rfl rfl)
theorem dX0_count_144 : decode cX0_count 144 = .ok (.getfield 277, 3) := dk_180 1 21 (dk_at dksX0_count_5 12 rfl rfl)
theorem dX0_count_147 : decode cX0_count 147 = .ok (.ireturn, 1) := dk_172 (dk_at dksX0_count_5 15 rfl rfl)
theorem dX0_count_148 : decode cX0_count 148 = .ok (.aload_n 0, 1) := dk_42 (dk_at dksX0_count_5 16 rfl rfl)
theorem dX0_count_149 : decode cX0_count 149 = .ok (.getfield 153, 3) := dk_180 0 153 (dk_at dksX0_count_5 17 rfl rfl)
theorem dX0_count_152 : decode cX0_count 152 = .ok (.getfield 170, 3) := dk_180 0 170 (dk_at dksX0_count_5 20 rfl rfl)
theorem dX0_count_155 : decode cX0_count 155 = .ok (.ireturn, 1) := dk_172 (dk_at dksX0_count_5 23 rfl rfl)
theorem dX0_count_156 : decode cX0_count 156 = .ok (.aload_n 0, 1) := dk_42 (dk_at dksX0_count_6 0 rfl rfl)
theorem dX0_count_157 : decode cX0_count 157 = .ok (.getfield 153, 3) := dk_180 0 153 (dk_at dksX0_count_6 1 rfl rfl)
theorem dX0_count_160 : decode cX0_count 160 = .ok (.getfield 156, 3) := dk_180 0 156 (dk_at dksX0_count_6 4 rfl rfl)
theorem dX0_count_163 : decode cX0_count 163 = .ok (.ireturn, 1) := dk_172 (dk_at dksX0_count_6 7 rfl rfl)
theorem dX0_count_164 : decode cX0_count 164 = .ok (.aload_n 0, 1) := dk_42 (dk_at dksX0_count_6 8 rfl rfl)
theorem dX0_count_165 : decode cX0_count 165 = .ok (.getfield 153, 3) := dk_180 0 153 (dk_at dksX0_count_6 9 rfl rfl)
theorem dX0_count_168 : decode cX0_count 168 = .ok (.getfield 216, 3) := dk_180 0 216 (dk_at dksX0_count_6 12 rfl rfl)
theorem dX0_count_171 : decode cX0_count 171 = .ok (.ireturn, 1) := dk_172 (dk_at dksX0_count_6 15 rfl rfl)
theorem dX0_count_172 : decode cX0_count 172 = .ok (.aload_n 0, 1) := dk_42 (dk_at dksX0_count_6 16 rfl rfl)
theorem dX0_count_173 : decode cX0_count 173 = .ok (.getfield 153, 3) := dk_180 0 153 (dk_at dksX0_count_6 17 rfl rfl)
theorem dX0_count_176 : decode cX0_count 176 = .ok (.getfield 456, 3) := dk_180 1 200 (dk_at dksX0_count_6 20 rfl rfl)
theorem dX0_count_179 : decode cX0_count 179 = .ok (.ireturn, 1) := dk_172 (dk_at dksX0_count_6 23 rfl rfl)
theorem dX0_count_180 : decode cX0_count 180 = .ok (.aload_n 0, 1) := dk_42 (dk_at dksX0_count_7 0 rfl rfl)
theorem dX0_count_181 : decode cX0_count 181 = .ok (.getfield 153, 3) := dk_180 0 153 (dk_at dksX0_count_7 1 rfl rfl)
theorem dX0_count_184 : decode cX0_count 184 = .ok (.getfield 262, 3) := dk_180 1 6 (dk_at dksX0_count_7 4 rfl rfl)
theorem dX0_count_187 : decode cX0_count 187 = .ok (.ireturn, 1) := dk_172 (dk_at dksX0_count_7 7 rfl rfl)
theorem dX0_count_188 : decode cX0_count 188 = .ok (.aload_n 0, 1) := dk_42 (dk_at dksX0_count_7 8 rfl rfl)
theorem dX0_count_189 : decode cX0_count 189 = .ok (.invokevirtual 459, 3) := dk_182 1 203 (dk_at dksX0_count_7 9 rfl rfl)
theorem dX0_count_192 : decode cX0_count 192 = .ok (.ireturn, 1) := dk_172 (dk_at dksX0_count_7 12 rfl rfl)
theorem dX0_count_193 : decode cX0_count 193 = .ok (.aload_n 0, 1) := dk_42 (dk_at dksX0_count_7 13 rfl rfl)
theorem dX0_count_194 : decode cX0_count 194 = .ok (.getfield 153, 3) := dk_180 0 153 (dk_at dksX0_count_7 14 rfl rfl)
theorem dX0_count_197 : decode cX0_count 197 = .ok (.invokevirtual 306, 3) := dk_182 1 50 (dk_at dksX0_count_7 17 rfl rfl)
theorem dX0_count_200 : decode cX0_count 200 = .ok (.ireturn, 1) := dk_172 (dk_at dksX0_count_7 20 rfl rfl)
theorem dX0_count_201 : decode cX0_count 201 = .ok (.aload_n 0, 1) := dk_42 (dk_at dksX0_count_7 21 rfl rfl)
theorem dX0_count_202 : decode cX0_count 202 = .ok (.getfield 153, 3) := dk_180 0 153 (dk_at dksX0_count_8 0 rfl rfl)
theorem dX0_count_205 : decode cX0_count 205 = .ok (.getfield 401, 3) := dk_180 1 145 (dk_at dksX0_count_8 3 rfl rfl)
theorem dX0_count_208 : decode cX0_count 208 = .ok (.ireturn, 1) := dk_172 (dk_at dksX0_count_8 6 rfl rfl)
theorem dX0_count_209 : decode cX0_count 209 = .ok (.aload_n 0, 1) := dk_42 (dk_at dksX0_count_8 7 rfl rfl)
theorem dX0_count_210 : decode cX0_count 210 = .ok (.getfield 153, 3) := dk_180 0 153 (dk_at dksX0_count_8 8 rfl rfl)
theorem dX0_count_213 : decode cX0_count 213 = .ok (.getfield 244, 3) := dk_180 0 244 (dk_at dksX0_count_8 11 rfl rfl)
theorem dX0_count_216 : decode cX0_count 216 = .ok (.ireturn, 1) := dk_172 (dk_at dksX0_count_8 14 rfl rfl)
abbrev cX0_pieces : ByteArray := prog_1_method_57_code
def yX0_pieces : MethodName := ⟨RX0, "pieces", "()I"⟩
def dkwX0_pieces_2 : List UInt8 := [132, 2, 1, 167, 255, 211, 27, 172]
abbrev dktX0_pieces_2 : List UInt8 := dkwX0_pieces_2 ++ []
def dkwX0_pieces_1 : List UInt8 := [42, 180, 0, 153, 28, 182, 0, 213, 184, 1, 130, 28, 160, 0, 7, 4, 167, 0, 4, 3, 96, 60]
abbrev dktX0_pieces_1 : List UInt8 := dkwX0_pieces_1 ++ dktX0_pieces_2
def dkwX0_pieces_0 : List UInt8 := [3, 60, 3, 61, 28, 42, 180, 0, 153, 180, 0, 156, 162, 0, 40, 27, 42, 28, 182, 0, 212, 153, 0, 22]
abbrev dktX0_pieces_0 : List UInt8 := dkwX0_pieces_0 ++ dktX0_pieces_1
theorem dksX0_pieces_0 : cX0_pieces.data.toList.drop 0 = dktX0_pieces_0 := by decide +kernel
theorem dksX0_pieces_1 : cX0_pieces.data.toList.drop 24 = dktX0_pieces_1 := dk_seg dksX0_pieces_0 24 rfl rfl
theorem dksX0_pieces_2 : cX0_pieces.data.toList.drop 46 = dktX0_pieces_2 := dk_seg dksX0_pieces_1 22 rfl rfl
theorem dX0_pieces_0 : decode cX0_pieces 0 = .ok (.iconst 0, 1) := dk_3 (dk_at dksX0_pieces_0 0 rfl rfl)
theorem dX0_pieces_1 : decode cX0_pieces 1 = .ok (.istore_n 1, 1) := dk_60 (dk_at dksX0_pieces_0 1 rfl rfl)
theorem dX0_pieces_2 : decode cX0_pieces 2 = .ok (.iconst 0, 1) := dk_3 (dk_at dksX0_pieces_0 2 rfl rfl)
theorem dX0_pieces_3 : decode cX0_pieces 3 = .ok (.istore_n 2, 1) := dk_61 (dk_at dksX0_pieces_0 3 rfl rfl)
theorem dX0_pieces_4 : decode cX0_pieces 4 = .ok (.iload_n 2, 1) := dk_28 (dk_at dksX0_pieces_0 4 rfl rfl)
theorem dX0_pieces_5 : decode cX0_pieces 5 = .ok (.aload_n 0, 1) := dk_42 (dk_at dksX0_pieces_0 5 rfl rfl)
theorem dX0_pieces_6 : decode cX0_pieces 6 = .ok (.getfield 153, 3) := dk_180 0 153 (dk_at dksX0_pieces_0 6 rfl rfl)
theorem dX0_pieces_9 : decode cX0_pieces 9 = .ok (.getfield 156, 3) := dk_180 0 156 (dk_at dksX0_pieces_0 9 rfl rfl)
theorem dX0_pieces_12 : decode cX0_pieces 12 = .ok (.if_icmp .ge 40, 3) := dk_162 0 40 (dk_at dksX0_pieces_0 12 rfl rfl)
theorem dX0_pieces_15 : decode cX0_pieces 15 = .ok (.iload_n 1, 1) := dk_27 (dk_at dksX0_pieces_0 15 rfl rfl)
theorem dX0_pieces_16 : decode cX0_pieces 16 = .ok (.aload_n 0, 1) := dk_42 (dk_at dksX0_pieces_0 16 rfl rfl)
theorem dX0_pieces_17 : decode cX0_pieces 17 = .ok (.iload_n 2, 1) := dk_28 (dk_at dksX0_pieces_0 17 rfl rfl)
theorem dX0_pieces_18 : decode cX0_pieces 18 = .ok (.invokevirtual 212, 3) := dk_182 0 212 (dk_at dksX0_pieces_0 18 rfl rfl)
theorem dX0_pieces_21 : decode cX0_pieces 21 = .ok (.ifCond .eq 22, 3) := dk_153 0 22 (dk_at dksX0_pieces_0 21 rfl rfl)
theorem dX0_pieces_24 : decode cX0_pieces 24 = .ok (.aload_n 0, 1) := dk_42 (dk_at dksX0_pieces_1 0 rfl rfl)
theorem dX0_pieces_25 : decode cX0_pieces 25 = .ok (.getfield 153, 3) := dk_180 0 153 (dk_at dksX0_pieces_1 1 rfl rfl)
theorem dX0_pieces_28 : decode cX0_pieces 28 = .ok (.iload_n 2, 1) := dk_28 (dk_at dksX0_pieces_1 4 rfl rfl)
theorem dX0_pieces_29 : decode cX0_pieces 29 = .ok (.invokevirtual 213, 3) := dk_182 0 213 (dk_at dksX0_pieces_1 5 rfl rfl)
theorem dX0_pieces_32 : decode cX0_pieces 32 = .ok (.invokestatic 386, 3) := dk_184 1 130 (dk_at dksX0_pieces_1 8 rfl rfl)
theorem dX0_pieces_35 : decode cX0_pieces 35 = .ok (.iload_n 2, 1) := dk_28 (dk_at dksX0_pieces_1 11 rfl rfl)
theorem dX0_pieces_36 : decode cX0_pieces 36 = .ok (.if_icmp .ne 7, 3) := dk_160 0 7 (dk_at dksX0_pieces_1 12 rfl rfl)
theorem dX0_pieces_39 : decode cX0_pieces 39 = .ok (.iconst 1, 1) := dk_4 (dk_at dksX0_pieces_1 15 rfl rfl)
theorem dX0_pieces_40 : decode cX0_pieces 40 = .ok (.goto 4, 3) := dk_167 0 4 (dk_at dksX0_pieces_1 16 rfl rfl)
theorem dX0_pieces_43 : decode cX0_pieces 43 = .ok (.iconst 0, 1) := dk_3 (dk_at dksX0_pieces_1 19 rfl rfl)
theorem dX0_pieces_44 : decode cX0_pieces 44 = .ok (.iadd, 1) := dk_96 (dk_at dksX0_pieces_1 20 rfl rfl)
theorem dX0_pieces_45 : decode cX0_pieces 45 = .ok (.istore_n 1, 1) := dk_60 (dk_at dksX0_pieces_1 21 rfl rfl)
theorem dX0_pieces_46 : decode cX0_pieces 46 = .ok (.iinc 2 1, 3) := dk_132 2 1 (dk_at dksX0_pieces_2 0 rfl rfl)
theorem dX0_pieces_49 : decode cX0_pieces 49 = .ok (.goto (-45), 3) := dk_167 255 211 (dk_at dksX0_pieces_2 3 rfl rfl)
theorem dX0_pieces_52 : decode cX0_pieces 52 = .ok (.iload_n 1, 1) := dk_27 (dk_at dksX0_pieces_2 6 rfl rfl)
theorem dX0_pieces_53 : decode cX0_pieces 53 = .ok (.ireturn, 1) := dk_172 (dk_at dksX0_pieces_2 7 rfl rfl)
abbrev cX0_image : ByteArray := prog_1_method_59_code
def yX0_image : MethodName := ⟨RX0, "image", "(I)I"⟩
def dkwX0_image_4 : List UInt8 := [172]
abbrev dktX0_image_4 : List UInt8 := dkwX0_image_4 ++ []
def dkwX0_image_3 : List UInt8 := [199, 0, 5, 3, 172, 44, 180, 1, 212, 42, 180, 0, 153, 182, 0, 149, 87, 42, 180, 0, 153, 180, 1, 6]
abbrev dktX0_image_3 : List UInt8 := dkwX0_image_3 ++ dktX0_image_4
def dkwX0_image_2 : List UInt8 := [198, 0, 7, 4, 167, 0, 4, 3, 181, 1, 207, 44, 42, 180, 1, 168, 181, 1, 211, 42, 180, 0, 153]
abbrev dktX0_image_2 : List UInt8 := dkwX0_image_2 ++ dktX0_image_3
def dkwX0_image_1 : List UInt8 := [180, 0, 122, 27, 187, 0, 120, 89, 183, 1, 206, 83, 42, 180, 0, 122, 27, 50, 77, 44, 42, 180, 0, 153]
abbrev dktX0_image_1 : List UInt8 := dkwX0_image_1 ++ dktX0_image_2
def dkwX0_image_0 : List UInt8 := [27, 133, 9, 20, 1, 68, 184, 0, 234, 154, 0, 5, 2, 172, 42, 180, 0, 122, 27, 50, 199, 0, 16, 42]
abbrev dktX0_image_0 : List UInt8 := dkwX0_image_0 ++ dktX0_image_1
theorem dksX0_image_0 : cX0_image.data.toList.drop 0 = dktX0_image_0 := by decide +kernel
theorem dksX0_image_1 : cX0_image.data.toList.drop 24 = dktX0_image_1 := dk_seg dksX0_image_0 24 rfl rfl
theorem dksX0_image_2 : cX0_image.data.toList.drop 48 = dktX0_image_2 := dk_seg dksX0_image_1 24 rfl rfl
theorem dksX0_image_3 : cX0_image.data.toList.drop 71 = dktX0_image_3 := dk_seg dksX0_image_2 23 rfl rfl
theorem dksX0_image_4 : cX0_image.data.toList.drop 95 = dktX0_image_4 := dk_seg dksX0_image_3 24 rfl rfl
theorem dX0_image_0 : decode cX0_image 0 = .ok (.iload_n 1, 1) := dk_27 (dk_at dksX0_image_0 0 rfl rfl)
theorem dX0_image_1 : decode cX0_image 1 = .ok (.i2l, 1) := dk_133 (dk_at dksX0_image_0 1 rfl rfl)
theorem dX0_image_2 : decode cX0_image 2 = .ok (.lconst 0, 1) := dk_9 (dk_at dksX0_image_0 2 rfl rfl)
theorem dX0_image_3 : decode cX0_image 3 = .ok (.ldc2_w 324, 3) := dk_20 1 68 (dk_at dksX0_image_0 3 rfl rfl)
theorem dX0_image_6 : decode cX0_image 6 = .ok (.invokestatic 234, 3) := dk_184 0 234 (dk_at dksX0_image_0 6 rfl rfl)
theorem dX0_image_9 : decode cX0_image 9 = .ok (.ifCond .ne 5, 3) := dk_154 0 5 (dk_at dksX0_image_0 9 rfl rfl)
theorem dX0_image_12 : decode cX0_image 12 = .ok (.iconst (-1), 1) := dk_2 (dk_at dksX0_image_0 12 rfl rfl)
theorem dX0_image_13 : decode cX0_image 13 = .ok (.ireturn, 1) := dk_172 (dk_at dksX0_image_0 13 rfl rfl)
theorem dX0_image_14 : decode cX0_image 14 = .ok (.aload_n 0, 1) := dk_42 (dk_at dksX0_image_0 14 rfl rfl)
theorem dX0_image_15 : decode cX0_image 15 = .ok (.getfield 122, 3) := dk_180 0 122 (dk_at dksX0_image_0 15 rfl rfl)
theorem dX0_image_18 : decode cX0_image 18 = .ok (.iload_n 1, 1) := dk_27 (dk_at dksX0_image_0 18 rfl rfl)
theorem dX0_image_19 : decode cX0_image 19 = .ok (.aaload, 1) := dk_50 (dk_at dksX0_image_0 19 rfl rfl)
theorem dX0_image_20 : decode cX0_image 20 = .ok (.ifnonnull 16, 3) := dk_199 0 16 (dk_at dksX0_image_0 20 rfl rfl)
theorem dX0_image_23 : decode cX0_image 23 = .ok (.aload_n 0, 1) := dk_42 (dk_at dksX0_image_0 23 rfl rfl)
theorem dX0_image_24 : decode cX0_image 24 = .ok (.getfield 122, 3) := dk_180 0 122 (dk_at dksX0_image_1 0 rfl rfl)
theorem dX0_image_27 : decode cX0_image 27 = .ok (.iload_n 1, 1) := dk_27 (dk_at dksX0_image_1 3 rfl rfl)
theorem dX0_image_28 : decode cX0_image 28 = .ok (.new 120, 3) := dk_187 0 120 (dk_at dksX0_image_1 4 rfl rfl)
theorem dX0_image_31 : decode cX0_image 31 = .ok (.dup, 1) := dk_89 (dk_at dksX0_image_1 7 rfl rfl)
theorem dX0_image_32 : decode cX0_image 32 = .ok (.invokespecial 462, 3) := dk_183 1 206 (dk_at dksX0_image_1 8 rfl rfl)
theorem dX0_image_35 : decode cX0_image 35 = .ok (.aastore, 1) := dk_83 (dk_at dksX0_image_1 11 rfl rfl)
theorem dX0_image_36 : decode cX0_image 36 = .ok (.aload_n 0, 1) := dk_42 (dk_at dksX0_image_1 12 rfl rfl)
theorem dX0_image_37 : decode cX0_image 37 = .ok (.getfield 122, 3) := dk_180 0 122 (dk_at dksX0_image_1 13 rfl rfl)
theorem dX0_image_40 : decode cX0_image 40 = .ok (.iload_n 1, 1) := dk_27 (dk_at dksX0_image_1 16 rfl rfl)
theorem dX0_image_41 : decode cX0_image 41 = .ok (.aaload, 1) := dk_50 (dk_at dksX0_image_1 17 rfl rfl)
theorem dX0_image_42 : decode cX0_image 42 = .ok (.astore_n 2, 1) := dk_77 (dk_at dksX0_image_1 18 rfl rfl)
theorem dX0_image_43 : decode cX0_image 43 = .ok (.aload_n 2, 1) := dk_44 (dk_at dksX0_image_1 19 rfl rfl)
theorem dX0_image_44 : decode cX0_image 44 = .ok (.aload_n 0, 1) := dk_42 (dk_at dksX0_image_1 20 rfl rfl)
theorem dX0_image_45 : decode cX0_image 45 = .ok (.getfield 153, 3) := dk_180 0 153 (dk_at dksX0_image_1 21 rfl rfl)
theorem dX0_image_48 : decode cX0_image 48 = .ok (.ifnull 7, 3) := dk_198 0 7 (dk_at dksX0_image_2 0 rfl rfl)
theorem dX0_image_51 : decode cX0_image 51 = .ok (.iconst 1, 1) := dk_4 (dk_at dksX0_image_2 3 rfl rfl)
theorem dX0_image_52 : decode cX0_image 52 = .ok (.goto 4, 3) := dk_167 0 4 (dk_at dksX0_image_2 4 rfl rfl)
theorem dX0_image_55 : decode cX0_image 55 = .ok (.iconst 0, 1) := dk_3 (dk_at dksX0_image_2 7 rfl rfl)
theorem dX0_image_56 : decode cX0_image 56 = .ok (.putfield 463, 3) := dk_181 1 207 (dk_at dksX0_image_2 8 rfl rfl)
theorem dX0_image_59 : decode cX0_image 59 = .ok (.aload_n 2, 1) := dk_44 (dk_at dksX0_image_2 11 rfl rfl)
theorem dX0_image_60 : decode cX0_image 60 = .ok (.aload_n 0, 1) := dk_42 (dk_at dksX0_image_2 12 rfl rfl)
theorem dX0_image_61 : decode cX0_image 61 = .ok (.getfield 424, 3) := dk_180 1 168 (dk_at dksX0_image_2 13 rfl rfl)
theorem dX0_image_64 : decode cX0_image 64 = .ok (.putfield 467, 3) := dk_181 1 211 (dk_at dksX0_image_2 16 rfl rfl)
theorem dX0_image_67 : decode cX0_image 67 = .ok (.aload_n 0, 1) := dk_42 (dk_at dksX0_image_2 19 rfl rfl)
theorem dX0_image_68 : decode cX0_image 68 = .ok (.getfield 153, 3) := dk_180 0 153 (dk_at dksX0_image_2 20 rfl rfl)
theorem dX0_image_71 : decode cX0_image 71 = .ok (.ifnonnull 5, 3) := dk_199 0 5 (dk_at dksX0_image_3 0 rfl rfl)
theorem dX0_image_74 : decode cX0_image 74 = .ok (.iconst 0, 1) := dk_3 (dk_at dksX0_image_3 3 rfl rfl)
theorem dX0_image_75 : decode cX0_image 75 = .ok (.ireturn, 1) := dk_172 (dk_at dksX0_image_3 4 rfl rfl)
theorem dX0_image_76 : decode cX0_image 76 = .ok (.aload_n 2, 1) := dk_44 (dk_at dksX0_image_3 5 rfl rfl)
theorem dX0_image_77 : decode cX0_image 77 = .ok (.getfield 468, 3) := dk_180 1 212 (dk_at dksX0_image_3 6 rfl rfl)
theorem dX0_image_80 : decode cX0_image 80 = .ok (.aload_n 0, 1) := dk_42 (dk_at dksX0_image_3 9 rfl rfl)
theorem dX0_image_81 : decode cX0_image 81 = .ok (.getfield 153, 3) := dk_180 0 153 (dk_at dksX0_image_3 10 rfl rfl)
theorem dX0_image_84 : decode cX0_image 84 = .ok (.invokevirtual 149, 3) := dk_182 0 149 (dk_at dksX0_image_3 13 rfl rfl)
theorem dX0_image_87 : decode cX0_image 87 = .ok (.pop, 1) := dk_87 (dk_at dksX0_image_3 16 rfl rfl)
theorem dX0_image_88 : decode cX0_image 88 = .ok (.aload_n 0, 1) := dk_42 (dk_at dksX0_image_3 17 rfl rfl)
theorem dX0_image_89 : decode cX0_image 89 = .ok (.getfield 153, 3) := dk_180 0 153 (dk_at dksX0_image_3 18 rfl rfl)
theorem dX0_image_92 : decode cX0_image 92 = .ok (.getfield 262, 3) := dk_180 1 6 (dk_at dksX0_image_3 21 rfl rfl)
theorem dX0_image_95 : decode cX0_image 95 = .ok (.ireturn, 1) := dk_172 (dk_at dksX0_image_4 0 rfl rfl)
abbrev cX0_back : ByteArray := prog_1_method_60_code
def yX0_back : MethodName := ⟨RX0, "back", "(I)I"⟩
def dkwX0_back_3 : List UInt8 := [181, 1, 168, 42, 180, 0, 153, 199, 0, 7, 3, 167, 0, 10, 42, 180, 0, 153, 180, 1, 6, 172]
abbrev dktX0_back_3 : List UInt8 := dkwX0_back_3 ++ []
def dkwX0_back_2 : List UInt8 := [180, 1, 212, 182, 0, 149, 167, 0, 4, 1, 181, 0, 153, 42, 42, 180, 0, 122, 27, 50, 180, 1, 211]
abbrev dktX0_back_2 : List UInt8 := dkwX0_back_2 ++ dktX0_back_3
def dkwX0_back_1 : List UInt8 := [42, 180, 0, 122, 27, 50, 180, 1, 207, 153, 0, 22, 42, 180, 0, 10, 42, 180, 0, 122, 27, 50]
abbrev dktX0_back_1 : List UInt8 := dkwX0_back_1 ++ dktX0_back_2
def dkwX0_back_0 : List UInt8 := [27, 133, 9, 20, 1, 68, 184, 0, 234, 153, 0, 12, 42, 180, 0, 122, 27, 50, 199, 0, 5, 2, 172, 42]
abbrev dktX0_back_0 : List UInt8 := dkwX0_back_0 ++ dktX0_back_1
theorem dksX0_back_0 : cX0_back.data.toList.drop 0 = dktX0_back_0 := by decide +kernel
theorem dksX0_back_1 : cX0_back.data.toList.drop 24 = dktX0_back_1 := dk_seg dksX0_back_0 24 rfl rfl
theorem dksX0_back_2 : cX0_back.data.toList.drop 46 = dktX0_back_2 := dk_seg dksX0_back_1 22 rfl rfl
theorem dksX0_back_3 : cX0_back.data.toList.drop 69 = dktX0_back_3 := dk_seg dksX0_back_2 23 rfl rfl
theorem dX0_back_0 : decode cX0_back 0 = .ok (.iload_n 1, 1) := dk_27 (dk_at dksX0_back_0 0 rfl rfl)
theorem dX0_back_1 : decode cX0_back 1 = .ok (.i2l, 1) := dk_133 (dk_at dksX0_back_0 1 rfl rfl)
theorem dX0_back_2 : decode cX0_back 2 = .ok (.lconst 0, 1) := dk_9 (dk_at dksX0_back_0 2 rfl rfl)
theorem dX0_back_3 : decode cX0_back 3 = .ok (.ldc2_w 324, 3) := dk_20 1 68 (dk_at dksX0_back_0 3 rfl rfl)
theorem dX0_back_6 : decode cX0_back 6 = .ok (.invokestatic 234, 3) := dk_184 0 234 (dk_at dksX0_back_0 6 rfl rfl)
theorem dX0_back_9 : decode cX0_back 9 = .ok (.ifCond .eq 12, 3) := dk_153 0 12 (dk_at dksX0_back_0 9 rfl rfl)
theorem dX0_back_12 : decode cX0_back 12 = .ok (.aload_n 0, 1) := dk_42 (dk_at dksX0_back_0 12 rfl rfl)
theorem dX0_back_13 : decode cX0_back 13 = .ok (.getfield 122, 3) := dk_180 0 122 (dk_at dksX0_back_0 13 rfl rfl)
theorem dX0_back_16 : decode cX0_back 16 = .ok (.iload_n 1, 1) := dk_27 (dk_at dksX0_back_0 16 rfl rfl)
theorem dX0_back_17 : decode cX0_back 17 = .ok (.aaload, 1) := dk_50 (dk_at dksX0_back_0 17 rfl rfl)
theorem dX0_back_18 : decode cX0_back 18 = .ok (.ifnonnull 5, 3) := dk_199 0 5 (dk_at dksX0_back_0 18 rfl rfl)
theorem dX0_back_21 : decode cX0_back 21 = .ok (.iconst (-1), 1) := dk_2 (dk_at dksX0_back_0 21 rfl rfl)
theorem dX0_back_22 : decode cX0_back 22 = .ok (.ireturn, 1) := dk_172 (dk_at dksX0_back_0 22 rfl rfl)
theorem dX0_back_23 : decode cX0_back 23 = .ok (.aload_n 0, 1) := dk_42 (dk_at dksX0_back_0 23 rfl rfl)
theorem dX0_back_24 : decode cX0_back 24 = .ok (.aload_n 0, 1) := dk_42 (dk_at dksX0_back_1 0 rfl rfl)
theorem dX0_back_25 : decode cX0_back 25 = .ok (.getfield 122, 3) := dk_180 0 122 (dk_at dksX0_back_1 1 rfl rfl)
theorem dX0_back_28 : decode cX0_back 28 = .ok (.iload_n 1, 1) := dk_27 (dk_at dksX0_back_1 4 rfl rfl)
theorem dX0_back_29 : decode cX0_back 29 = .ok (.aaload, 1) := dk_50 (dk_at dksX0_back_1 5 rfl rfl)
theorem dX0_back_30 : decode cX0_back 30 = .ok (.getfield 463, 3) := dk_180 1 207 (dk_at dksX0_back_1 6 rfl rfl)
theorem dX0_back_33 : decode cX0_back 33 = .ok (.ifCond .eq 22, 3) := dk_153 0 22 (dk_at dksX0_back_1 9 rfl rfl)
theorem dX0_back_36 : decode cX0_back 36 = .ok (.aload_n 0, 1) := dk_42 (dk_at dksX0_back_1 12 rfl rfl)
theorem dX0_back_37 : decode cX0_back 37 = .ok (.getfield 10, 3) := dk_180 0 10 (dk_at dksX0_back_1 13 rfl rfl)
theorem dX0_back_40 : decode cX0_back 40 = .ok (.aload_n 0, 1) := dk_42 (dk_at dksX0_back_1 16 rfl rfl)
theorem dX0_back_41 : decode cX0_back 41 = .ok (.getfield 122, 3) := dk_180 0 122 (dk_at dksX0_back_1 17 rfl rfl)
theorem dX0_back_44 : decode cX0_back 44 = .ok (.iload_n 1, 1) := dk_27 (dk_at dksX0_back_1 20 rfl rfl)
theorem dX0_back_45 : decode cX0_back 45 = .ok (.aaload, 1) := dk_50 (dk_at dksX0_back_1 21 rfl rfl)
theorem dX0_back_46 : decode cX0_back 46 = .ok (.getfield 468, 3) := dk_180 1 212 (dk_at dksX0_back_2 0 rfl rfl)
theorem dX0_back_49 : decode cX0_back 49 = .ok (.invokevirtual 149, 3) := dk_182 0 149 (dk_at dksX0_back_2 3 rfl rfl)
theorem dX0_back_52 : decode cX0_back 52 = .ok (.goto 4, 3) := dk_167 0 4 (dk_at dksX0_back_2 6 rfl rfl)
theorem dX0_back_55 : decode cX0_back 55 = .ok (.aconst_null, 1) := dk_1 (dk_at dksX0_back_2 9 rfl rfl)
theorem dX0_back_56 : decode cX0_back 56 = .ok (.putfield 153, 3) := dk_181 0 153 (dk_at dksX0_back_2 10 rfl rfl)
theorem dX0_back_59 : decode cX0_back 59 = .ok (.aload_n 0, 1) := dk_42 (dk_at dksX0_back_2 13 rfl rfl)
theorem dX0_back_60 : decode cX0_back 60 = .ok (.aload_n 0, 1) := dk_42 (dk_at dksX0_back_2 14 rfl rfl)
theorem dX0_back_61 : decode cX0_back 61 = .ok (.getfield 122, 3) := dk_180 0 122 (dk_at dksX0_back_2 15 rfl rfl)
theorem dX0_back_64 : decode cX0_back 64 = .ok (.iload_n 1, 1) := dk_27 (dk_at dksX0_back_2 18 rfl rfl)
theorem dX0_back_65 : decode cX0_back 65 = .ok (.aaload, 1) := dk_50 (dk_at dksX0_back_2 19 rfl rfl)
theorem dX0_back_66 : decode cX0_back 66 = .ok (.getfield 467, 3) := dk_180 1 211 (dk_at dksX0_back_2 20 rfl rfl)
theorem dX0_back_69 : decode cX0_back 69 = .ok (.putfield 424, 3) := dk_181 1 168 (dk_at dksX0_back_3 0 rfl rfl)
theorem dX0_back_72 : decode cX0_back 72 = .ok (.aload_n 0, 1) := dk_42 (dk_at dksX0_back_3 3 rfl rfl)
theorem dX0_back_73 : decode cX0_back 73 = .ok (.getfield 153, 3) := dk_180 0 153 (dk_at dksX0_back_3 4 rfl rfl)
theorem dX0_back_76 : decode cX0_back 76 = .ok (.ifnonnull 7, 3) := dk_199 0 7 (dk_at dksX0_back_3 7 rfl rfl)
theorem dX0_back_79 : decode cX0_back 79 = .ok (.iconst 0, 1) := dk_3 (dk_at dksX0_back_3 10 rfl rfl)
theorem dX0_back_80 : decode cX0_back 80 = .ok (.goto 10, 3) := dk_167 0 10 (dk_at dksX0_back_3 11 rfl rfl)
theorem dX0_back_83 : decode cX0_back 83 = .ok (.aload_n 0, 1) := dk_42 (dk_at dksX0_back_3 14 rfl rfl)
theorem dX0_back_84 : decode cX0_back 84 = .ok (.getfield 153, 3) := dk_180 0 153 (dk_at dksX0_back_3 15 rfl rfl)
theorem dX0_back_87 : decode cX0_back 87 = .ok (.getfield 262, 3) := dk_180 1 6 (dk_at dksX0_back_3 18 rfl rfl)
theorem dX0_back_90 : decode cX0_back 90 = .ok (.ireturn, 1) := dk_172 (dk_at dksX0_back_3 21 rfl rfl)
theorem q138 : (Jvm.Cond.initialized "PartyRaft") ∈ lw_all := lw_g (lw_at lw_m1 1 rfl) rfl
theorem q165 : (Jvm.Cond.instantiable "PartyRaft" (29 : Nat)) ∈ lw_all := lw_g (lw_at lw_m1 28 rfl) rfl
theorem q167 : (Jvm.Cond.instanceMethod ({ cls := "PartyRaft", name := "<init>", desc := "()V" } : Jvm.MethodName)) ∈ lw_all := lw_g (lw_at lw_m1 30 rfl) rfl
theorem q168 : (Jvm.Cond.code ({ cls := "PartyRaft", name := "<init>", desc := "()V" } : Jvm.MethodName) prog_1_method_3_code (1 : Nat) (Option.none : Option Jvm.ClassFile.FieldType)) ∈ lw_all := lw_g (lw_at lw_m1 31 rfl) rfl
theorem q169 : (Jvm.Cond.methodLink "PartyRaft" (1 : Nat) ({ cls := "java/lang/Object", name := "<init>", desc := "()V" } : Jvm.MethodName)) ∈ lw_all := lw_g (lw_at lw_m1 32 rfl) rfl
theorem q172 : (Jvm.Cond.classLink "PartyRaft" (7 : Nat) "PartyRaft$Flow") ∈ lw_all := lw_g (lw_at lw_m1 35 rfl) rfl
theorem q174 : (Jvm.Cond.methodLinkNest "PartyRaft" (9 : Nat) ({ cls := "PartyRaft$Flow", name := "<init>", desc := "()V" } : Jvm.MethodName) "PartyRaft") ∈ lw_tbl := lw_at lw_m1 37 rfl
theorem q180 : (Jvm.Cond.fieldLinkNest "PartyRaft" (231 : Nat) "PartyRaft$Flow" "miles" "I" "PartyRaft") ∈ lw_tbl := lw_at lw_m1 43 rfl
theorem q182 : (Jvm.Cond.fieldLinkNest "PartyRaft" (170 : Nat) "PartyRaft$Flow" "ownerMany" "I" "PartyRaft") ∈ lw_tbl := lw_at lw_m1 45 rfl
theorem q185 : (Jvm.Cond.fieldLinkNest "PartyRaft" (156 : Nat) "PartyRaft$Flow" "thingMany" "I" "PartyRaft") ∈ lw_tbl := lw_at lw_m1 48 rfl
theorem q189 : (Jvm.Cond.fieldLinkNest "PartyRaft" (456 : Nat) "PartyRaft$Flow" "rapidMany" "I" "PartyRaft") ∈ lw_tbl := lw_at lw_m1 52 rfl
theorem q192 : (Jvm.Cond.fieldLinkNest "PartyRaft" (277 : Nat) "PartyRaft$Flow" "store" "I" "PartyRaft") ∈ lw_tbl := lw_at lw_m1 55 rfl
theorem q195 : (Jvm.Cond.fieldLinkNest "PartyRaft" (216 : Nat) "PartyRaft$Flow" "ropeMany" "I" "PartyRaft") ∈ lw_tbl := lw_at lw_m1 58 rfl
theorem q197 : (Jvm.Cond.fieldLinkNest "PartyRaft" (262 : Nat) "PartyRaft$Flow" "now" "I" "PartyRaft") ∈ lw_tbl := lw_at lw_m1 60 rfl
theorem q199 : (Jvm.Cond.fieldLinkNest "PartyRaft" (244 : Nat) "PartyRaft$Flow" "undoMany" "I" "PartyRaft") ∈ lw_tbl := lw_at lw_m1 62 rfl
theorem q201 : (Jvm.Cond.fieldLinkNest "PartyRaft" (401 : Nat) "PartyRaft$Flow" "offerMany" "I" "PartyRaft") ∈ lw_tbl := lw_at lw_m1 64 rfl
theorem q203 : (Jvm.Cond.fieldLinkNest "PartyRaft" (180 : Nat) "PartyRaft$Flow" "landing" "[I" "PartyRaft") ∈ lw_tbl := lw_at lw_m1 66 rfl
theorem q206 : (Jvm.Cond.fieldLinkNest "PartyRaft" (182 : Nat) "PartyRaft$Flow" "mass" "[I" "PartyRaft") ∈ lw_tbl := lw_at lw_m1 69 rfl
theorem q209 : (Jvm.Cond.fieldLinkNest "PartyRaft" (185 : Nat) "PartyRaft$Flow" "place" "[I" "PartyRaft") ∈ lw_tbl := lw_at lw_m1 72 rfl
theorem q211 : (Jvm.Cond.fieldLinkNest "PartyRaft" (200 : Nat) "PartyRaft$Flow" "owner" "[I" "PartyRaft") ∈ lw_tbl := lw_at lw_m1 74 rfl
theorem q214 : (Jvm.Cond.fieldLinkNest "PartyRaft" (202 : Nat) "PartyRaft$Flow" "weight" "[I" "PartyRaft") ∈ lw_tbl := lw_at lw_m1 77 rfl
theorem q217 : (Jvm.Cond.fieldLinkNest "PartyRaft" (204 : Nat) "PartyRaft$Flow" "bears" "[I" "PartyRaft") ∈ lw_tbl := lw_at lw_m1 80 rfl
theorem q220 : (Jvm.Cond.fieldLinkNest "PartyRaft" (207 : Nat) "PartyRaft$Flow" "soak" "[I" "PartyRaft") ∈ lw_tbl := lw_at lw_m1 83 rfl
theorem q223 : (Jvm.Cond.fieldLinkNest "PartyRaft" (209 : Nat) "PartyRaft$Flow" "state" "[I" "PartyRaft") ∈ lw_tbl := lw_at lw_m1 86 rfl
theorem q225 : (Jvm.Cond.fieldLinkNest "PartyRaft" (330 : Nat) "PartyRaft$Flow" "sunkAt" "[I" "PartyRaft") ∈ lw_tbl := lw_at lw_m1 88 rfl
theorem q227 : (Jvm.Cond.fieldLinkNest "PartyRaft" (222 : Nat) "PartyRaft$Flow" "ropeA" "[I" "PartyRaft") ∈ lw_tbl := lw_at lw_m1 90 rfl
theorem q229 : (Jvm.Cond.fieldLinkNest "PartyRaft" (225 : Nat) "PartyRaft$Flow" "ropeB" "[I" "PartyRaft") ∈ lw_tbl := lw_at lw_m1 92 rfl
theorem q231 : (Jvm.Cond.fieldLinkNest "PartyRaft" (228 : Nat) "PartyRaft$Flow" "strength" "[I" "PartyRaft") ∈ lw_tbl := lw_at lw_m1 94 rfl
theorem q237 : (Jvm.Cond.fieldLinkNest "PartyRaft" (408 : Nat) "PartyRaft$Flow" "offer" "[I" "PartyRaft") ∈ lw_tbl := lw_at lw_m1 100 rfl
theorem q239 : (Jvm.Cond.fieldLinkNest "PartyRaft" (247 : Nat) "PartyRaft$Flow" "undo" "[I" "PartyRaft") ∈ lw_tbl := lw_at lw_m1 102 rfl
theorem q242 : (Jvm.Cond.fieldLinkNest "PartyRaft" (448 : Nat) "PartyRaft$Flow" "landedMany" "I" "PartyRaft") ∈ lw_tbl := lw_at lw_m1 105 rfl
theorem q244 : (Jvm.Cond.fieldLinkNest "PartyRaft" (451 : Nat) "PartyRaft$Flow" "brokeMany" "I" "PartyRaft") ∈ lw_tbl := lw_at lw_m1 107 rfl
theorem q246 : (Jvm.Cond.fieldLinkNest "PartyRaft" (411 : Nat) "PartyRaft$Flow" "pieceAt" "[I" "PartyRaft") ∈ lw_tbl := lw_at lw_m1 109 rfl
theorem q307 : (Jvm.Cond.classLink "PartyRaft" (25 : Nat) "PartyRaft$Fault") ∈ lw_all := lw_g (lw_at lw_m1 170 rfl) rfl
theorem q346 : (Jvm.Cond.methodLink "PartyRaft" (27 : Nat) ({ cls := "PartyRaft$Fault", name := "<init>", desc := "()V" } : Jvm.MethodName)) ∈ lw_all := lw_g (lw_at lw_m1 209 rfl) rfl
theorem q360 : (Jvm.Cond.fieldLinkNest "PartyRaft" (137 : Nat) "PartyRaft$Fault" "kind" "I" "PartyRaft") ∈ lw_tbl := lw_at lw_m1 223 rfl
theorem q362 : (Jvm.Cond.fieldLinkNest "PartyRaft" (134 : Nat) "PartyRaft$Fault" "place" "I" "PartyRaft") ∈ lw_tbl := lw_at lw_m1 225 rfl
theorem q381 : (Jvm.Cond.classLink "PartyRaft" (36 : Nat) "java/lang/String") ∈ lw_all := lw_g (lw_at lw_m2 4 rfl) rfl
theorem q383 : (Jvm.Cond.stringRef "PartyRaft" (38 : Nat) "river") ∈ lw_tbl := lw_at lw_m2 6 rfl
theorem q384 : (Jvm.Cond.stringRef "PartyRaft" (40 : Nat) "owner") ∈ lw_tbl := lw_at lw_m2 7 rfl
theorem q385 : (Jvm.Cond.stringRef "PartyRaft" (42 : Nat) "thing") ∈ lw_tbl := lw_at lw_m2 8 rfl
theorem q386 : (Jvm.Cond.stringRef "PartyRaft" (44 : Nat) "bound") ∈ lw_tbl := lw_at lw_m2 9 rfl
theorem q387 : (Jvm.Cond.stringRef "PartyRaft" (46 : Nat) "rapid") ∈ lw_tbl := lw_at lw_m2 10 rfl
theorem q388 : (Jvm.Cond.stringRef "PartyRaft" (52 : Nat) "tie") ∈ lw_tbl := lw_at lw_m2 11 rfl
theorem q389 : (Jvm.Cond.stringRef "PartyRaft" (57 : Nat) "one") ∈ lw_tbl := lw_at lw_m2 12 rfl
theorem q390 : (Jvm.Cond.stringRef "PartyRaft" (59 : Nat) "other") ∈ lw_tbl := lw_at lw_m2 13 rfl
theorem q391 : (Jvm.Cond.stringRef "PartyRaft" (61 : Nat) "float") ∈ lw_tbl := lw_at lw_m2 14 rfl
theorem q392 : (Jvm.Cond.stringRef "PartyRaft" (63 : Nat) "weight") ∈ lw_tbl := lw_at lw_m2 15 rfl
theorem q393 : (Jvm.Cond.stringRef "PartyRaft" (65 : Nat) "soak") ∈ lw_tbl := lw_at lw_m2 16 rfl
theorem q394 : (Jvm.Cond.stringRef "PartyRaft" (67 : Nat) "same") ∈ lw_tbl := lw_at lw_m2 17 rfl
theorem q395 : (Jvm.Cond.stringRef "PartyRaft" (69 : Nat) "apart") ∈ lw_tbl := lw_at lw_m2 18 rfl
theorem q396 : (Jvm.Cond.stringRef "PartyRaft" (71 : Nat) "ropes") ∈ lw_tbl := lw_at lw_m2 19 rfl
theorem q397 : (Jvm.Cond.stringRef "PartyRaft" (73 : Nat) "store") ∈ lw_tbl := lw_at lw_m2 20 rfl
theorem q398 : (Jvm.Cond.stringRef "PartyRaft" (75 : Nat) "mile") ∈ lw_tbl := lw_at lw_m2 21 rfl
theorem q399 : (Jvm.Cond.stringRef "PartyRaft" (77 : Nat) "landing") ∈ lw_tbl := lw_at lw_m2 22 rfl
theorem q400 : (Jvm.Cond.stringRef "PartyRaft" (79 : Nat) "left") ∈ lw_tbl := lw_at lw_m2 23 rfl
theorem q401 : (Jvm.Cond.classLink "PartyRaft" (84 : Nat) "PartyRaft$Rule") ∈ lw_all := lw_g (lw_at lw_m2 24 rfl) rfl
theorem q403 : (Jvm.Cond.classLink "PartyRaft" (120 : Nat) "PartyRaft$Image") ∈ lw_all := lw_g (lw_at lw_m2 26 rfl) rfl
theorem q405 : (Jvm.Cond.fieldLink "PartyRaft" (153 : Nat) "PartyRaft" "flow" "LPartyRaft$Flow;") ∈ lw_all := lw_g (lw_at lw_m2 28 rfl) rfl
theorem q406 : (Jvm.Cond.fieldLink "PartyRaft" (10 : Nat) "PartyRaft" "own" "LPartyRaft$Flow;") ∈ lw_all := lw_g (lw_at lw_m2 29 rfl) rfl
theorem q407 : (Jvm.Cond.fieldLink "PartyRaft" (16 : Nat) "PartyRaft" "spare" "LPartyRaft$Flow;") ∈ lw_all := lw_g (lw_at lw_m2 30 rfl) rfl
theorem q409 : (Jvm.Cond.fieldLink "PartyRaft" (19 : Nat) "PartyRaft" "reading" "LPartyRaft$Flow;") ∈ lw_all := lw_g (lw_at lw_m2 32 rfl) rfl
theorem q410 : (Jvm.Cond.fieldLink "PartyRaft" (22 : Nat) "PartyRaft" "blank" "LPartyRaft$Flow;") ∈ lw_all := lw_g (lw_at lw_m2 33 rfl) rfl
theorem q412 : (Jvm.Cond.fieldLink "PartyRaft" (424 : Nat) "PartyRaft" "x" "I") ∈ lw_all := lw_g (lw_at lw_m2 35 rfl) rfl
theorem q414 : (Jvm.Cond.fieldLink "PartyRaft" (28 : Nat) "PartyRaft" "fault" "LPartyRaft$Fault;") ∈ lw_all := lw_g (lw_at lw_m2 37 rfl) rfl
theorem q416 : (Jvm.Cond.fieldLink "PartyRaft" (32 : Nat) "PartyRaft" "tape" "[B") ∈ lw_all := lw_g (lw_at lw_m2 39 rfl) rfl
theorem q418 : (Jvm.Cond.fieldLink "PartyRaft" (126 : Nat) "PartyRaft" "taped" "I") ∈ lw_all := lw_g (lw_at lw_m2 41 rfl) rfl
theorem q419 : (Jvm.Cond.fieldLink "PartyRaft" (48 : Nat) "PartyRaft" "lineWords" "[Ljava/lang/String;") ∈ lw_all := lw_g (lw_at lw_m2 42 rfl) rfl
theorem q421 : (Jvm.Cond.fieldLink "PartyRaft" (54 : Nat) "PartyRaft" "clauseWords" "[Ljava/lang/String;") ∈ lw_all := lw_g (lw_at lw_m2 44 rfl) rfl
theorem q424 : (Jvm.Cond.fieldLink "PartyRaft" (81 : Nat) "PartyRaft" "wordNames" "[Ljava/lang/String;") ∈ lw_all := lw_g (lw_at lw_m2 47 rfl) rfl
theorem q425 : (Jvm.Cond.fieldLink "PartyRaft" (86 : Nat) "PartyRaft" "rules" "[LPartyRaft$Rule;") ∈ lw_all := lw_g (lw_at lw_m2 48 rfl) rfl
theorem q426 : (Jvm.Cond.fieldLink "PartyRaft" (163 : Nat) "PartyRaft" "ruleMany" "I") ∈ lw_all := lw_g (lw_at lw_m2 49 rfl) rfl
theorem q427 : (Jvm.Cond.fieldLink "PartyRaft" (90 : Nat) "PartyRaft" "words" "[J") ∈ lw_all := lw_g (lw_at lw_m2 50 rfl) rfl
theorem q428 : (Jvm.Cond.fieldLink "PartyRaft" (94 : Nat) "PartyRaft" "row" "[I") ∈ lw_all := lw_g (lw_at lw_m2 51 rfl) rfl
theorem q429 : (Jvm.Cond.fieldLink "PartyRaft" (98 : Nat) "PartyRaft" "firstRow" "[I") ∈ lw_all := lw_g (lw_at lw_m2 52 rfl) rfl
theorem q430 : (Jvm.Cond.fieldLink "PartyRaft" (101 : Nat) "PartyRaft" "together" "[I") ∈ lw_all := lw_g (lw_at lw_m2 53 rfl) rfl
theorem q431 : (Jvm.Cond.fieldLink "PartyRaft" (342 : Nat) "PartyRaft" "togetherMany" "I") ∈ lw_all := lw_g (lw_at lw_m2 54 rfl) rfl
theorem q432 : (Jvm.Cond.fieldLink "PartyRaft" (348 : Nat) "PartyRaft" "rowMany" "I") ∈ lw_all := lw_g (lw_at lw_m2 55 rfl) rfl
theorem q433 : (Jvm.Cond.fieldLink "PartyRaft" (354 : Nat) "PartyRaft" "planMany" "I") ∈ lw_all := lw_g (lw_at lw_m2 56 rfl) rfl
theorem q434 : (Jvm.Cond.fieldLink "PartyRaft" (104 : Nat) "PartyRaft" "lockOf" "[I") ∈ lw_all := lw_g (lw_at lw_m2 57 rfl) rfl
theorem q435 : (Jvm.Cond.fieldLink "PartyRaft" (107 : Nat) "PartyRaft" "bestLock" "[I") ∈ lw_all := lw_g (lw_at lw_m2 58 rfl) rfl
theorem q436 : (Jvm.Cond.fieldLink "PartyRaft" (110 : Nat) "PartyRaft" "load" "[I") ∈ lw_all := lw_g (lw_at lw_m2 59 rfl) rfl
theorem q437 : (Jvm.Cond.fieldLink "PartyRaft" (373 : Nat) "PartyRaft" "fewestLocks" "I") ∈ lw_all := lw_g (lw_at lw_m2 60 rfl) rfl
theorem q438 : (Jvm.Cond.fieldLink "PartyRaft" (113 : Nat) "PartyRaft" "groupOf" "[I") ∈ lw_all := lw_g (lw_at lw_m2 61 rfl) rfl
theorem q439 : (Jvm.Cond.fieldLink "PartyRaft" (116 : Nat) "PartyRaft" "wins" "[Z") ∈ lw_all := lw_g (lw_at lw_m2 62 rfl) rfl
theorem q440 : (Jvm.Cond.fieldLink "PartyRaft" (427 : Nat) "PartyRaft" "drawX" "I") ∈ lw_all := lw_g (lw_at lw_m2 63 rfl) rfl
theorem q441 : (Jvm.Cond.fieldLink "PartyRaft" (122 : Nat) "PartyRaft" "images" "[LPartyRaft$Image;") ∈ lw_all := lw_g (lw_at lw_m2 64 rfl) rfl
theorem q442 : (Jvm.Cond.lays "PartyRaft" "PartyRaft" "flow" "LPartyRaft$Flow;") ∈ lw_all := lw_g (lw_at lw_m2 65 rfl) rfl
theorem q443 : (Jvm.Cond.soleField "PartyRaft" "flow") ∈ lw_all := lw_g (lw_at lw_m2 66 rfl) rfl
theorem q444 : (Jvm.Cond.laysFinal "PartyRaft" "PartyRaft" "own" "LPartyRaft$Flow;") ∈ lw_all := lw_g (lw_at lw_m2 67 rfl) rfl
theorem q445 : (Jvm.Cond.soleField "PartyRaft" "own") ∈ lw_all := lw_g (lw_at lw_m2 68 rfl) rfl
theorem q446 : (Jvm.Cond.laysFinal "PartyRaft" "PartyRaft" "spare" "LPartyRaft$Flow;") ∈ lw_all := lw_g (lw_at lw_m2 69 rfl) rfl
theorem q447 : (Jvm.Cond.soleField "PartyRaft" "spare") ∈ lw_all := lw_g (lw_at lw_m2 70 rfl) rfl
theorem q448 : (Jvm.Cond.laysFinal "PartyRaft" "PartyRaft" "reading" "LPartyRaft$Flow;") ∈ lw_all := lw_g (lw_at lw_m2 71 rfl) rfl
theorem q449 : (Jvm.Cond.soleField "PartyRaft" "reading") ∈ lw_all := lw_g (lw_at lw_m2 72 rfl) rfl
theorem q450 : (Jvm.Cond.laysFinal "PartyRaft" "PartyRaft" "blank" "LPartyRaft$Flow;") ∈ lw_all := lw_g (lw_at lw_m2 73 rfl) rfl
theorem q451 : (Jvm.Cond.soleField "PartyRaft" "blank") ∈ lw_all := lw_g (lw_at lw_m2 74 rfl) rfl
theorem q452 : (Jvm.Cond.lays "PartyRaft" "PartyRaft" "x" "I") ∈ lw_all := lw_g (lw_at lw_m2 75 rfl) rfl
theorem q453 : (Jvm.Cond.soleField "PartyRaft" "x") ∈ lw_all := lw_g (lw_at lw_m2 76 rfl) rfl
theorem q454 : (Jvm.Cond.laysFinal "PartyRaft" "PartyRaft" "fault" "LPartyRaft$Fault;") ∈ lw_all := lw_g (lw_at lw_m2 77 rfl) rfl
theorem q455 : (Jvm.Cond.soleField "PartyRaft" "fault") ∈ lw_all := lw_g (lw_at lw_m2 78 rfl) rfl
theorem q456 : (Jvm.Cond.laysFinal "PartyRaft" "PartyRaft" "tape" "[B") ∈ lw_all := lw_g (lw_at lw_m2 79 rfl) rfl
theorem q457 : (Jvm.Cond.soleField "PartyRaft" "tape") ∈ lw_all := lw_g (lw_at lw_m2 80 rfl) rfl
theorem q458 : (Jvm.Cond.lays "PartyRaft" "PartyRaft" "taped" "I") ∈ lw_all := lw_g (lw_at lw_m2 81 rfl) rfl
theorem q459 : (Jvm.Cond.soleField "PartyRaft" "taped") ∈ lw_all := lw_g (lw_at lw_m2 82 rfl) rfl
theorem q460 : (Jvm.Cond.laysFinal "PartyRaft" "PartyRaft" "lineWords" "[Ljava/lang/String;") ∈ lw_all := lw_g (lw_at lw_m2 83 rfl) rfl
theorem q461 : (Jvm.Cond.soleField "PartyRaft" "lineWords") ∈ lw_all := lw_g (lw_at lw_m2 84 rfl) rfl
theorem q462 : (Jvm.Cond.laysFinal "PartyRaft" "PartyRaft" "clauseWords" "[Ljava/lang/String;") ∈ lw_all := lw_g (lw_at lw_m2 85 rfl) rfl
theorem q463 : (Jvm.Cond.soleField "PartyRaft" "clauseWords") ∈ lw_all := lw_g (lw_at lw_m2 86 rfl) rfl
theorem q464 : (Jvm.Cond.laysFinal "PartyRaft" "PartyRaft" "wordNames" "[Ljava/lang/String;") ∈ lw_all := lw_g (lw_at lw_m2 87 rfl) rfl
theorem q465 : (Jvm.Cond.soleField "PartyRaft" "wordNames") ∈ lw_all := lw_g (lw_at lw_m2 88 rfl) rfl
theorem q466 : (Jvm.Cond.laysFinal "PartyRaft" "PartyRaft" "rules" "[LPartyRaft$Rule;") ∈ lw_all := lw_g (lw_at lw_m2 89 rfl) rfl
theorem q467 : (Jvm.Cond.soleField "PartyRaft" "rules") ∈ lw_all := lw_g (lw_at lw_m2 90 rfl) rfl
theorem q468 : (Jvm.Cond.lays "PartyRaft" "PartyRaft" "ruleMany" "I") ∈ lw_all := lw_g (lw_at lw_m2 91 rfl) rfl
theorem q469 : (Jvm.Cond.soleField "PartyRaft" "ruleMany") ∈ lw_all := lw_g (lw_at lw_m2 92 rfl) rfl
theorem q470 : (Jvm.Cond.laysFinal "PartyRaft" "PartyRaft" "words" "[J") ∈ lw_all := lw_g (lw_at lw_m2 93 rfl) rfl
theorem q471 : (Jvm.Cond.soleField "PartyRaft" "words") ∈ lw_all := lw_g (lw_at lw_m2 94 rfl) rfl
theorem q472 : (Jvm.Cond.laysFinal "PartyRaft" "PartyRaft" "row" "[I") ∈ lw_all := lw_g (lw_at lw_m2 95 rfl) rfl
theorem q473 : (Jvm.Cond.soleField "PartyRaft" "row") ∈ lw_all := lw_g (lw_at lw_m2 96 rfl) rfl
theorem q474 : (Jvm.Cond.laysFinal "PartyRaft" "PartyRaft" "firstRow" "[I") ∈ lw_all := lw_g (lw_at lw_m2 97 rfl) rfl
theorem q475 : (Jvm.Cond.soleField "PartyRaft" "firstRow") ∈ lw_all := lw_g (lw_at lw_m2 98 rfl) rfl
theorem q476 : (Jvm.Cond.laysFinal "PartyRaft" "PartyRaft" "together" "[I") ∈ lw_all := lw_g (lw_at lw_m2 99 rfl) rfl
theorem q477 : (Jvm.Cond.soleField "PartyRaft" "together") ∈ lw_all := lw_g (lw_at lw_m2 100 rfl) rfl
theorem q478 : (Jvm.Cond.lays "PartyRaft" "PartyRaft" "togetherMany" "I") ∈ lw_all := lw_g (lw_at lw_m2 101 rfl) rfl
theorem q479 : (Jvm.Cond.soleField "PartyRaft" "togetherMany") ∈ lw_all := lw_g (lw_at lw_m2 102 rfl) rfl
theorem q480 : (Jvm.Cond.lays "PartyRaft" "PartyRaft" "rowMany" "I") ∈ lw_all := lw_g (lw_at lw_m2 103 rfl) rfl
theorem q481 : (Jvm.Cond.soleField "PartyRaft" "rowMany") ∈ lw_all := lw_g (lw_at lw_m2 104 rfl) rfl
theorem q482 : (Jvm.Cond.lays "PartyRaft" "PartyRaft" "planMany" "I") ∈ lw_all := lw_g (lw_at lw_m2 105 rfl) rfl
theorem q483 : (Jvm.Cond.soleField "PartyRaft" "planMany") ∈ lw_all := lw_g (lw_at lw_m2 106 rfl) rfl
theorem q484 : (Jvm.Cond.laysFinal "PartyRaft" "PartyRaft" "lockOf" "[I") ∈ lw_all := lw_g (lw_at lw_m2 107 rfl) rfl
theorem q485 : (Jvm.Cond.soleField "PartyRaft" "lockOf") ∈ lw_all := lw_g (lw_at lw_m2 108 rfl) rfl
theorem q486 : (Jvm.Cond.laysFinal "PartyRaft" "PartyRaft" "bestLock" "[I") ∈ lw_all := lw_g (lw_at lw_m2 109 rfl) rfl
theorem q487 : (Jvm.Cond.soleField "PartyRaft" "bestLock") ∈ lw_all := lw_g (lw_at lw_m2 110 rfl) rfl
theorem q488 : (Jvm.Cond.laysFinal "PartyRaft" "PartyRaft" "load" "[I") ∈ lw_all := lw_g (lw_at lw_m2 111 rfl) rfl
theorem q489 : (Jvm.Cond.soleField "PartyRaft" "load") ∈ lw_all := lw_g (lw_at lw_m2 112 rfl) rfl
theorem q490 : (Jvm.Cond.lays "PartyRaft" "PartyRaft" "fewestLocks" "I") ∈ lw_all := lw_g (lw_at lw_m2 113 rfl) rfl
theorem q491 : (Jvm.Cond.soleField "PartyRaft" "fewestLocks") ∈ lw_all := lw_g (lw_at lw_m2 114 rfl) rfl
theorem q492 : (Jvm.Cond.laysFinal "PartyRaft" "PartyRaft" "groupOf" "[I") ∈ lw_all := lw_g (lw_at lw_m2 115 rfl) rfl
theorem q493 : (Jvm.Cond.soleField "PartyRaft" "groupOf") ∈ lw_all := lw_g (lw_at lw_m2 116 rfl) rfl
theorem q494 : (Jvm.Cond.laysFinal "PartyRaft" "PartyRaft" "wins" "[Z") ∈ lw_all := lw_g (lw_at lw_m2 117 rfl) rfl
theorem q495 : (Jvm.Cond.soleField "PartyRaft" "wins") ∈ lw_all := lw_g (lw_at lw_m2 118 rfl) rfl
theorem q496 : (Jvm.Cond.lays "PartyRaft" "PartyRaft" "drawX" "I") ∈ lw_all := lw_g (lw_at lw_m2 119 rfl) rfl
theorem q497 : (Jvm.Cond.soleField "PartyRaft" "drawX") ∈ lw_all := lw_g (lw_at lw_m2 120 rfl) rfl
theorem q498 : (Jvm.Cond.laysFinal "PartyRaft" "PartyRaft" "images" "[LPartyRaft$Image;") ∈ lw_all := lw_g (lw_at lw_m2 121 rfl) rfl
theorem q499 : (Jvm.Cond.soleField "PartyRaft" "images") ∈ lw_all := lw_g (lw_at lw_m2 122 rfl) rfl
theorem q500 : (Jvm.Cond.superclass "PartyRaft" "java/lang/Object") ∈ lw_all := lw_g (lw_at lw_m2 123 rfl) rfl
theorem q504 : (Jvm.Cond.instanceMethod ({ cls := "PartyRaft", name := "feed", desc := "(IIIII)I" } : Jvm.MethodName)) ∈ lw_all := lw_g (lw_at lw_m2 127 rfl) rfl
theorem q505 : (Jvm.Cond.selects "PartyRaft" ({ cls := "PartyRaft", name := "feed", desc := "(IIIII)I" } : Jvm.MethodName) ({ cls := "PartyRaft", name := "feed", desc := "(IIIII)I" } : Jvm.MethodName)) ∈ lw_all := lw_g (lw_at lw_m2 128 rfl) rfl
theorem q506 : (Jvm.Cond.code ({ cls := "PartyRaft", name := "feed", desc := "(IIIII)I" } : Jvm.MethodName) prog_1_method_4_code (6 : Nat) (Option.some Jvm.ClassFile.FieldType.int)) ∈ lw_all := lw_g (lw_at lw_m2 129 rfl) rfl
theorem q507 : (Jvm.Cond.methodLink "PartyRaft" (130 : Nat) ({ cls := "PartyRaft", name := "four", desc := "(I)V" } : Jvm.MethodName)) ∈ lw_all := lw_g (lw_at lw_m2 130 rfl) rfl
theorem q508 : (Jvm.Cond.privateMethod ({ cls := "PartyRaft", name := "four", desc := "(I)V" } : Jvm.MethodName)) ∈ lw_tbl := lw_at lw_m2 131 rfl
theorem q509 : (Jvm.Cond.instanceMethod ({ cls := "PartyRaft", name := "four", desc := "(I)V" } : Jvm.MethodName)) ∈ lw_all := lw_g (lw_at lw_m2 132 rfl) rfl
theorem q510 : (Jvm.Cond.code ({ cls := "PartyRaft", name := "four", desc := "(I)V" } : Jvm.MethodName) prog_1_method_5_code (3 : Nat) (Option.none : Option Jvm.ClassFile.FieldType)) ∈ lw_all := lw_g (lw_at lw_m2 133 rfl) rfl
theorem q512 : (Jvm.Cond.instanceMethod ({ cls := "PartyRaft", name := "end", desc := "(I)I" } : Jvm.MethodName)) ∈ lw_all := lw_g (lw_at lw_m2 135 rfl) rfl
theorem q513 : (Jvm.Cond.selects "PartyRaft" ({ cls := "PartyRaft", name := "end", desc := "(I)I" } : Jvm.MethodName) ({ cls := "PartyRaft", name := "end", desc := "(I)I" } : Jvm.MethodName)) ∈ lw_all := lw_g (lw_at lw_m2 136 rfl) rfl
theorem q514 : (Jvm.Cond.code ({ cls := "PartyRaft", name := "end", desc := "(I)I" } : Jvm.MethodName) prog_1_method_6_code (2 : Nat) (Option.some Jvm.ClassFile.FieldType.int)) ∈ lw_all := lw_g (lw_at lw_m2 137 rfl) rfl
theorem q516 : (Jvm.Cond.instanceMethod ({ cls := "PartyRaft", name := "river", desc := "()I" } : Jvm.MethodName)) ∈ lw_all := lw_g (lw_at lw_m2 139 rfl) rfl
theorem q517 : (Jvm.Cond.selects "PartyRaft" ({ cls := "PartyRaft", name := "river", desc := "()I" } : Jvm.MethodName) ({ cls := "PartyRaft", name := "river", desc := "()I" } : Jvm.MethodName)) ∈ lw_all := lw_g (lw_at lw_m2 140 rfl) rfl
theorem q518 : (Jvm.Cond.codeWith ({ cls := "PartyRaft", name := "river", desc := "()I" } : Jvm.MethodName) prog_1_method_8_code (3 : Nat) (Option.some Jvm.ClassFile.FieldType.int) [((0 : Nat), (30 : Nat), (33 : Nat), (25 : Nat))]) ∈ lw_all := lw_g (lw_at lw_m2 141 rfl) rfl
theorem q519 : (Jvm.Cond.classLink "PartyRaft" (140 : Nat) "PartyRaft$Text") ∈ lw_all := lw_g (lw_at lw_m2 142 rfl) rfl
theorem q521 : (Jvm.Cond.methodLinkNest "PartyRaft" (142 : Nat) ({ cls := "PartyRaft$Text", name := "<init>", desc := "(LPartyRaft;)V" } : Jvm.MethodName) "PartyRaft") ∈ lw_tbl := lw_at lw_m2 144 rfl
theorem q547 : (Jvm.Cond.methodLink "PartyRaft" (145 : Nat) ({ cls := "PartyRaft$Text", name := "riverTold", desc := "()LPartyRaft$Flow;" } : Jvm.MethodName)) ∈ lw_all := lw_g (lw_at lw_m2 170 rfl) rfl
theorem q647 : (Jvm.Cond.static ({ cls := "PartyRaft", name := "in", desc := "(JJJ)Z" } : Jvm.MethodName)) ∈ lw_all := lw_g (lw_at lw_m3 30 rfl) rfl
theorem q648 : (Jvm.Cond.code ({ cls := "PartyRaft", name := "in", desc := "(JJJ)Z" } : Jvm.MethodName) prog_1_method_1_code (6 : Nat) (Option.some Jvm.ClassFile.FieldType.boolean)) ∈ lw_all := lw_g (lw_at lw_m3 31 rfl) rfl
theorem q691 : (Jvm.Cond.methodLink "PartyRaft" (149 : Nat) ({ cls := "PartyRaft$Flow", name := "copies", desc := "(LPartyRaft$Flow;)LPartyRaft$Flow;" } : Jvm.MethodName)) ∈ lw_all := lw_g (lw_at lw_m3 74 rfl) rfl
theorem q692 : (Jvm.Cond.methodLink "PartyRaft" (159 : Nat) ({ cls := "PartyRaft", name := "faulted", desc := "()I" } : Jvm.MethodName)) ∈ lw_all := lw_g (lw_at lw_m3 75 rfl) rfl
theorem q693 : (Jvm.Cond.privateMethod ({ cls := "PartyRaft", name := "faulted", desc := "()I" } : Jvm.MethodName)) ∈ lw_tbl := lw_at lw_m3 76 rfl
theorem q694 : (Jvm.Cond.instanceMethod ({ cls := "PartyRaft", name := "faulted", desc := "()I" } : Jvm.MethodName)) ∈ lw_all := lw_g (lw_at lw_m3 77 rfl) rfl
theorem q695 : (Jvm.Cond.code ({ cls := "PartyRaft", name := "faulted", desc := "()I" } : Jvm.MethodName) prog_1_method_7_code (1 : Nat) (Option.some Jvm.ClassFile.FieldType.int)) ∈ lw_all := lw_g (lw_at lw_m3 78 rfl) rfl
theorem q697 : (Jvm.Cond.instanceMethod ({ cls := "PartyRaft", name := "rule", desc := "()I" } : Jvm.MethodName)) ∈ lw_all := lw_g (lw_at lw_m3 80 rfl) rfl
theorem q698 : (Jvm.Cond.selects "PartyRaft" ({ cls := "PartyRaft", name := "rule", desc := "()I" } : Jvm.MethodName) ({ cls := "PartyRaft", name := "rule", desc := "()I" } : Jvm.MethodName)) ∈ lw_all := lw_g (lw_at lw_m3 81 rfl) rfl
theorem q699 : (Jvm.Cond.codeWith ({ cls := "PartyRaft", name := "rule", desc := "()I" } : Jvm.MethodName) prog_1_method_9_code (3 : Nat) (Option.some Jvm.ClassFile.FieldType.int) [((16 : Nat), (46 : Nat), (49 : Nat), (25 : Nat))]) ∈ lw_all := lw_g (lw_at lw_m3 82 rfl) rfl
theorem q700 : (Jvm.Cond.methodLink "PartyRaft" (166 : Nat) ({ cls := "PartyRaft$Text", name := "ruleTold", desc := "()LPartyRaft$Rule;" } : Jvm.MethodName)) ∈ lw_all := lw_g (lw_at lw_m3 83 rfl) rfl
theorem q870 : (Jvm.Cond.instanceMethod ({ cls := "PartyRaft", name := "owner", desc := "(II)I" } : Jvm.MethodName)) ∈ lw_all := lw_g (lw_at lw_m4 13 rfl) rfl
theorem q871 : (Jvm.Cond.selects "PartyRaft" ({ cls := "PartyRaft", name := "owner", desc := "(II)I" } : Jvm.MethodName) ({ cls := "PartyRaft", name := "owner", desc := "(II)I" } : Jvm.MethodName)) ∈ lw_all := lw_g (lw_at lw_m4 14 rfl) rfl
theorem q872 : (Jvm.Cond.code ({ cls := "PartyRaft", name := "owner", desc := "(II)I" } : Jvm.MethodName) prog_1_method_14_code (3 : Nat) (Option.some Jvm.ClassFile.FieldType.int)) ∈ lw_all := lw_g (lw_at lw_m4 15 rfl) rfl
theorem q873 : (Jvm.Cond.methodLink "PartyRaft" (177 : Nat) ({ cls := "PartyRaft", name := "isOwner", desc := "(I)Z" } : Jvm.MethodName)) ∈ lw_all := lw_g (lw_at lw_m4 16 rfl) rfl
theorem q874 : (Jvm.Cond.privateMethod ({ cls := "PartyRaft", name := "isOwner", desc := "(I)Z" } : Jvm.MethodName)) ∈ lw_tbl := lw_at lw_m4 17 rfl
theorem q875 : (Jvm.Cond.instanceMethod ({ cls := "PartyRaft", name := "isOwner", desc := "(I)Z" } : Jvm.MethodName)) ∈ lw_all := lw_g (lw_at lw_m4 18 rfl) rfl
theorem q876 : (Jvm.Cond.code ({ cls := "PartyRaft", name := "isOwner", desc := "(I)Z" } : Jvm.MethodName) prog_1_method_11_code (2 : Nat) (Option.some Jvm.ClassFile.FieldType.boolean)) ∈ lw_all := lw_g (lw_at lw_m4 19 rfl) rfl
theorem q877 : (Jvm.Cond.methodLink "PartyRaft" (187 : Nat) ({ cls := "PartyRaft$Flow", name := "allRopes", desc := "()I" } : Jvm.MethodName)) ∈ lw_all := lw_g (lw_at lw_m4 20 rfl) rfl
theorem q881 : (Jvm.Cond.methodLink "PartyRaft" (190 : Nat) ({ cls := "PartyRaft$Flow", name := "parts", desc := "(I)V" } : Jvm.MethodName)) ∈ lw_all := lw_g (lw_at lw_m4 24 rfl) rfl
theorem q890 : (Jvm.Cond.static ({ cls := "PartyRaft", name := "has", desc := "(II)Z" } : Jvm.MethodName)) ∈ lw_all := lw_g (lw_at lw_m4 33 rfl) rfl
theorem q891 : (Jvm.Cond.code ({ cls := "PartyRaft", name := "has", desc := "(II)Z" } : Jvm.MethodName) prog_1_method_2_code (2 : Nat) (Option.some Jvm.ClassFile.FieldType.boolean)) ∈ lw_all := lw_g (lw_at lw_m4 34 rfl) rfl
theorem q892 : (Jvm.Cond.methodLink "PartyRaft" (193 : Nat) ({ cls := "PartyRaft$Flow", name := "rides", desc := "(I)I" } : Jvm.MethodName)) ∈ lw_all := lw_g (lw_at lw_m4 35 rfl) rfl
theorem q907 : (Jvm.Cond.instanceMethod ({ cls := "PartyRaft", name := "thing", desc := "(II)I" } : Jvm.MethodName)) ∈ lw_all := lw_g (lw_at lw_m4 50 rfl) rfl
theorem q908 : (Jvm.Cond.selects "PartyRaft" ({ cls := "PartyRaft", name := "thing", desc := "(II)I" } : Jvm.MethodName) ({ cls := "PartyRaft", name := "thing", desc := "(II)I" } : Jvm.MethodName)) ∈ lw_all := lw_g (lw_at lw_m4 51 rfl) rfl
theorem q909 : (Jvm.Cond.code ({ cls := "PartyRaft", name := "thing", desc := "(II)I" } : Jvm.MethodName) prog_1_method_15_code (3 : Nat) (Option.some Jvm.ClassFile.FieldType.int)) ∈ lw_all := lw_g (lw_at lw_m4 52 rfl) rfl
theorem q910 : (Jvm.Cond.methodLink "PartyRaft" (197 : Nat) ({ cls := "PartyRaft", name := "isThing", desc := "(I)Z" } : Jvm.MethodName)) ∈ lw_all := lw_g (lw_at lw_m4 53 rfl) rfl
theorem q911 : (Jvm.Cond.privateMethod ({ cls := "PartyRaft", name := "isThing", desc := "(I)Z" } : Jvm.MethodName)) ∈ lw_tbl := lw_at lw_m4 54 rfl
theorem q912 : (Jvm.Cond.instanceMethod ({ cls := "PartyRaft", name := "isThing", desc := "(I)Z" } : Jvm.MethodName)) ∈ lw_all := lw_g (lw_at lw_m4 55 rfl) rfl
theorem q913 : (Jvm.Cond.code ({ cls := "PartyRaft", name := "isThing", desc := "(I)Z" } : Jvm.MethodName) prog_1_method_12_code (2 : Nat) (Option.some Jvm.ClassFile.FieldType.boolean)) ∈ lw_all := lw_g (lw_at lw_m4 56 rfl) rfl
theorem q914 : (Jvm.Cond.methodLink "PartyRaft" (212 : Nat) ({ cls := "PartyRaft", name := "isAfloat", desc := "(I)Z" } : Jvm.MethodName)) ∈ lw_all := lw_g (lw_at lw_m4 57 rfl) rfl
theorem q915 : (Jvm.Cond.privateMethod ({ cls := "PartyRaft", name := "isAfloat", desc := "(I)Z" } : Jvm.MethodName)) ∈ lw_tbl := lw_at lw_m4 58 rfl
theorem q916 : (Jvm.Cond.instanceMethod ({ cls := "PartyRaft", name := "isAfloat", desc := "(I)Z" } : Jvm.MethodName)) ∈ lw_all := lw_g (lw_at lw_m4 59 rfl) rfl
theorem q917 : (Jvm.Cond.code ({ cls := "PartyRaft", name := "isAfloat", desc := "(I)Z" } : Jvm.MethodName) prog_1_method_13_code (2 : Nat) (Option.some Jvm.ClassFile.FieldType.boolean)) ∈ lw_all := lw_g (lw_at lw_m4 60 rfl) rfl
theorem q918 : (Jvm.Cond.methodLink "PartyRaft" (173 : Nat) ({ cls := "PartyRaft$Flow", name := "isAfloat", desc := "(I)Z" } : Jvm.MethodName)) ∈ lw_all := lw_g (lw_at lw_m4 61 rfl) rfl
theorem q922 : (Jvm.Cond.methodLink "PartyRaft" (213 : Nat) ({ cls := "PartyRaft$Flow", name := "pieceOf", desc := "(I)I" } : Jvm.MethodName)) ∈ lw_all := lw_g (lw_at lw_m4 65 rfl) rfl
theorem q928 : (Jvm.Cond.instanceMethod ({ cls := "PartyRaft", name := "rope", desc := "(II)I" } : Jvm.MethodName)) ∈ lw_all := lw_g (lw_at lw_m4 71 rfl) rfl
theorem q929 : (Jvm.Cond.selects "PartyRaft" ({ cls := "PartyRaft", name := "rope", desc := "(II)I" } : Jvm.MethodName) ({ cls := "PartyRaft", name := "rope", desc := "(II)I" } : Jvm.MethodName)) ∈ lw_all := lw_g (lw_at lw_m4 72 rfl) rfl
theorem q930 : (Jvm.Cond.code ({ cls := "PartyRaft", name := "rope", desc := "(II)I" } : Jvm.MethodName) prog_1_method_17_code (3 : Nat) (Option.some Jvm.ClassFile.FieldType.int)) ∈ lw_all := lw_g (lw_at lw_m4 73 rfl) rfl
theorem q931 : (Jvm.Cond.methodLink "PartyRaft" (219 : Nat) ({ cls := "PartyRaft", name := "isRope", desc := "(I)Z" } : Jvm.MethodName)) ∈ lw_all := lw_g (lw_at lw_m4 74 rfl) rfl
theorem q932 : (Jvm.Cond.privateMethod ({ cls := "PartyRaft", name := "isRope", desc := "(I)Z" } : Jvm.MethodName)) ∈ lw_tbl := lw_at lw_m4 75 rfl
theorem q933 : (Jvm.Cond.instanceMethod ({ cls := "PartyRaft", name := "isRope", desc := "(I)Z" } : Jvm.MethodName)) ∈ lw_all := lw_g (lw_at lw_m4 76 rfl) rfl
theorem q934 : (Jvm.Cond.code ({ cls := "PartyRaft", name := "isRope", desc := "(I)Z" } : Jvm.MethodName) prog_1_method_16_code (2 : Nat) (Option.some Jvm.ClassFile.FieldType.boolean)) ∈ lw_all := lw_g (lw_at lw_m4 77 rfl) rfl
theorem q936 : (Jvm.Cond.instanceMethod ({ cls := "PartyRaft", name := "rapid", desc := "(I)I" } : Jvm.MethodName)) ∈ lw_all := lw_g (lw_at lw_m4 79 rfl) rfl
theorem q937 : (Jvm.Cond.selects "PartyRaft" ({ cls := "PartyRaft", name := "rapid", desc := "(I)I" } : Jvm.MethodName) ({ cls := "PartyRaft", name := "rapid", desc := "(I)I" } : Jvm.MethodName)) ∈ lw_all := lw_g (lw_at lw_m4 80 rfl) rfl
theorem q938 : (Jvm.Cond.code ({ cls := "PartyRaft", name := "rapid", desc := "(I)I" } : Jvm.MethodName) prog_1_method_18_code (2 : Nat) (Option.some Jvm.ClassFile.FieldType.int)) ∈ lw_all := lw_g (lw_at lw_m4 81 rfl) rfl
theorem q939 : (Jvm.Cond.methodLink "PartyRaft" (234 : Nat) ({ cls := "PartyRaft", name := "in", desc := "(JJJ)Z" } : Jvm.MethodName)) ∈ lw_all := lw_g (lw_at lw_m4 82 rfl) rfl
theorem q940 : (Jvm.Cond.methodLink "PartyRaft" (238 : Nat) ({ cls := "PartyRaft$Flow", name := "forceAt", desc := "(I)I" } : Jvm.MethodName)) ∈ lw_all := lw_g (lw_at lw_m4 83 rfl) rfl
theorem q942 : (Jvm.Cond.instanceMethod ({ cls := "PartyRaft", name := "margin", desc := "(I)I" } : Jvm.MethodName)) ∈ lw_all := lw_g (lw_at lw_m4 85 rfl) rfl
theorem q943 : (Jvm.Cond.selects "PartyRaft" ({ cls := "PartyRaft", name := "margin", desc := "(I)I" } : Jvm.MethodName) ({ cls := "PartyRaft", name := "margin", desc := "(I)I" } : Jvm.MethodName)) ∈ lw_all := lw_g (lw_at lw_m4 86 rfl) rfl
theorem q944 : (Jvm.Cond.code ({ cls := "PartyRaft", name := "margin", desc := "(I)I" } : Jvm.MethodName) prog_1_method_19_code (2 : Nat) (Option.some Jvm.ClassFile.FieldType.int)) ∈ lw_all := lw_g (lw_at lw_m4 87 rfl) rfl
theorem q945 : (Jvm.Cond.methodLink "PartyRaft" (241 : Nat) ({ cls := "PartyRaft$Flow", name := "marginOf", desc := "(I)I" } : Jvm.MethodName)) ∈ lw_all := lw_g (lw_at lw_m4 88 rfl) rfl
theorem q960 : (Jvm.Cond.instanceMethod ({ cls := "PartyRaft", name := "undo", desc := "()I" } : Jvm.MethodName)) ∈ lw_all := lw_g (lw_at lw_m4 103 rfl) rfl
theorem q961 : (Jvm.Cond.selects "PartyRaft" ({ cls := "PartyRaft", name := "undo", desc := "()I" } : Jvm.MethodName) ({ cls := "PartyRaft", name := "undo", desc := "()I" } : Jvm.MethodName)) ∈ lw_all := lw_g (lw_at lw_m4 104 rfl) rfl
theorem q962 : (Jvm.Cond.code ({ cls := "PartyRaft", name := "undo", desc := "()I" } : Jvm.MethodName) prog_1_method_21_code (1 : Nat) (Option.some Jvm.ClassFile.FieldType.int)) ∈ lw_all := lw_g (lw_at lw_m4 105 rfl) rfl
theorem q963 : (Jvm.Cond.methodLink "PartyRaft" (259 : Nat) ({ cls := "PartyRaft$Flow", name := "takes", desc := "(I)V" } : Jvm.MethodName)) ∈ lw_all := lw_g (lw_at lw_m4 106 rfl) rfl
theorem q968 : (Jvm.Cond.instanceMethod ({ cls := "PartyRaft", name := "mile", desc := "()I" } : Jvm.MethodName)) ∈ lw_all := lw_g (lw_at lw_m4 111 rfl) rfl
theorem q969 : (Jvm.Cond.selects "PartyRaft" ({ cls := "PartyRaft", name := "mile", desc := "()I" } : Jvm.MethodName) ({ cls := "PartyRaft", name := "mile", desc := "()I" } : Jvm.MethodName)) ∈ lw_all := lw_g (lw_at lw_m4 112 rfl) rfl
theorem q970 : (Jvm.Cond.code ({ cls := "PartyRaft", name := "mile", desc := "()I" } : Jvm.MethodName) prog_1_method_22_code (1 : Nat) (Option.some Jvm.ClassFile.FieldType.int)) ∈ lw_all := lw_g (lw_at lw_m4 113 rfl) rfl
theorem q971 : (Jvm.Cond.methodLink "PartyRaft" (265 : Nat) ({ cls := "PartyRaft", name := "keepsAct", desc := "()V" } : Jvm.MethodName)) ∈ lw_all := lw_g (lw_at lw_m4 114 rfl) rfl
theorem q972 : (Jvm.Cond.privateMethod ({ cls := "PartyRaft", name := "keepsAct", desc := "()V" } : Jvm.MethodName)) ∈ lw_tbl := lw_at lw_m4 115 rfl
theorem q973 : (Jvm.Cond.instanceMethod ({ cls := "PartyRaft", name := "keepsAct", desc := "()V" } : Jvm.MethodName)) ∈ lw_all := lw_g (lw_at lw_m4 116 rfl) rfl
theorem q974 : (Jvm.Cond.code ({ cls := "PartyRaft", name := "keepsAct", desc := "()V" } : Jvm.MethodName) prog_1_method_20_code (1 : Nat) (Option.none : Option Jvm.ClassFile.FieldType)) ∈ lw_all := lw_g (lw_at lw_m4 117 rfl) rfl
theorem q975 : (Jvm.Cond.methodLink "PartyRaft" (250 : Nat) ({ cls := "java/lang/System", name := "arraycopy", desc := "(Ljava/lang/Object;ILjava/lang/Object;II)V" } : Jvm.MethodName)) ∈ lw_all := lw_g (lw_at lw_m4 118 rfl) rfl
theorem q976 : (Jvm.Cond.methodLink "PartyRaft" (256 : Nat) ({ cls := "PartyRaft$Flow", name := "lays", desc := "(I)V" } : Jvm.MethodName)) ∈ lw_all := lw_g (lw_at lw_m4 119 rfl) rfl
theorem q980 : (Jvm.Cond.methodLink "PartyRaft" (268 : Nat) ({ cls := "PartyRaft$Flow", name := "goesOn", desc := "()I" } : Jvm.MethodName)) ∈ lw_all := lw_g (lw_at lw_m4 123 rfl) rfl
theorem q1014 : (Jvm.Cond.instanceMethod ({ cls := "PartyRaft", name := "bind", desc := "(III)I" } : Jvm.MethodName)) ∈ lw_all := lw_g (lw_at lw_m4 157 rfl) rfl
theorem q1015 : (Jvm.Cond.selects "PartyRaft" ({ cls := "PartyRaft", name := "bind", desc := "(III)I" } : Jvm.MethodName) ({ cls := "PartyRaft", name := "bind", desc := "(III)I" } : Jvm.MethodName)) ∈ lw_all := lw_g (lw_at lw_m4 158 rfl) rfl
theorem q1016 : (Jvm.Cond.code ({ cls := "PartyRaft", name := "bind", desc := "(III)I" } : Jvm.MethodName) prog_1_method_23_code (4 : Nat) (Option.some Jvm.ClassFile.FieldType.int)) ∈ lw_all := lw_g (lw_at lw_m4 159 rfl) rfl
theorem q1017 : (Jvm.Cond.constantLong "PartyRaft" (271 : Nat) (9 : Int64)) ∈ lw_all := lw_g (lw_at lw_m4 160 rfl) rfl
theorem q1018 : (Jvm.Cond.methodLink "PartyRaft" (273 : Nat) ({ cls := "PartyRaft$Flow", name := "ropeOf", desc := "(II)I" } : Jvm.MethodName)) ∈ lw_all := lw_g (lw_at lw_m4 161 rfl) rfl
theorem q1019 : (Jvm.Cond.methodLink "PartyRaft" (279 : Nat) ({ cls := "PartyRaft$Flow", name := "binds", desc := "(III)V" } : Jvm.MethodName)) ∈ lw_all := lw_g (lw_at lw_m4 162 rfl) rfl
theorem q1021 : (Jvm.Cond.instanceMethod ({ cls := "PartyRaft", name := "cut", desc := "(I)I" } : Jvm.MethodName)) ∈ lw_all := lw_g (lw_at lw_m4 164 rfl) rfl
theorem q1022 : (Jvm.Cond.selects "PartyRaft" ({ cls := "PartyRaft", name := "cut", desc := "(I)I" } : Jvm.MethodName) ({ cls := "PartyRaft", name := "cut", desc := "(I)I" } : Jvm.MethodName)) ∈ lw_all := lw_g (lw_at lw_m4 165 rfl) rfl
theorem q1023 : (Jvm.Cond.code ({ cls := "PartyRaft", name := "cut", desc := "(I)I" } : Jvm.MethodName) prog_1_method_24_code (2 : Nat) (Option.some Jvm.ClassFile.FieldType.int)) ∈ lw_all := lw_g (lw_at lw_m4 166 rfl) rfl
theorem q1024 : (Jvm.Cond.methodLink "PartyRaft" (283 : Nat) ({ cls := "PartyRaft$Flow", name := "loses", desc := "(I)I" } : Jvm.MethodName)) ∈ lw_all := lw_g (lw_at lw_m4 167 rfl) rfl
theorem q1026 : (Jvm.Cond.instanceMethod ({ cls := "PartyRaft", name := "saw", desc := "(I)I" } : Jvm.MethodName)) ∈ lw_all := lw_g (lw_at lw_m4 169 rfl) rfl
theorem q1027 : (Jvm.Cond.selects "PartyRaft" ({ cls := "PartyRaft", name := "saw", desc := "(I)I" } : Jvm.MethodName) ({ cls := "PartyRaft", name := "saw", desc := "(I)I" } : Jvm.MethodName)) ∈ lw_all := lw_g (lw_at lw_m4 170 rfl) rfl
theorem q1028 : (Jvm.Cond.code ({ cls := "PartyRaft", name := "saw", desc := "(I)I" } : Jvm.MethodName) prog_1_method_25_code (3 : Nat) (Option.some Jvm.ClassFile.FieldType.int)) ∈ lw_all := lw_g (lw_at lw_m4 171 rfl) rfl
theorem q1029 : (Jvm.Cond.methodLink "PartyRaft" (286 : Nat) ({ cls := "PartyRaft$Flow", name := "ropesAt", desc := "(I)I" } : Jvm.MethodName)) ∈ lw_all := lw_g (lw_at lw_m4 172 rfl) rfl
theorem q1030 : (Jvm.Cond.methodLink "PartyRaft" (289 : Nat) ({ cls := "java/lang/Integer", name := "bitCount", desc := "(I)I" } : Jvm.MethodName)) ∈ lw_all := lw_g (lw_at lw_m4 173 rfl) rfl
theorem q1032 : (Jvm.Cond.instanceMethod ({ cls := "PartyRaft", name := "push", desc := "(II)I" } : Jvm.MethodName)) ∈ lw_all := lw_g (lw_at lw_m4 175 rfl) rfl
theorem q1033 : (Jvm.Cond.selects "PartyRaft" ({ cls := "PartyRaft", name := "push", desc := "(II)I" } : Jvm.MethodName) ({ cls := "PartyRaft", name := "push", desc := "(II)I" } : Jvm.MethodName)) ∈ lw_all := lw_g (lw_at lw_m4 176 rfl) rfl
theorem q1034 : (Jvm.Cond.code ({ cls := "PartyRaft", name := "push", desc := "(II)I" } : Jvm.MethodName) prog_1_method_26_code (4 : Nat) (Option.some Jvm.ClassFile.FieldType.int)) ∈ lw_all := lw_g (lw_at lw_m4 177 rfl) rfl
theorem q1036 : (Jvm.Cond.instanceMethod ({ cls := "PartyRaft", name := "run", desc := "(III)I" } : Jvm.MethodName)) ∈ lw_all := lw_g (lw_at lw_m4 179 rfl) rfl
theorem q1037 : (Jvm.Cond.selects "PartyRaft" ({ cls := "PartyRaft", name := "run", desc := "(III)I" } : Jvm.MethodName) ({ cls := "PartyRaft", name := "run", desc := "(III)I" } : Jvm.MethodName)) ∈ lw_all := lw_g (lw_at lw_m4 180 rfl) rfl
theorem q1038 : (Jvm.Cond.code ({ cls := "PartyRaft", name := "run", desc := "(III)I" } : Jvm.MethodName) prog_1_method_30_code (6 : Nat) (Option.some Jvm.ClassFile.FieldType.int)) ∈ lw_all := lw_g (lw_at lw_m4 181 rfl) rfl
theorem q1039 : (Jvm.Cond.methodLink "PartyRaft" (317 : Nat) ({ cls := "PartyRaft", name := "isRule", desc := "(I)Z" } : Jvm.MethodName)) ∈ lw_all := lw_g (lw_at lw_m4 182 rfl) rfl
theorem q1040 : (Jvm.Cond.privateMethod ({ cls := "PartyRaft", name := "isRule", desc := "(I)Z" } : Jvm.MethodName)) ∈ lw_tbl := lw_at lw_m4 183 rfl
theorem q1041 : (Jvm.Cond.instanceMethod ({ cls := "PartyRaft", name := "isRule", desc := "(I)Z" } : Jvm.MethodName)) ∈ lw_all := lw_g (lw_at lw_m4 184 rfl) rfl
theorem q1042 : (Jvm.Cond.code ({ cls := "PartyRaft", name := "isRule", desc := "(I)Z" } : Jvm.MethodName) prog_1_method_10_code (2 : Nat) (Option.some Jvm.ClassFile.FieldType.boolean)) ∈ lw_all := lw_g (lw_at lw_m4 185 rfl) rfl
theorem q1043 : (Jvm.Cond.methodLink "PartyRaft" (320 : Nat) ({ cls := "PartyRaft", name := "tiesBy", desc := "(LPartyRaft$Rule;I)V" } : Jvm.MethodName)) ∈ lw_all := lw_g (lw_at lw_m4 186 rfl) rfl
theorem q1044 : (Jvm.Cond.privateMethod ({ cls := "PartyRaft", name := "tiesBy", desc := "(LPartyRaft$Rule;I)V" } : Jvm.MethodName)) ∈ lw_tbl := lw_at lw_m4 187 rfl
theorem q1045 : (Jvm.Cond.instanceMethod ({ cls := "PartyRaft", name := "tiesBy", desc := "(LPartyRaft$Rule;I)V" } : Jvm.MethodName)) ∈ lw_all := lw_g (lw_at lw_m4 188 rfl) rfl
theorem q1046 : (Jvm.Cond.code ({ cls := "PartyRaft", name := "tiesBy", desc := "(LPartyRaft$Rule;I)V" } : Jvm.MethodName) prog_1_method_29_code (10 : Nat) (Option.none : Option Jvm.ClassFile.FieldType)) ∈ lw_all := lw_g (lw_at lw_m4 189 rfl) rfl
theorem q1047 : (Jvm.Cond.methodLink "PartyRaft" (309 : Nat) ({ cls := "PartyRaft", name := "wordsOf", desc := "(II)[J" } : Jvm.MethodName)) ∈ lw_all := lw_g (lw_at lw_m4 190 rfl) rfl
theorem q1048 : (Jvm.Cond.privateMethod ({ cls := "PartyRaft", name := "wordsOf", desc := "(II)[J" } : Jvm.MethodName)) ∈ lw_tbl := lw_at lw_m4 191 rfl
theorem q1049 : (Jvm.Cond.instanceMethod ({ cls := "PartyRaft", name := "wordsOf", desc := "(II)[J" } : Jvm.MethodName)) ∈ lw_all := lw_g (lw_at lw_m4 192 rfl) rfl
theorem q1050 : (Jvm.Cond.code ({ cls := "PartyRaft", name := "wordsOf", desc := "(II)[J" } : Jvm.MethodName) prog_1_method_28_code (3 : Nat) (Option.some (Jvm.ClassFile.FieldType.array Jvm.ClassFile.FieldType.long))) ∈ lw_all := lw_g (lw_at lw_m4 193 rfl) rfl
theorem q1051 : (Jvm.Cond.methodLink "PartyRaft" (294 : Nat) ({ cls := "PartyRaft", name := "has", desc := "(II)Z" } : Jvm.MethodName)) ∈ lw_all := lw_g (lw_at lw_m4 194 rfl) rfl
theorem q1052 : (Jvm.Cond.methodLink "PartyRaft" (298 : Nat) ({ cls := "PartyRaft", name := "ropesAtBoth", desc := "(II)I" } : Jvm.MethodName)) ∈ lw_all := lw_g (lw_at lw_m4 195 rfl) rfl
theorem q1053 : (Jvm.Cond.privateMethod ({ cls := "PartyRaft", name := "ropesAtBoth", desc := "(II)I" } : Jvm.MethodName)) ∈ lw_tbl := lw_at lw_m4 196 rfl
theorem q1054 : (Jvm.Cond.instanceMethod ({ cls := "PartyRaft", name := "ropesAtBoth", desc := "(II)I" } : Jvm.MethodName)) ∈ lw_all := lw_g (lw_at lw_m4 197 rfl) rfl
theorem q1055 : (Jvm.Cond.code ({ cls := "PartyRaft", name := "ropesAtBoth", desc := "(II)I" } : Jvm.MethodName) prog_1_method_27_code (3 : Nat) (Option.some Jvm.ClassFile.FieldType.int)) ∈ lw_all := lw_g (lw_at lw_m4 198 rfl) rfl
theorem q1056 : (Jvm.Cond.methodLink "PartyRaft" (301 : Nat) ({ cls := "java/lang/Math", name := "min", desc := "(II)I" } : Jvm.MethodName)) ∈ lw_all := lw_g (lw_at lw_m4 199 rfl) rfl
theorem q1057 : (Jvm.Cond.methodLink "PartyRaft" (306 : Nat) ({ cls := "PartyRaft$Flow", name := "afloat", desc := "()I" } : Jvm.MethodName)) ∈ lw_all := lw_g (lw_at lw_m4 200 rfl) rfl
theorem q1061 : (Jvm.Cond.methodLink "PartyRaft" (313 : Nat) ({ cls := "PartyRaft$Rule", name := "sumFor", desc := "([J)J" } : Jvm.MethodName)) ∈ lw_all := lw_g (lw_at lw_m4 204 rfl) rfl
theorem q1098 : (Jvm.Cond.instanceMethod ({ cls := "PartyRaft", name := "ahead", desc := "(II)I" } : Jvm.MethodName)) ∈ lw_all := lw_g (lw_at lw_m5 1 rfl) rfl
theorem q1099 : (Jvm.Cond.selects "PartyRaft" ({ cls := "PartyRaft", name := "ahead", desc := "(II)I" } : Jvm.MethodName) ({ cls := "PartyRaft", name := "ahead", desc := "(II)I" } : Jvm.MethodName)) ∈ lw_all := lw_g (lw_at lw_m5 2 rfl) rfl
theorem q1100 : (Jvm.Cond.code ({ cls := "PartyRaft", name := "ahead", desc := "(II)I" } : Jvm.MethodName) prog_1_method_32_code (6 : Nat) (Option.some Jvm.ClassFile.FieldType.int)) ∈ lw_all := lw_g (lw_at lw_m5 3 rfl) rfl
theorem q1101 : (Jvm.Cond.constantLong "PartyRaft" (324 : Nat) (3 : Int64)) ∈ lw_all := lw_g (lw_at lw_m5 4 rfl) rfl
theorem q1102 : (Jvm.Cond.methodLink "PartyRaft" (326 : Nat) ({ cls := "PartyRaft", name := "thingsIn", desc := "(LPartyRaft$Flow;I)I" } : Jvm.MethodName)) ∈ lw_all := lw_g (lw_at lw_m5 5 rfl) rfl
theorem q1103 : (Jvm.Cond.static ({ cls := "PartyRaft", name := "thingsIn", desc := "(LPartyRaft$Flow;I)I" } : Jvm.MethodName)) ∈ lw_all := lw_g (lw_at lw_m5 6 rfl) rfl
theorem q1104 : (Jvm.Cond.code ({ cls := "PartyRaft", name := "thingsIn", desc := "(LPartyRaft$Flow;I)I" } : Jvm.MethodName) prog_1_method_31_code (4 : Nat) (Option.some Jvm.ClassFile.FieldType.int)) ∈ lw_all := lw_g (lw_at lw_m5 7 rfl) rfl
theorem q1106 : (Jvm.Cond.instanceMethod ({ cls := "PartyRaft", name := "sinks", desc := "(I)I" } : Jvm.MethodName)) ∈ lw_all := lw_g (lw_at lw_m5 9 rfl) rfl
theorem q1107 : (Jvm.Cond.selects "PartyRaft" ({ cls := "PartyRaft", name := "sinks", desc := "(I)I" } : Jvm.MethodName) ({ cls := "PartyRaft", name := "sinks", desc := "(I)I" } : Jvm.MethodName)) ∈ lw_all := lw_g (lw_at lw_m5 10 rfl) rfl
theorem q1108 : (Jvm.Cond.code ({ cls := "PartyRaft", name := "sinks", desc := "(I)I" } : Jvm.MethodName) prog_1_method_33_code (3 : Nat) (Option.some Jvm.ClassFile.FieldType.int)) ∈ lw_all := lw_g (lw_at lw_m5 11 rfl) rfl
theorem q1110 : (Jvm.Cond.instanceMethod ({ cls := "PartyRaft", name := "bearers", desc := "(II)I" } : Jvm.MethodName)) ∈ lw_all := lw_g (lw_at lw_m5 13 rfl) rfl
theorem q1111 : (Jvm.Cond.selects "PartyRaft" ({ cls := "PartyRaft", name := "bearers", desc := "(II)I" } : Jvm.MethodName) ({ cls := "PartyRaft", name := "bearers", desc := "(II)I" } : Jvm.MethodName)) ∈ lw_all := lw_g (lw_at lw_m5 14 rfl) rfl
theorem q1112 : (Jvm.Cond.code ({ cls := "PartyRaft", name := "bearers", desc := "(II)I" } : Jvm.MethodName) prog_1_method_35_code (6 : Nat) (Option.some Jvm.ClassFile.FieldType.int)) ∈ lw_all := lw_g (lw_at lw_m5 15 rfl) rfl
theorem q1113 : (Jvm.Cond.methodLink "PartyRaft" (333 : Nat) ({ cls := "PartyRaft", name := "areAfloat", desc := "(I)Z" } : Jvm.MethodName)) ∈ lw_all := lw_g (lw_at lw_m5 16 rfl) rfl
theorem q1114 : (Jvm.Cond.privateMethod ({ cls := "PartyRaft", name := "areAfloat", desc := "(I)Z" } : Jvm.MethodName)) ∈ lw_tbl := lw_at lw_m5 17 rfl
theorem q1115 : (Jvm.Cond.instanceMethod ({ cls := "PartyRaft", name := "areAfloat", desc := "(I)Z" } : Jvm.MethodName)) ∈ lw_all := lw_g (lw_at lw_m5 18 rfl) rfl
theorem q1116 : (Jvm.Cond.code ({ cls := "PartyRaft", name := "areAfloat", desc := "(I)Z" } : Jvm.MethodName) prog_1_method_34_code (2 : Nat) (Option.some Jvm.ClassFile.FieldType.boolean)) ∈ lw_all := lw_g (lw_at lw_m5 19 rfl) rfl
theorem q1117 : (Jvm.Cond.methodLink "PartyRaft" (336 : Nat) ({ cls := "PartyRaft$Flow", name := "bearsOf", desc := "(I)I" } : Jvm.MethodName)) ∈ lw_all := lw_g (lw_at lw_m5 20 rfl) rfl
theorem q1119 : (Jvm.Cond.instanceMethod ({ cls := "PartyRaft", name := "plan", desc := "(I)I" } : Jvm.MethodName)) ∈ lw_all := lw_g (lw_at lw_m5 22 rfl) rfl
theorem q1120 : (Jvm.Cond.selects "PartyRaft" ({ cls := "PartyRaft", name := "plan", desc := "(I)I" } : Jvm.MethodName) ({ cls := "PartyRaft", name := "plan", desc := "(I)I" } : Jvm.MethodName)) ∈ lw_all := lw_g (lw_at lw_m5 23 rfl) rfl
theorem q1121 : (Jvm.Cond.code ({ cls := "PartyRaft", name := "plan", desc := "(I)I" } : Jvm.MethodName) prog_1_method_40_code (3 : Nat) (Option.some Jvm.ClassFile.FieldType.int)) ∈ lw_all := lw_g (lw_at lw_m5 24 rfl) rfl
theorem q1122 : (Jvm.Cond.constantLong "PartyRaft" (361 : Nat) (-1 : Int64)) ∈ lw_all := lw_g (lw_at lw_m5 25 rfl) rfl
theorem q1123 : (Jvm.Cond.constantLong "PartyRaft" (363 : Nat) (6 : Int64)) ∈ lw_all := lw_g (lw_at lw_m5 26 rfl) rfl
theorem q1124 : (Jvm.Cond.methodLink "PartyRaft" (365 : Nat) ({ cls := "PartyRaft", name := "gathersTogether", desc := "(I)Z" } : Jvm.MethodName)) ∈ lw_all := lw_g (lw_at lw_m5 27 rfl) rfl
theorem q1125 : (Jvm.Cond.privateMethod ({ cls := "PartyRaft", name := "gathersTogether", desc := "(I)Z" } : Jvm.MethodName)) ∈ lw_tbl := lw_at lw_m5 28 rfl
theorem q1126 : (Jvm.Cond.instanceMethod ({ cls := "PartyRaft", name := "gathersTogether", desc := "(I)Z" } : Jvm.MethodName)) ∈ lw_all := lw_g (lw_at lw_m5 29 rfl) rfl
theorem q1127 : (Jvm.Cond.code ({ cls := "PartyRaft", name := "gathersTogether", desc := "(I)Z" } : Jvm.MethodName) prog_1_method_37_code (9 : Nat) (Option.some Jvm.ClassFile.FieldType.boolean)) ∈ lw_all := lw_g (lw_at lw_m5 30 rfl) rfl
theorem q1128 : (Jvm.Cond.methodLink "PartyRaft" (345 : Nat) ({ cls := "PartyRaft", name := "bearsThen", desc := "(II)I" } : Jvm.MethodName)) ∈ lw_all := lw_g (lw_at lw_m5 31 rfl) rfl
theorem q1129 : (Jvm.Cond.privateMethod ({ cls := "PartyRaft", name := "bearsThen", desc := "(II)I" } : Jvm.MethodName)) ∈ lw_tbl := lw_at lw_m5 32 rfl
theorem q1130 : (Jvm.Cond.instanceMethod ({ cls := "PartyRaft", name := "bearsThen", desc := "(II)I" } : Jvm.MethodName)) ∈ lw_all := lw_g (lw_at lw_m5 33 rfl) rfl
theorem q1131 : (Jvm.Cond.code ({ cls := "PartyRaft", name := "bearsThen", desc := "(II)I" } : Jvm.MethodName) prog_1_method_36_code (5 : Nat) (Option.some Jvm.ClassFile.FieldType.int)) ∈ lw_all := lw_g (lw_at lw_m5 34 rfl) rfl
theorem q1132 : (Jvm.Cond.methodLink "PartyRaft" (339 : Nat) ({ cls := "java/lang/Math", name := "max", desc := "(II)I" } : Jvm.MethodName)) ∈ lw_all := lw_g (lw_at lw_m5 35 rfl) rfl
theorem q1133 : (Jvm.Cond.methodLink "PartyRaft" (357 : Nat) ({ cls := "PartyRaft", name := "triesRows", desc := "(II)V" } : Jvm.MethodName)) ∈ lw_all := lw_g (lw_at lw_m5 36 rfl) rfl
theorem q1134 : (Jvm.Cond.privateMethod ({ cls := "PartyRaft", name := "triesRows", desc := "(II)V" } : Jvm.MethodName)) ∈ lw_tbl := lw_at lw_m5 37 rfl
theorem q1135 : (Jvm.Cond.instanceMethod ({ cls := "PartyRaft", name := "triesRows", desc := "(II)V" } : Jvm.MethodName)) ∈ lw_all := lw_g (lw_at lw_m5 38 rfl) rfl
theorem q1136 : (Jvm.Cond.code ({ cls := "PartyRaft", name := "triesRows", desc := "(II)V" } : Jvm.MethodName) prog_1_method_39_code (4 : Nat) (Option.none : Option Jvm.ClassFile.FieldType)) ∈ lw_all := lw_g (lw_at lw_m5 39 rfl) rfl
theorem q1137 : (Jvm.Cond.methodLink "PartyRaft" (351 : Nat) ({ cls := "PartyRaft", name := "standTogether", desc := "(I)Z" } : Jvm.MethodName)) ∈ lw_all := lw_g (lw_at lw_m5 40 rfl) rfl
theorem q1138 : (Jvm.Cond.privateMethod ({ cls := "PartyRaft", name := "standTogether", desc := "(I)Z" } : Jvm.MethodName)) ∈ lw_tbl := lw_at lw_m5 41 rfl
theorem q1139 : (Jvm.Cond.instanceMethod ({ cls := "PartyRaft", name := "standTogether", desc := "(I)Z" } : Jvm.MethodName)) ∈ lw_all := lw_g (lw_at lw_m5 42 rfl) rfl
theorem q1140 : (Jvm.Cond.code ({ cls := "PartyRaft", name := "standTogether", desc := "(I)Z" } : Jvm.MethodName) prog_1_method_38_code (5 : Nat) (Option.some Jvm.ClassFile.FieldType.boolean)) ∈ lw_all := lw_g (lw_at lw_m5 43 rfl) rfl
theorem q1142 : (Jvm.Cond.instanceMethod ({ cls := "PartyRaft", name := "sawn", desc := "(II)I" } : Jvm.MethodName)) ∈ lw_all := lw_g (lw_at lw_m5 45 rfl) rfl
theorem q1143 : (Jvm.Cond.selects "PartyRaft" ({ cls := "PartyRaft", name := "sawn", desc := "(II)I" } : Jvm.MethodName) ({ cls := "PartyRaft", name := "sawn", desc := "(II)I" } : Jvm.MethodName)) ∈ lw_all := lw_g (lw_at lw_m5 46 rfl) rfl
theorem q1144 : (Jvm.Cond.code ({ cls := "PartyRaft", name := "sawn", desc := "(II)I" } : Jvm.MethodName) prog_1_method_41_code (6 : Nat) (Option.some Jvm.ClassFile.FieldType.int)) ∈ lw_all := lw_g (lw_at lw_m5 47 rfl) rfl
theorem q1145 : (Jvm.Cond.constantLong "PartyRaft" (368 : Nat) (2 : Int64)) ∈ lw_all := lw_g (lw_at lw_m5 48 rfl) rfl
theorem q1146 : (Jvm.Cond.methodLink "PartyRaft" (370 : Nat) ({ cls := "PartyRaft$Flow", name := "sinkingBy", desc := "(I)I" } : Jvm.MethodName)) ∈ lw_all := lw_g (lw_at lw_m5 49 rfl) rfl
theorem q1148 : (Jvm.Cond.instanceMethod ({ cls := "PartyRaft", name := "locks", desc := "(II)I" } : Jvm.MethodName)) ∈ lw_all := lw_g (lw_at lw_m5 51 rfl) rfl
theorem q1149 : (Jvm.Cond.selects "PartyRaft" ({ cls := "PartyRaft", name := "locks", desc := "(II)I" } : Jvm.MethodName) ({ cls := "PartyRaft", name := "locks", desc := "(II)I" } : Jvm.MethodName)) ∈ lw_all := lw_g (lw_at lw_m5 52 rfl) rfl
theorem q1150 : (Jvm.Cond.code ({ cls := "PartyRaft", name := "locks", desc := "(II)I" } : Jvm.MethodName) prog_1_method_43_code (3 : Nat) (Option.some Jvm.ClassFile.FieldType.int)) ∈ lw_all := lw_g (lw_at lw_m5 53 rfl) rfl
theorem q1151 : (Jvm.Cond.constantLong "PartyRaft" (379 : Nat) (200 : Int64)) ∈ lw_all := lw_g (lw_at lw_m5 54 rfl) rfl
theorem q1152 : (Jvm.Cond.constantLong "PartyRaft" (381 : Nat) (8 : Int64)) ∈ lw_all := lw_g (lw_at lw_m5 55 rfl) rfl
theorem q1153 : (Jvm.Cond.methodLink "PartyRaft" (376 : Nat) ({ cls := "PartyRaft", name := "triesLocks", desc := "(III)V" } : Jvm.MethodName)) ∈ lw_all := lw_g (lw_at lw_m5 56 rfl) rfl
theorem q1154 : (Jvm.Cond.privateMethod ({ cls := "PartyRaft", name := "triesLocks", desc := "(III)V" } : Jvm.MethodName)) ∈ lw_tbl := lw_at lw_m5 57 rfl
theorem q1155 : (Jvm.Cond.instanceMethod ({ cls := "PartyRaft", name := "triesLocks", desc := "(III)V" } : Jvm.MethodName)) ∈ lw_all := lw_g (lw_at lw_m5 58 rfl) rfl
theorem q1156 : (Jvm.Cond.code ({ cls := "PartyRaft", name := "triesLocks", desc := "(III)V" } : Jvm.MethodName) prog_1_method_42_code (5 : Nat) (Option.none : Option Jvm.ClassFile.FieldType)) ∈ lw_all := lw_g (lw_at lw_m5 59 rfl) rfl
theorem q1158 : (Jvm.Cond.instanceMethod ({ cls := "PartyRaft", name := "delta", desc := "(I)I" } : Jvm.MethodName)) ∈ lw_all := lw_g (lw_at lw_m5 61 rfl) rfl
theorem q1159 : (Jvm.Cond.selects "PartyRaft" ({ cls := "PartyRaft", name := "delta", desc := "(I)I" } : Jvm.MethodName) ({ cls := "PartyRaft", name := "delta", desc := "(I)I" } : Jvm.MethodName)) ∈ lw_all := lw_g (lw_at lw_m5 62 rfl) rfl
theorem q1160 : (Jvm.Cond.code ({ cls := "PartyRaft", name := "delta", desc := "(I)I" } : Jvm.MethodName) prog_1_method_46_code (7 : Nat) (Option.some Jvm.ClassFile.FieldType.int)) ∈ lw_all := lw_g (lw_at lw_m5 63 rfl) rfl
theorem q1161 : (Jvm.Cond.methodLink "PartyRaft" (386 : Nat) ({ cls := "java/lang/Integer", name := "numberOfTrailingZeros", desc := "(I)I" } : Jvm.MethodName)) ∈ lw_all := lw_g (lw_at lw_m5 64 rfl) rfl
theorem q1165 : (Jvm.Cond.methodLink "PartyRaft" (389 : Nat) ({ cls := "PartyRaft", name := "lengthOf", desc := "(II)I" } : Jvm.MethodName)) ∈ lw_all := lw_g (lw_at lw_m5 68 rfl) rfl
theorem q1166 : (Jvm.Cond.privateMethod ({ cls := "PartyRaft", name := "lengthOf", desc := "(II)I" } : Jvm.MethodName)) ∈ lw_tbl := lw_at lw_m5 69 rfl
theorem q1167 : (Jvm.Cond.instanceMethod ({ cls := "PartyRaft", name := "lengthOf", desc := "(II)I" } : Jvm.MethodName)) ∈ lw_all := lw_g (lw_at lw_m5 70 rfl) rfl
theorem q1168 : (Jvm.Cond.code ({ cls := "PartyRaft", name := "lengthOf", desc := "(II)I" } : Jvm.MethodName) prog_1_method_44_code (3 : Nat) (Option.some Jvm.ClassFile.FieldType.int)) ∈ lw_all := lw_g (lw_at lw_m5 71 rfl) rfl
theorem q1169 : (Jvm.Cond.methodLink "PartyRaft" (383 : Nat) ({ cls := "java/lang/Math", name := "abs", desc := "(I)I" } : Jvm.MethodName)) ∈ lw_all := lw_g (lw_at lw_m5 72 rfl) rfl
theorem q1172 : (Jvm.Cond.methodLink "PartyRaft" (392 : Nat) ({ cls := "PartyRaft", name := "joins", desc := "(II)V" } : Jvm.MethodName)) ∈ lw_all := lw_g (lw_at lw_m5 75 rfl) rfl
theorem q1173 : (Jvm.Cond.privateMethod ({ cls := "PartyRaft", name := "joins", desc := "(II)V" } : Jvm.MethodName)) ∈ lw_tbl := lw_at lw_m5 76 rfl
theorem q1174 : (Jvm.Cond.instanceMethod ({ cls := "PartyRaft", name := "joins", desc := "(II)V" } : Jvm.MethodName)) ∈ lw_all := lw_g (lw_at lw_m5 77 rfl) rfl
theorem q1175 : (Jvm.Cond.code ({ cls := "PartyRaft", name := "joins", desc := "(II)V" } : Jvm.MethodName) prog_1_method_45_code (4 : Nat) (Option.none : Option Jvm.ClassFile.FieldType)) ∈ lw_all := lw_g (lw_at lw_m5 78 rfl) rfl
theorem q1177 : (Jvm.Cond.instanceMethod ({ cls := "PartyRaft", name := "weak", desc := "(I)I" } : Jvm.MethodName)) ∈ lw_all := lw_g (lw_at lw_m5 80 rfl) rfl
theorem q1178 : (Jvm.Cond.selects "PartyRaft" ({ cls := "PartyRaft", name := "weak", desc := "(I)I" } : Jvm.MethodName) ({ cls := "PartyRaft", name := "weak", desc := "(I)I" } : Jvm.MethodName)) ∈ lw_all := lw_g (lw_at lw_m5 81 rfl) rfl
theorem q1179 : (Jvm.Cond.code ({ cls := "PartyRaft", name := "weak", desc := "(I)I" } : Jvm.MethodName) prog_1_method_48_code (4 : Nat) (Option.some Jvm.ClassFile.FieldType.int)) ∈ lw_all := lw_g (lw_at lw_m5 82 rfl) rfl
theorem q1180 : (Jvm.Cond.methodLink "PartyRaft" (398 : Nat) ({ cls := "PartyRaft", name := "isWeakThing", desc := "(I)Z" } : Jvm.MethodName)) ∈ lw_all := lw_g (lw_at lw_m5 83 rfl) rfl
theorem q1181 : (Jvm.Cond.privateMethod ({ cls := "PartyRaft", name := "isWeakThing", desc := "(I)Z" } : Jvm.MethodName)) ∈ lw_tbl := lw_at lw_m5 84 rfl
theorem q1182 : (Jvm.Cond.instanceMethod ({ cls := "PartyRaft", name := "isWeakThing", desc := "(I)Z" } : Jvm.MethodName)) ∈ lw_all := lw_g (lw_at lw_m5 85 rfl) rfl
theorem q1183 : (Jvm.Cond.code ({ cls := "PartyRaft", name := "isWeakThing", desc := "(I)Z" } : Jvm.MethodName) prog_1_method_47_code (4 : Nat) (Option.some Jvm.ClassFile.FieldType.boolean)) ∈ lw_all := lw_g (lw_at lw_m5 86 rfl) rfl
theorem q1184 : (Jvm.Cond.methodLink "PartyRaft" (395 : Nat) ({ cls := "PartyRaft$Flow", name := "pieceBy", desc := "(II)I" } : Jvm.MethodName)) ∈ lw_all := lw_g (lw_at lw_m5 87 rfl) rfl
theorem q1186 : (Jvm.Cond.instanceMethod ({ cls := "PartyRaft", name := "offer", desc := "(III)I" } : Jvm.MethodName)) ∈ lw_all := lw_g (lw_at lw_m5 89 rfl) rfl
theorem q1187 : (Jvm.Cond.selects "PartyRaft" ({ cls := "PartyRaft", name := "offer", desc := "(III)I" } : Jvm.MethodName) ({ cls := "PartyRaft", name := "offer", desc := "(III)I" } : Jvm.MethodName)) ∈ lw_all := lw_g (lw_at lw_m5 90 rfl) rfl
theorem q1188 : (Jvm.Cond.code ({ cls := "PartyRaft", name := "offer", desc := "(III)I" } : Jvm.MethodName) prog_1_method_49_code (5 : Nat) (Option.some Jvm.ClassFile.FieldType.int)) ∈ lw_all := lw_g (lw_at lw_m5 91 rfl) rfl
theorem q1189 : (Jvm.Cond.constantLong "PartyRaft" (404 : Nat) (50 : Int64)) ∈ lw_all := lw_g (lw_at lw_m5 92 rfl) rfl
theorem q1190 : (Jvm.Cond.constantLong "PartyRaft" (406 : Nat) (99 : Int64)) ∈ lw_all := lw_g (lw_at lw_m5 93 rfl) rfl
theorem q1192 : (Jvm.Cond.instanceMethod ({ cls := "PartyRaft", name := "take", desc := "(II)I" } : Jvm.MethodName)) ∈ lw_all := lw_g (lw_at lw_m5 95 rfl) rfl
theorem q1193 : (Jvm.Cond.selects "PartyRaft" ({ cls := "PartyRaft", name := "take", desc := "(II)I" } : Jvm.MethodName) ({ cls := "PartyRaft", name := "take", desc := "(II)I" } : Jvm.MethodName)) ∈ lw_all := lw_g (lw_at lw_m5 96 rfl) rfl
theorem q1194 : (Jvm.Cond.code ({ cls := "PartyRaft", name := "take", desc := "(II)I" } : Jvm.MethodName) prog_1_method_51_code (9 : Nat) (Option.some Jvm.ClassFile.FieldType.int)) ∈ lw_all := lw_g (lw_at lw_m5 97 rfl) rfl
theorem q1195 : (Jvm.Cond.methodLink "PartyRaft" (414 : Nat) ({ cls := "PartyRaft$Flow", name := "ridersOf", desc := "(I)I" } : Jvm.MethodName)) ∈ lw_all := lw_g (lw_at lw_m5 98 rfl) rfl
theorem q1196 : (Jvm.Cond.methodLink "PartyRaft" (417 : Nat) ({ cls := "PartyRaft", name := "staysWith", desc := "(III)I" } : Jvm.MethodName)) ∈ lw_all := lw_g (lw_at lw_m5 99 rfl) rfl
theorem q1197 : (Jvm.Cond.privateMethod ({ cls := "PartyRaft", name := "staysWith", desc := "(III)I" } : Jvm.MethodName)) ∈ lw_tbl := lw_at lw_m5 100 rfl
theorem q1198 : (Jvm.Cond.instanceMethod ({ cls := "PartyRaft", name := "staysWith", desc := "(III)I" } : Jvm.MethodName)) ∈ lw_all := lw_g (lw_at lw_m5 101 rfl) rfl
theorem q1199 : (Jvm.Cond.code ({ cls := "PartyRaft", name := "staysWith", desc := "(III)I" } : Jvm.MethodName) prog_1_method_50_code (6 : Nat) (Option.some Jvm.ClassFile.FieldType.int)) ∈ lw_all := lw_g (lw_at lw_m5 102 rfl) rfl
theorem q1201 : (Jvm.Cond.instanceMethod ({ cls := "PartyRaft", name := "game", desc := "(II)I" } : Jvm.MethodName)) ∈ lw_all := lw_g (lw_at lw_m5 104 rfl) rfl
theorem q1202 : (Jvm.Cond.selects "PartyRaft" ({ cls := "PartyRaft", name := "game", desc := "(II)I" } : Jvm.MethodName) ({ cls := "PartyRaft", name := "game", desc := "(II)I" } : Jvm.MethodName)) ∈ lw_all := lw_g (lw_at lw_m5 105 rfl) rfl
theorem q1203 : (Jvm.Cond.code ({ cls := "PartyRaft", name := "game", desc := "(II)I" } : Jvm.MethodName) prog_1_method_53_code (6 : Nat) (Option.some Jvm.ClassFile.FieldType.int)) ∈ lw_all := lw_g (lw_at lw_m5 106 rfl) rfl
theorem q1204 : (Jvm.Cond.methodLink "PartyRaft" (421 : Nat) ({ cls := "PartyRaft", name := "isWon", desc := "(II)Z" } : Jvm.MethodName)) ∈ lw_all := lw_g (lw_at lw_m5 107 rfl) rfl
theorem q1205 : (Jvm.Cond.privateMethod ({ cls := "PartyRaft", name := "isWon", desc := "(II)Z" } : Jvm.MethodName)) ∈ lw_tbl := lw_at lw_m5 108 rfl
theorem q1206 : (Jvm.Cond.instanceMethod ({ cls := "PartyRaft", name := "isWon", desc := "(II)Z" } : Jvm.MethodName)) ∈ lw_all := lw_g (lw_at lw_m5 109 rfl) rfl
theorem q1207 : (Jvm.Cond.code ({ cls := "PartyRaft", name := "isWon", desc := "(II)Z" } : Jvm.MethodName) prog_1_method_52_code (3 : Nat) (Option.some Jvm.ClassFile.FieldType.boolean)) ∈ lw_all := lw_g (lw_at lw_m5 110 rfl) rfl
theorem q1209 : (Jvm.Cond.instanceMethod ({ cls := "PartyRaft", name := "seed", desc := "(I)I" } : Jvm.MethodName)) ∈ lw_all := lw_g (lw_at lw_m5 112 rfl) rfl
theorem q1210 : (Jvm.Cond.selects "PartyRaft" ({ cls := "PartyRaft", name := "seed", desc := "(I)I" } : Jvm.MethodName) ({ cls := "PartyRaft", name := "seed", desc := "(I)I" } : Jvm.MethodName)) ∈ lw_all := lw_g (lw_at lw_m5 113 rfl) rfl
theorem q1211 : (Jvm.Cond.code ({ cls := "PartyRaft", name := "seed", desc := "(I)I" } : Jvm.MethodName) prog_1_method_54_code (3 : Nat) (Option.some Jvm.ClassFile.FieldType.int)) ∈ lw_all := lw_g (lw_at lw_m5 114 rfl) rfl
theorem q1213 : (Jvm.Cond.instanceMethod ({ cls := "PartyRaft", name := "drawn", desc := "(III)I" } : Jvm.MethodName)) ∈ lw_all := lw_g (lw_at lw_m5 116 rfl) rfl
theorem q1214 : (Jvm.Cond.selects "PartyRaft" ({ cls := "PartyRaft", name := "drawn", desc := "(III)I" } : Jvm.MethodName) ({ cls := "PartyRaft", name := "drawn", desc := "(III)I" } : Jvm.MethodName)) ∈ lw_all := lw_g (lw_at lw_m5 117 rfl) rfl
theorem q1215 : (Jvm.Cond.code ({ cls := "PartyRaft", name := "drawn", desc := "(III)I" } : Jvm.MethodName) prog_1_method_56_code (10 : Nat) (Option.some Jvm.ClassFile.FieldType.int)) ∈ lw_all := lw_g (lw_at lw_m5 118 rfl) rfl
theorem q1216 : (Jvm.Cond.constantLong "PartyRaft" (437 : Nat) (20 : Int64)) ∈ lw_all := lw_g (lw_at lw_m5 119 rfl) rfl
theorem q1217 : (Jvm.Cond.methodLink "PartyRaft" (439 : Nat) ({ cls := "PartyRaft$Flow", name := "standsAs", desc := "(LPartyRaft$Flow;)LPartyRaft$Flow;" } : Jvm.MethodName)) ∈ lw_all := lw_g (lw_at lw_m5 120 rfl) rfl
theorem q1218 : (Jvm.Cond.methodLink "PartyRaft" (442 : Nat) ({ cls := "PartyRaft", name := "draw", desc := "(I)I" } : Jvm.MethodName)) ∈ lw_all := lw_g (lw_at lw_m5 121 rfl) rfl
theorem q1219 : (Jvm.Cond.privateMethod ({ cls := "PartyRaft", name := "draw", desc := "(I)I" } : Jvm.MethodName)) ∈ lw_tbl := lw_at lw_m5 122 rfl
theorem q1220 : (Jvm.Cond.instanceMethod ({ cls := "PartyRaft", name := "draw", desc := "(I)I" } : Jvm.MethodName)) ∈ lw_all := lw_g (lw_at lw_m5 123 rfl) rfl
theorem q1221 : (Jvm.Cond.code ({ cls := "PartyRaft", name := "draw", desc := "(I)I" } : Jvm.MethodName) prog_1_method_55_code (2 : Nat) (Option.some Jvm.ClassFile.FieldType.int)) ∈ lw_all := lw_g (lw_at lw_m5 124 rfl) rfl
theorem q1222 : (Jvm.Cond.constantLong "PartyRaft" (430 : Nat) (1103515245 : Int64)) ∈ lw_all := lw_g (lw_at lw_m5 125 rfl) rfl
theorem q1223 : (Jvm.Cond.constantLong "PartyRaft" (432 : Nat) (12345 : Int64)) ∈ lw_all := lw_g (lw_at lw_m5 126 rfl) rfl
theorem q1224 : (Jvm.Cond.constantLong "PartyRaft" (434 : Nat) (2147483648 : Int64)) ∈ lw_all := lw_g (lw_at lw_m5 127 rfl) rfl
theorem q1225 : (Jvm.Cond.constant "PartyRaft" (436 : Nat) (65536 : Int32)) ∈ lw_all := lw_g (lw_at lw_m5 128 rfl) rfl
theorem q1226 : (Jvm.Cond.methodLink "PartyRaft" (445 : Nat) ({ cls := "PartyRaft$Flow", name := "goes", desc := "(I)I" } : Jvm.MethodName)) ∈ lw_all := lw_g (lw_at lw_m5 129 rfl) rfl
theorem q1228 : (Jvm.Cond.instanceMethod ({ cls := "PartyRaft", name := "count", desc := "(I)I" } : Jvm.MethodName)) ∈ lw_all := lw_g (lw_at lw_m5 131 rfl) rfl
theorem q1229 : (Jvm.Cond.selects "PartyRaft" ({ cls := "PartyRaft", name := "count", desc := "(I)I" } : Jvm.MethodName) ({ cls := "PartyRaft", name := "count", desc := "(I)I" } : Jvm.MethodName)) ∈ lw_all := lw_g (lw_at lw_m5 132 rfl) rfl
theorem q1230 : (Jvm.Cond.code ({ cls := "PartyRaft", name := "count", desc := "(I)I" } : Jvm.MethodName) prog_1_method_58_code (2 : Nat) (Option.some Jvm.ClassFile.FieldType.int)) ∈ lw_all := lw_g (lw_at lw_m5 133 rfl) rfl
theorem q1231 : (Jvm.Cond.constantLong "PartyRaft" (454 : Nat) (13 : Int64)) ∈ lw_all := lw_g (lw_at lw_m5 134 rfl) rfl
theorem q1232 : (Jvm.Cond.methodLink "PartyRaft" (459 : Nat) ({ cls := "PartyRaft", name := "pieces", desc := "()I" } : Jvm.MethodName)) ∈ lw_all := lw_g (lw_at lw_m5 135 rfl) rfl
theorem q1233 : (Jvm.Cond.privateMethod ({ cls := "PartyRaft", name := "pieces", desc := "()I" } : Jvm.MethodName)) ∈ lw_tbl := lw_at lw_m5 136 rfl
theorem q1234 : (Jvm.Cond.instanceMethod ({ cls := "PartyRaft", name := "pieces", desc := "()I" } : Jvm.MethodName)) ∈ lw_all := lw_g (lw_at lw_m5 137 rfl) rfl
theorem q1235 : (Jvm.Cond.code ({ cls := "PartyRaft", name := "pieces", desc := "()I" } : Jvm.MethodName) prog_1_method_57_code (3 : Nat) (Option.some Jvm.ClassFile.FieldType.int)) ∈ lw_all := lw_g (lw_at lw_m5 138 rfl) rfl
theorem q1237 : (Jvm.Cond.instanceMethod ({ cls := "PartyRaft", name := "image", desc := "(I)I" } : Jvm.MethodName)) ∈ lw_all := lw_g (lw_at lw_m5 140 rfl) rfl
theorem q1238 : (Jvm.Cond.selects "PartyRaft" ({ cls := "PartyRaft", name := "image", desc := "(I)I" } : Jvm.MethodName) ({ cls := "PartyRaft", name := "image", desc := "(I)I" } : Jvm.MethodName)) ∈ lw_all := lw_g (lw_at lw_m5 141 rfl) rfl
theorem q1239 : (Jvm.Cond.code ({ cls := "PartyRaft", name := "image", desc := "(I)I" } : Jvm.MethodName) prog_1_method_59_code (3 : Nat) (Option.some Jvm.ClassFile.FieldType.int)) ∈ lw_all := lw_g (lw_at lw_m5 142 rfl) rfl
theorem q1241 : (Jvm.Cond.methodLinkNest "PartyRaft" (462 : Nat) ({ cls := "PartyRaft$Image", name := "<init>", desc := "()V" } : Jvm.MethodName) "PartyRaft") ∈ lw_tbl := lw_at lw_m5 144 rfl
theorem q1248 : (Jvm.Cond.fieldLinkNest "PartyRaft" (468 : Nat) "PartyRaft$Image" "flow" "LPartyRaft$Flow;" "PartyRaft") ∈ lw_tbl := lw_at lw_m5 151 rfl
theorem q1249 : (Jvm.Cond.fieldLinkNest "PartyRaft" (463 : Nat) "PartyRaft$Image" "isTold" "Z" "PartyRaft") ∈ lw_tbl := lw_at lw_m5 152 rfl
theorem q1250 : (Jvm.Cond.fieldLinkNest "PartyRaft" (467 : Nat) "PartyRaft$Image" "x" "I" "PartyRaft") ∈ lw_tbl := lw_at lw_m5 153 rfl
theorem q1259 : (Jvm.Cond.instanceMethod ({ cls := "PartyRaft", name := "back", desc := "(I)I" } : Jvm.MethodName)) ∈ lw_all := lw_g (lw_at lw_m5 162 rfl) rfl
theorem q1260 : (Jvm.Cond.selects "PartyRaft" ({ cls := "PartyRaft", name := "back", desc := "(I)I" } : Jvm.MethodName) ({ cls := "PartyRaft", name := "back", desc := "(I)I" } : Jvm.MethodName)) ∈ lw_all := lw_g (lw_at lw_m5 163 rfl) rfl
theorem q1261 : (Jvm.Cond.code ({ cls := "PartyRaft", name := "back", desc := "(I)I" } : Jvm.MethodName) prog_1_method_60_code (2 : Nat) (Option.some Jvm.ClassFile.FieldType.int)) ∈ lw_all := lw_g (lw_at lw_m5 164 rfl) rfl
theorem in_X0 : ∀ w ∈ wsX00, w ∈ lw_all := lw_in wsX00 [442, 444, 446, 448, 450, 452, 454, 456, 458, 460, 462, 464, 466, 468, 470, 472, 474, 476, 478, 480, 482, 484, 486, 488, 490, 492, 494, 496, 498] (by decide +kernel) (by decide +kernel)

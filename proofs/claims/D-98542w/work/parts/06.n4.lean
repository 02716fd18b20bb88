/-! PartyRaftModel -/
set_option maxRecDepth 100000
def RX3 : String := "PartyRaftModel"
def TX3 : u_T := fun k => match k with
  | 0 => ("PartyRaftModel", "thrown", "I", false)
  | 1 => ("PartyRaftModel", "scalar", "[I", true)
  | 2 => ("PartyRaftModel", "landing", "[I", true)
  | 3 => ("PartyRaftModel", "heavy", "[I", true)
  | 4 => ("PartyRaftModel", "fate", "[I", true)
  | 5 => ("PartyRaftModel", "of", "[I", true)
  | 6 => ("PartyRaftModel", "weight", "[I", true)
  | 7 => ("PartyRaftModel", "floats", "[I", true)
  | 8 => ("PartyRaftModel", "soak", "[I", true)
  | 9 => ("PartyRaftModel", "where", "[I", true)
  | 10 => ("PartyRaftModel", "sankAt", "[I", true)
  | 11 => ("PartyRaftModel", "ropeOne", "[I", true)
  | 12 => ("PartyRaftModel", "ropeOther", "[I", true)
  | 13 => ("PartyRaftModel", "strength", "[I", true)
  | 14 => ("PartyRaftModel", "rapidMile", "[I", true)
  | 15 => ("PartyRaftModel", "force", "[I", true)
  | 16 => ("PartyRaftModel", "offerWeight", "[I", true)
  | 17 => ("PartyRaftModel", "offerFloat", "[I", true)
  | 18 => ("PartyRaftModel", "offerSoak", "[I", true)
  | 19 => ("PartyRaftModel", "newScalar", "[I", true)
  | 20 => ("PartyRaftModel", "newLanding", "[I", true)
  | 21 => ("PartyRaftModel", "newHeavy", "[I", true)
  | 22 => ("PartyRaftModel", "newOf", "[I", true)
  | 23 => ("PartyRaftModel", "newWeight", "[I", true)
  | 24 => ("PartyRaftModel", "newFloats", "[I", true)
  | 25 => ("PartyRaftModel", "newSoak", "[I", true)
  | 26 => ("PartyRaftModel", "newRopeOne", "[I", true)
  | 27 => ("PartyRaftModel", "newRopeOther", "[I", true)
  | 28 => ("PartyRaftModel", "newStrength", "[I", true)
  | 29 => ("PartyRaftModel", "newRapidMile", "[I", true)
  | 30 => ("PartyRaftModel", "newForce", "[I", true)
  | 31 => ("PartyRaftModel", "taped", "I", false)
  | 32 => ("PartyRaftModel", "p", "I", false)
  | 33 => ("PartyRaftModel", "fault", "I", false)
  | 34 => ("PartyRaftModel", "slot", "I", false)
  | 35 => ("PartyRaftModel", "rules", "I", false)
  | 36 => ("PartyRaftModel", "entries", "I", false)
  | 37 => ("PartyRaftModel", "deep", "I", false)
  | 38 => ("PartyRaftModel", "counted", "I", false)
  | 39 => ("PartyRaftModel", "opened", "I", false)
  | 40 => ("PartyRaftModel", "words", "I", false)
  | 41 => ("PartyRaftModel", "tape", "[B", true)
  | 42 => ("PartyRaftModel", "sort", "[I", true)
  | 43 => ("PartyRaftModel", "number", "[I", true)
  | 44 => ("PartyRaftModel", "clauses", "[I", true)
  | 45 => ("PartyRaftModel", "sumAt", "[I", true)
  | 46 => ("PartyRaftModel", "testAt", "[I", true)
  | 47 => ("PartyRaftModel", "endAt", "[I", true)
  | 48 => ("PartyRaftModel", "open", "[I", true)
  | 49 => ("PartyRaftModel", "asked", "[J", true)
  | 50 => ("PartyRaftModel", "stack", "[J", true)
  | 51 => ("PartyRaftModel", "landedNow", "I", false)
  | 52 => ("PartyRaftModel", "brokeNow", "I", false)
  | 53 => ("PartyRaftModel", "past", "[I", true)
  | 54 => ("PartyRaftModel", "ring", "[I", true)
  | 55 => ("PartyRaftModel", "pastMany", "I", false)
  | 56 => ("PartyRaftModel", "pastAt", "I", false)
  | 57 => ("PartyRaftModel", "takesBack", "Z", false)
  | 58 => ("PartyRaftModel", "row", "[I", true)
  | 59 => ("PartyRaftModel", "firstRow", "[I", true)
  | 60 => ("PartyRaftModel", "laterAt", "[I", true)
  | 61 => ("PartyRaftModel", "laterMany", "I", false)
  | 62 => ("PartyRaftModel", "rowCount", "I", false)
  | 63 => ("PartyRaftModel", "lock", "[I", true)
  | 64 => ("PartyRaftModel", "bestLock", "[I", true)
  | 65 => ("PartyRaftModel", "load", "[I", true)
  | 66 => ("PartyRaftModel", "fewestLocks", "I", false)
  | 67 => ("PartyRaftModel", "group", "[I", true)
  | 68 => ("PartyRaftModel", "wins", "[Z", true)
  | 69 => ("PartyRaftModel", "images", "[I", true)
  | 70 => ("PartyRaftModel", "isMade", "[Z", true)
  | 71 => ("PartyRaftModel", "imageAt", "I", false)
  | _ => ("PartyRaftModel", "goesBack", "Z", false)
def tyX3 : Nat → FieldType := fun k => match k with
  | 0 => .int
  | 1 => .array .int
  | 2 => .array .int
  | 3 => .array .int
  | 4 => .array .int
  | 5 => .array .int
  | 6 => .array .int
  | 7 => .array .int
  | 8 => .array .int
  | 9 => .array .int
  | 10 => .array .int
  | 11 => .array .int
  | 12 => .array .int
  | 13 => .array .int
  | 14 => .array .int
  | 15 => .array .int
  | 16 => .array .int
  | 17 => .array .int
  | 18 => .array .int
  | 19 => .array .int
  | 20 => .array .int
  | 21 => .array .int
  | 22 => .array .int
  | 23 => .array .int
  | 24 => .array .int
  | 25 => .array .int
  | 26 => .array .int
  | 27 => .array .int
  | 28 => .array .int
  | 29 => .array .int
  | 30 => .array .int
  | 31 => .int
  | 32 => .int
  | 33 => .int
  | 34 => .int
  | 35 => .int
  | 36 => .int
  | 37 => .int
  | 38 => .int
  | 39 => .int
  | 40 => .int
  | 41 => .array .byte
  | 42 => .array .int
  | 43 => .array .int
  | 44 => .array .int
  | 45 => .array .int
  | 46 => .array .int
  | 47 => .array .int
  | 48 => .array .int
  | 49 => .array .long
  | 50 => .array .long
  | 51 => .int
  | 52 => .int
  | 53 => .array .int
  | 54 => .array .int
  | 55 => .int
  | 56 => .int
  | 57 => .boolean
  | 58 => .array .int
  | 59 => .array .int
  | 60 => .array .int
  | 61 => .int
  | 62 => .int
  | 63 => .array .int
  | 64 => .array .int
  | 65 => .array .int
  | 66 => .int
  | 67 => .array .int
  | 68 => .array .boolean
  | 69 => .array .int
  | 70 => .array .boolean
  | 71 => .int
  | _ => .boolean
abbrev wsX30 : List Cond := u_ws RX3 TX3 73
set_option maxRecDepth 100000 in
theorem nmX3 : ∀ a, a < 73 → ∀ b, b < 73 → a ≠ b → (TX3 a).2.1 ≠ (TX3 b).2.1 := by decide +kernel
set_option maxRecDepth 100000 in
theorem tyX3_ok : ∀ k, k < 73 → parseFieldDescriptor (TX3 k).2.2.1 = some (tyX3 k) := by decide +kernel
abbrev cX3_init : ByteArray := prog_17_method_1_code
def yX3_init : MethodName := ⟨RX3, "<init>", "()V"⟩
def dkwX3_init_18 : List UInt8 := [188, 4, 181, 0, 170, 177]
abbrev dktX3_init_18 : List UInt8 := dkwX3_init_18 ++ []
def dkwX3_init_17 : List UInt8 := [181, 0, 160, 42, 17, 1, 0, 188, 4, 181, 0, 163, 42, 17, 37, 28, 188, 10, 181, 0, 167, 42, 7]
abbrev dktX3_init_17 : List UInt8 := dkwX3_init_17 ++ dktX3_init_18
def dkwX3_init_16 : List UInt8 := [181, 0, 151, 42, 16, 8, 188, 10, 181, 0, 154, 42, 16, 8, 188, 10, 181, 0, 157, 42, 16, 8, 188, 10]
abbrev dktX3_init_16 : List UInt8 := dkwX3_init_16 ++ dktX3_init_17
def dkwX3_init_15 : List UInt8 := [181, 0, 142, 42, 16, 8, 188, 10, 181, 0, 145, 42, 16, 7, 188, 10, 181, 0, 148, 42, 16, 9, 188, 10]
abbrev dktX3_init_15 : List UInt8 := dkwX3_init_15 ++ dktX3_init_16
def dkwX3_init_14 : List UInt8 := [181, 0, 133, 42, 17, 6, 4, 188, 10, 181, 0, 136, 42, 4, 188, 10, 181, 0, 139, 42, 16, 9, 188, 10]
abbrev dktX3_init_14 : List UInt8 := dkwX3_init_14 ++ dktX3_init_15
def dkwX3_init_13 : List UInt8 := [17, 1, 146, 188, 10, 181, 0, 126, 42, 16, 12, 188, 11, 181, 0, 129, 42, 17, 1, 44, 188, 11]
abbrev dktX3_init_13 : List UInt8 := dkwX3_init_13 ++ dktX3_init_14
def dkwX3_init_12 : List UInt8 := [16, 72, 188, 10, 181, 0, 117, 42, 16, 72, 188, 10, 181, 0, 120, 42, 16, 72, 188, 10, 181, 0, 123, 42]
abbrev dktX3_init_12 : List UInt8 := dkwX3_init_12 ++ dktX3_init_13
def dkwX3_init_11 : List UInt8 := [188, 10, 181, 0, 108, 42, 17, 7, 8, 188, 10, 181, 0, 111, 42, 16, 6, 188, 10, 181, 0, 114, 42]
abbrev dktX3_init_11 : List UInt8 := dkwX3_init_11 ++ dktX3_init_12
def dkwX3_init_10 : List UInt8 := [188, 10, 181, 0, 97, 42, 16, 12, 181, 0, 100, 42, 17, 1, 144, 188, 8, 181, 0, 104, 42, 17, 7, 8]
abbrev dktX3_init_10 : List UInt8 := dkwX3_init_10 ++ dktX3_init_11
def dkwX3_init_9 : List UInt8 := [188, 10, 181, 0, 88, 42, 16, 12, 188, 10, 181, 0, 91, 42, 16, 6, 188, 10, 181, 0, 94, 42, 16, 6]
abbrev dktX3_init_9 : List UInt8 := dkwX3_init_9 ++ dktX3_init_10
def dkwX3_init_8 : List UInt8 := [188, 10, 181, 0, 79, 42, 16, 8, 188, 10, 181, 0, 82, 42, 16, 12, 188, 10, 181, 0, 85, 42, 16, 12]
abbrev dktX3_init_8 : List UInt8 := dkwX3_init_8 ++ dktX3_init_9
def dkwX3_init_7 : List UInt8 := [188, 10, 181, 0, 70, 42, 16, 8, 188, 10, 181, 0, 73, 42, 16, 8, 188, 10, 181, 0, 76, 42, 16, 8]
abbrev dktX3_init_7 : List UInt8 := dkwX3_init_7 ++ dktX3_init_8
def dkwX3_init_6 : List UInt8 := [188, 10, 181, 0, 61, 42, 16, 6, 188, 10, 181, 0, 64, 42, 16, 6, 188, 10, 181, 0, 67, 42, 16, 6]
abbrev dktX3_init_6 : List UInt8 := dkwX3_init_6 ++ dktX3_init_7
def dkwX3_init_5 : List UInt8 := [188, 10, 181, 0, 52, 42, 16, 6, 188, 10, 181, 0, 55, 42, 16, 6, 188, 10, 181, 0, 58, 42, 16, 6]
abbrev dktX3_init_5 : List UInt8 := dkwX3_init_5 ++ dktX3_init_6
def dkwX3_init_4 : List UInt8 := [188, 10, 181, 0, 43, 42, 16, 12, 188, 10, 181, 0, 46, 42, 16, 6, 188, 10, 181, 0, 49, 42, 16, 6]
abbrev dktX3_init_4 : List UInt8 := dkwX3_init_4 ++ dktX3_init_5
def dkwX3_init_3 : List UInt8 := [188, 10, 181, 0, 34, 42, 16, 8, 188, 10, 181, 0, 37, 42, 16, 12, 188, 10, 181, 0, 40, 42, 16, 12]
abbrev dktX3_init_3 : List UInt8 := dkwX3_init_3 ++ dktX3_init_4
def dkwX3_init_2 : List UInt8 := [188, 10, 181, 0, 25, 42, 16, 8, 188, 10, 181, 0, 28, 42, 16, 8, 188, 10, 181, 0, 31, 42, 16, 8]
abbrev dktX3_init_2 : List UInt8 := dkwX3_init_2 ++ dktX3_init_3
def dkwX3_init_1 : List UInt8 := [188, 10, 181, 0, 16, 42, 16, 6, 188, 10, 181, 0, 19, 42, 16, 8, 188, 10, 181, 0, 22, 42, 16, 8]
abbrev dktX3_init_1 : List UInt8 := dkwX3_init_1 ++ dktX3_init_2
def dkwX3_init_0 : List UInt8 := [42, 183, 0, 3, 42, 16, 9, 188, 10, 181, 0, 9, 42, 16, 6, 188, 10, 181, 0, 13, 42, 16, 6]
abbrev dktX3_init_0 : List UInt8 := dkwX3_init_0 ++ dktX3_init_1
theorem dksX3_init_0 : cX3_init.data.toList.drop 0 = dktX3_init_0 := by decide +kernel
theorem dksX3_init_1 : cX3_init.data.toList.drop 23 = dktX3_init_1 := dk_seg dksX3_init_0 23 rfl rfl
theorem dksX3_init_2 : cX3_init.data.toList.drop 47 = dktX3_init_2 := dk_seg dksX3_init_1 24 rfl rfl
theorem dksX3_init_3 : cX3_init.data.toList.drop 71 = dktX3_init_3 := dk_seg dksX3_init_2 24 rfl rfl
theorem dksX3_init_4 : cX3_init.data.toList.drop 95 = dktX3_init_4 := dk_seg dksX3_init_3 24 rfl rfl
theorem dksX3_init_5 : cX3_init.data.toList.drop 119 = dktX3_init_5 := dk_seg dksX3_init_4 24 rfl rfl
theorem dksX3_init_6 : cX3_init.data.toList.drop 143 = dktX3_init_6 := dk_seg dksX3_init_5 24 rfl rfl
theorem dksX3_init_7 : cX3_init.data.toList.drop 167 = dktX3_init_7 := dk_seg dksX3_init_6 24 rfl rfl
theorem dksX3_init_8 : cX3_init.data.toList.drop 191 = dktX3_init_8 := dk_seg dksX3_init_7 24 rfl rfl
theorem dksX3_init_9 : cX3_init.data.toList.drop 215 = dktX3_init_9 := dk_seg dksX3_init_8 24 rfl rfl
theorem dksX3_init_10 : cX3_init.data.toList.drop 239 = dktX3_init_10 := dk_seg dksX3_init_9 24 rfl rfl
theorem dksX3_init_11 : cX3_init.data.toList.drop 263 = dktX3_init_11 := dk_seg dksX3_init_10 24 rfl rfl
theorem dksX3_init_12 : cX3_init.data.toList.drop 286 = dktX3_init_12 := dk_seg dksX3_init_11 23 rfl rfl
theorem dksX3_init_13 : cX3_init.data.toList.drop 310 = dktX3_init_13 := dk_seg dksX3_init_12 24 rfl rfl
theorem dksX3_init_14 : cX3_init.data.toList.drop 332 = dktX3_init_14 := dk_seg dksX3_init_13 22 rfl rfl
theorem dksX3_init_15 : cX3_init.data.toList.drop 356 = dktX3_init_15 := dk_seg dksX3_init_14 24 rfl rfl
theorem dksX3_init_16 : cX3_init.data.toList.drop 380 = dktX3_init_16 := dk_seg dksX3_init_15 24 rfl rfl
theorem dksX3_init_17 : cX3_init.data.toList.drop 404 = dktX3_init_17 := dk_seg dksX3_init_16 24 rfl rfl
theorem dksX3_init_18 : cX3_init.data.toList.drop 427 = dktX3_init_18 := dk_seg dksX3_init_17 23 rfl rfl
theorem dX3_init_0 : decode cX3_init 0 = .ok (.aload_n 0, 1) := dk_42 (dk_at dksX3_init_0 0 rfl rfl)
theorem dX3_init_1 : decode cX3_init 1 = .ok (.invokespecial 3, 3) := dk_183 0 3 (dk_at dksX3_init_0 1 rfl rfl)
theorem dX3_init_4 : decode cX3_init 4 = .ok (.aload_n 0, 1) := dk_42 (dk_at dksX3_init_0 4 rfl rfl)
theorem dX3_init_5 : decode cX3_init 5 = .ok (.bipush 9, 2) := dk_16 9 (dk_at dksX3_init_0 5 rfl rfl)
theorem dX3_init_7 : decode cX3_init 7 = .ok (.newarray .int, 2) := dk_188_10 (dk_at dksX3_init_0 7 rfl rfl)
theorem dX3_init_9 : decode cX3_init 9 = .ok (.putfield 9, 3) := dk_181 0 9 (dk_at dksX3_init_0 9 rfl rfl)
theorem dX3_init_12 : decode cX3_init 12 = .ok (.aload_n 0, 1) := dk_42 (dk_at dksX3_init_0 12 rfl rfl)
theorem dX3_init_13 : decode cX3_init 13 = .ok (.bipush 6, 2) := dk_16 6 (dk_at dksX3_init_0 13 rfl rfl)
theorem dX3_init_15 : decode cX3_init 15 = .ok (.newarray .int, 2) := dk_188_10 (dk_at dksX3_init_0 15 rfl rfl)
theorem dX3_init_17 : decode cX3_init 17 = .ok (.putfield 13, 3) := dk_181 0 13 (dk_at dksX3_init_0 17 rfl rfl)
theorem dX3_init_20 : decode cX3_init 20 = .ok (.aload_n 0, 1) := dk_42 (dk_at dksX3_init_0 20 rfl rfl)
theorem dX3_init_21 : decode cX3_init 21 = .ok (.bipush 6, 2) := dk_16 6 (dk_at dksX3_init_0 21 rfl rfl)
theorem dX3_init_23 : decode cX3_init 23 = .ok (.newarray .int, 2) := dk_188_10 (dk_at dksX3_init_1 0 rfl rfl)
theorem dX3_init_25 : decode cX3_init 25 = .ok (.putfield 16, 3) := dk_181 0 16 (dk_at dksX3_init_1 2 rfl rfl)
theorem dX3_init_28 : decode cX3_init 28 = .ok (.aload_n 0, 1) := dk_42 (dk_at dksX3_init_1 5 rfl rfl)
theorem dX3_init_29 : decode cX3_init 29 = .ok (.bipush 6, 2) := dk_16 6 (dk_at dksX3_init_1 6 rfl rfl)
theorem dX3_init_31 : decode cX3_init 31 = .ok (.newarray .int, 2) := dk_188_10 (dk_at dksX3_init_1 8 rfl rfl)
theorem dX3_init_33 : decode cX3_init 33 = .ok (.putfield 19, 3) := dk_181 0 19 (dk_at dksX3_init_1 10 rfl rfl)
theorem dX3_init_36 : decode cX3_init 36 = .ok (.aload_n 0, 1) := dk_42 (dk_at dksX3_init_1 13 rfl rfl)
theorem dX3_init_37 : decode cX3_init 37 = .ok (.bipush 8, 2) := dk_16 8 (dk_at dksX3_init_1 14 rfl rfl)
theorem dX3_init_39 : decode cX3_init 39 = .ok (.newarray .int, 2) := dk_188_10 (dk_at dksX3_init_1 16 rfl rfl)
theorem dX3_init_41 : decode cX3_init 41 = .ok (.putfield 22, 3) := dk_181 0 22 (dk_at dksX3_init_1 18 rfl rfl)
theorem dX3_init_44 : decode cX3_init 44 = .ok (.aload_n 0, 1) := dk_42 (dk_at dksX3_init_1 21 rfl rfl)
theorem dX3_init_45 : decode cX3_init 45 = .ok (.bipush 8, 2) := dk_16 8 (dk_at dksX3_init_1 22 rfl rfl)
theorem dX3_init_47 : decode cX3_init 47 = .ok (.newarray .int, 2) := dk_188_10 (dk_at dksX3_init_2 0 rfl rfl)
theorem dX3_init_49 : decode cX3_init 49 = .ok (.putfield 25, 3) := dk_181 0 25 (dk_at dksX3_init_2 2 rfl rfl)
theorem dX3_init_52 : decode cX3_init 52 = .ok (.aload_n 0, 1) := dk_42 (dk_at dksX3_init_2 5 rfl rfl)
theorem dX3_init_53 : decode cX3_init 53 = .ok (.bipush 8, 2) := dk_16 8 (dk_at dksX3_init_2 6 rfl rfl)
theorem dX3_init_55 : decode cX3_init 55 = .ok (.newarray .int, 2) := dk_188_10 (dk_at dksX3_init_2 8 rfl rfl)
theorem dX3_init_57 : decode cX3_init 57 = .ok (.putfield 28, 3) := dk_181 0 28 (dk_at dksX3_init_2 10 rfl rfl)
theorem dX3_init_60 : decode cX3_init 60 = .ok (.aload_n 0, 1) := dk_42 (dk_at dksX3_init_2 13 rfl rfl)
theorem dX3_init_61 : decode cX3_init 61 = .ok (.bipush 8, 2) := dk_16 8 (dk_at dksX3_init_2 14 rfl rfl)
theorem dX3_init_63 : decode cX3_init 63 = .ok (.newarray .int, 2) := dk_188_10 (dk_at dksX3_init_2 16 rfl rfl)
theorem dX3_init_65 : decode cX3_init 65 = .ok (.putfield 31, 3) := dk_181 0 31 (dk_at dksX3_init_2 18 rfl rfl)
theorem dX3_init_68 : decode cX3_init 68 = .ok (.aload_n 0, 1) := dk_42 (dk_at dksX3_init_2 21 rfl rfl)
theorem dX3_init_69 : decode cX3_init 69 = .ok (.bipush 8, 2) := dk_16 8 (dk_at dksX3_init_2 22 rfl rfl)
theorem dX3_init_71 : decode cX3_init 71 = .ok (.newarray .int, 2) := dk_188_10 (dk_at dksX3_init_3 0 rfl rfl)
theorem dX3_init_73 : decode cX3_init 73 = .ok (.putfield 34, 3) := dk_181 0 34 (dk_at dksX3_init_3 2 rfl rfl)
theorem dX3_init_76 : decode cX3_init 76 = .ok (.aload_n 0, 1) := dk_42 (dk_at dksX3_init_3 5 rfl rfl)
theorem dX3_init_77 : decode cX3_init 77 = .ok (.bipush 8, 2) := dk_16 8 (dk_at dksX3_init_3 6 rfl rfl)
theorem dX3_init_79 : decode cX3_init 79 = .ok (.newarray .int, 2) := dk_188_10 (dk_at dksX3_init_3 8 rfl rfl)
theorem dX3_init_81 : decode cX3_init 81 = .ok (.putfield 37, 3) := dk_181 0 37 (dk_at dksX3_init_3 10 rfl rfl)
theorem dX3_init_84 : decode cX3_init 84 = .ok (.aload_n 0, 1) := dk_42 (dk_at dksX3_init_3 13 rfl rfl)
theorem dX3_init_85 : decode cX3_init 85 = .ok (.bipush 12, 2) := dk_16 12 (dk_at dksX3_init_3 14 rfl rfl)
theorem dX3_init_87 : decode cX3_init 87 = .ok (.newarray .int, 2) := dk_188_10 (dk_at dksX3_init_3 16 rfl rfl)
theorem dX3_init_89 : decode cX3_init 89 = .ok (.putfield 40, 3) := dk_181 0 40 (dk_at dksX3_init_3 18 rfl rfl)
theorem dX3_init_92 : decode cX3_init 92 = .ok (.aload_n 0, 1) := dk_42 (dk_at dksX3_init_3 21 rfl rfl)
theorem dX3_init_93 : decode cX3_init 93 = .ok (.bipush 12, 2) := dk_16 12 (dk_at dksX3_init_3 22 rfl rfl)
theorem dX3_init_95 : decode cX3_init 95 = .ok (.newarray .int, 2) := dk_188_10 (dk_at dksX3_init_4 0 rfl rfl)
theorem dX3_init_97 : decode cX3_init 97 = .ok (.putfield 43, 3) := dk_181 0 43 (dk_at dksX3_init_4 2 rfl rfl)
theorem dX3_init_100 : decode cX3_init 100 = .ok (.aload_n 0, 1) := dk_42 (dk_at dksX3_init_4 5 rfl rfl)
theorem dX3_init_101 : decode cX3_init 101 = .ok (.bipush 12, 2) := dk_16 12 (dk_at dksX3_init_4 6 rfl rfl)
theorem dX3_init_103 : decode cX3_init 103 = .ok (.newarray .int, 2) := dk_188_10 (dk_at dksX3_init_4 8 rfl rfl)
theorem dX3_init_105 : decode cX3_init 105 = .ok (.putfield 46, 3) := dk_181 0 46 (dk_at dksX3_init_4 10 rfl rfl)
theorem dX3_init_108 : decode cX3_init 108 = .ok (.aload_n 0, 1) := dk_42 (dk_at dksX3_init_4 13 rfl rfl)
theorem dX3_init_109 : decode cX3_init 109 = .ok (.bipush 6, 2) := dk_16 6 (dk_at dksX3_init_4 14 rfl rfl)
theorem dX3_init_111 : decode cX3_init 111 = .ok (.newarray .int, 2) := dk_188_10 (dk_at dksX3_init_4 16 rfl rfl)
theorem dX3_init_113 : decode cX3_init 113 = .ok (.putfield 49, 3) := dk_181 0 49 (dk_at dksX3_init_4 18 rfl rfl)
theorem dX3_init_116 : decode cX3_init 116 = .ok (.aload_n 0, 1) := dk_42 (dk_at dksX3_init_4 21 rfl rfl)
theorem dX3_init_117 : decode cX3_init 117 = .ok (.bipush 6, 2) := dk_16 6 (dk_at dksX3_init_4 22 rfl rfl)
theorem dX3_init_119 : decode cX3_init 119 = .ok (.newarray .int, 2) := dk_188_10 (dk_at dksX3_init_5 0 rfl rfl)
theorem dX3_init_121 : decode cX3_init 121 = .ok (.putfield 52, 3) := dk_181 0 52 (dk_at dksX3_init_5 2 rfl rfl)
theorem dX3_init_124 : decode cX3_init 124 = .ok (.aload_n 0, 1) := dk_42 (dk_at dksX3_init_5 5 rfl rfl)
theorem dX3_init_125 : decode cX3_init 125 = .ok (.bipush 6, 2) := dk_16 6 (dk_at dksX3_init_5 6 rfl rfl)
theorem dX3_init_127 : decode cX3_init 127 = .ok (.newarray .int, 2) := dk_188_10 (dk_at dksX3_init_5 8 rfl rfl)
theorem dX3_init_129 : decode cX3_init 129 = .ok (.putfield 55, 3) := dk_181 0 55 (dk_at dksX3_init_5 10 rfl rfl)
theorem dX3_init_132 : decode cX3_init 132 = .ok (.aload_n 0, 1) := dk_42 (dk_at dksX3_init_5 13 rfl rfl)
theorem dX3_init_133 : decode cX3_init 133 = .ok (.bipush 6, 2) := dk_16 6 (dk_at dksX3_init_5 14 rfl rfl)
theorem dX3_init_135 : decode cX3_init 135 = .ok (.newarray .int, 2) := dk_188_10 (dk_at dksX3_init_5 16 rfl rfl)
theorem dX3_init_137 : decode cX3_init 137 = .ok (.putfield 58, 3) := dk_181 0 58 (dk_at dksX3_init_5 18 rfl rfl)
theorem dX3_init_140 : decode cX3_init 140 = .ok (.aload_n 0, 1) := dk_42 (dk_at dksX3_init_5 21 rfl rfl)
theorem dX3_init_141 : decode cX3_init 141 = .ok (.bipush 6, 2) := dk_16 6 (dk_at dksX3_init_5 22 rfl rfl)
theorem dX3_init_143 : decode cX3_init 143 = .ok (.newarray .int, 2) := dk_188_10 (dk_at dksX3_init_6 0 rfl rfl)
theorem dX3_init_145 : decode cX3_init 145 = .ok (.putfield 61, 3) := dk_181 0 61 (dk_at dksX3_init_6 2 rfl rfl)
theorem dX3_init_148 : decode cX3_init 148 = .ok (.aload_n 0, 1) := dk_42 (dk_at dksX3_init_6 5 rfl rfl)
theorem dX3_init_149 : decode cX3_init 149 = .ok (.bipush 6, 2) := dk_16 6 (dk_at dksX3_init_6 6 rfl rfl)
theorem dX3_init_151 : decode cX3_init 151 = .ok (.newarray .int, 2) := dk_188_10 (dk_at dksX3_init_6 8 rfl rfl)
theorem dX3_init_153 : decode cX3_init 153 = .ok (.putfield 64, 3) := dk_181 0 64 (dk_at dksX3_init_6 10 rfl rfl)
theorem dX3_init_156 : decode cX3_init 156 = .ok (.aload_n 0, 1) := dk_42 (dk_at dksX3_init_6 13 rfl rfl)
theorem dX3_init_157 : decode cX3_init 157 = .ok (.bipush 6, 2) := dk_16 6 (dk_at dksX3_init_6 14 rfl rfl)
theorem dX3_init_159 : decode cX3_init 159 = .ok (.newarray .int, 2) := dk_188_10 (dk_at dksX3_init_6 16 rfl rfl)
theorem dX3_init_161 : decode cX3_init 161 = .ok (.putfield 67, 3) := dk_181 0 67 (dk_at dksX3_init_6 18 rfl rfl)
theorem dX3_init_164 : decode cX3_init 164 = .ok (.aload_n 0, 1) := dk_42 (dk_at dksX3_init_6 21 rfl rfl)
theorem dX3_init_165 : decode cX3_init 165 = .ok (.bipush 6, 2) := dk_16 6 (dk_at dksX3_init_6 22 rfl rfl)
theorem dX3_init_167 : decode cX3_init 167 = .ok (.newarray .int, 2) := dk_188_10 (dk_at dksX3_init_7 0 rfl rfl)
theorem dX3_init_169 : decode cX3_init 169 = .ok (.putfield 70, 3) := dk_181 0 70 (dk_at dksX3_init_7 2 rfl rfl)
theorem dX3_init_172 : decode cX3_init 172 = .ok (.aload_n 0, 1) := dk_42 (dk_at dksX3_init_7 5 rfl rfl)
theorem dX3_init_173 : decode cX3_init 173 = .ok (.bipush 8, 2) := dk_16 8 (dk_at dksX3_init_7 6 rfl rfl)
theorem dX3_init_175 : decode cX3_init 175 = .ok (.newarray .int, 2) := dk_188_10 (dk_at dksX3_init_7 8 rfl rfl)
theorem dX3_init_177 : decode cX3_init 177 = .ok (.putfield 73, 3) := dk_181 0 73 (dk_at dksX3_init_7 10 rfl rfl)
theorem dX3_init_180 : decode cX3_init 180 = .ok (.aload_n 0, 1) := dk_42 (dk_at dksX3_init_7 13 rfl rfl)
theorem dX3_init_181 : decode cX3_init 181 = .ok (.bipush 8, 2) := dk_16 8 (dk_at dksX3_init_7 14 rfl rfl)
theorem dX3_init_183 : decode cX3_init 183 = .ok (.newarray .int, 2) := dk_188_10 (dk_at dksX3_init_7 16 rfl rfl)
theorem dX3_init_185 : decode cX3_init 185 = .ok (.putfield 76, 3) := dk_181 0 76 (dk_at dksX3_init_7 18 rfl rfl)
theorem dX3_init_188 : decode cX3_init 188 = .ok (.aload_n 0, 1) := dk_42 (dk_at dksX3_init_7 21 rfl rfl)
theorem dX3_init_189 : decode cX3_init 189 = .ok (.bipush 8, 2) := dk_16 8 (dk_at dksX3_init_7 22 rfl rfl)
theorem dX3_init_191 : decode cX3_init 191 = .ok (.newarray .int, 2) := dk_188_10 (dk_at dksX3_init_8 0 rfl rfl)
theorem dX3_init_193 : decode cX3_init 193 = .ok (.putfield 79, 3) := dk_181 0 79 (dk_at dksX3_init_8 2 rfl rfl)
theorem dX3_init_196 : decode cX3_init 196 = .ok (.aload_n 0, 1) := dk_42 (dk_at dksX3_init_8 5 rfl rfl)
theorem dX3_init_197 : decode cX3_init 197 = .ok (.bipush 8, 2) := dk_16 8 (dk_at dksX3_init_8 6 rfl rfl)
theorem dX3_init_199 : decode cX3_init 199 = .ok (.newarray .int, 2) := dk_188_10 (dk_at dksX3_init_8 8 rfl rfl)
theorem dX3_init_201 : decode cX3_init 201 = .ok (.putfield 82, 3) := dk_181 0 82 (dk_at dksX3_init_8 10 rfl rfl)
theorem dX3_init_204 : decode cX3_init 204 = .ok (.aload_n 0, 1) := dk_42 (dk_at dksX3_init_8 13 rfl rfl)
theorem dX3_init_205 : decode cX3_init 205 = .ok (.bipush 12, 2) := dk_16 12 (dk_at dksX3_init_8 14 rfl rfl)
theorem dX3_init_207 : decode cX3_init 207 = .ok (.newarray .int, 2) := dk_188_10 (dk_at dksX3_init_8 16 rfl rfl)
theorem dX3_init_209 : decode cX3_init 209 = .ok (.putfield 85, 3) := dk_181 0 85 (dk_at dksX3_init_8 18 rfl rfl)
theorem dX3_init_212 : decode cX3_init 212 = .ok (.aload_n 0, 1) := dk_42 (dk_at dksX3_init_8 21 rfl rfl)
theorem dX3_init_213 : decode cX3_init 213 = .ok (.bipush 12, 2) := dk_16 12 (dk_at dksX3_init_8 22 rfl rfl)
theorem dX3_init_215 : decode cX3_init 215 = .ok (.newarray .int, 2) := dk_188_10 (dk_at dksX3_init_9 0 rfl rfl)
theorem dX3_init_217 : decode cX3_init 217 = .ok (.putfield 88, 3) := dk_181 0 88 (dk_at dksX3_init_9 2 rfl rfl)
theorem dX3_init_220 : decode cX3_init 220 = .ok (.aload_n 0, 1) := dk_42 (dk_at dksX3_init_9 5 rfl rfl)
theorem dX3_init_221 : decode cX3_init 221 = .ok (.bipush 12, 2) := dk_16 12 (dk_at dksX3_init_9 6 rfl rfl)
theorem dX3_init_223 : decode cX3_init 223 = .ok (.newarray .int, 2) := dk_188_10 (dk_at dksX3_init_9 8 rfl rfl)
theorem dX3_init_225 : decode cX3_init 225 = .ok (.putfield 91, 3) := dk_181 0 91 (dk_at dksX3_init_9 10 rfl rfl)
theorem dX3_init_228 : decode cX3_init 228 = .ok (.aload_n 0, 1) := dk_42 (dk_at dksX3_init_9 13 rfl rfl)
theorem dX3_init_229 : decode cX3_init 229 = .ok (.bipush 6, 2) := dk_16 6 (dk_at dksX3_init_9 14 rfl rfl)
theorem dX3_init_231 : decode cX3_init 231 = .ok (.newarray .int, 2) := dk_188_10 (dk_at dksX3_init_9 16 rfl rfl)
theorem dX3_init_233 : decode cX3_init 233 = .ok (.putfield 94, 3) := dk_181 0 94 (dk_at dksX3_init_9 18 rfl rfl)
theorem dX3_init_236 : decode cX3_init 236 = .ok (.aload_n 0, 1) := dk_42 (dk_at dksX3_init_9 21 rfl rfl)
theorem dX3_init_237 : decode cX3_init 237 = .ok (.bipush 6, 2) := dk_16 6 (dk_at dksX3_init_9 22 rfl rfl)
theorem dX3_init_239 : decode cX3_init 239 = .ok (.newarray .int, 2) := dk_188_10 (dk_at dksX3_init_10 0 rfl rfl)
theorem dX3_init_241 : decode cX3_init 241 = .ok (.putfield 97, 3) := dk_181 0 97 (dk_at dksX3_init_10 2 rfl rfl)
theorem dX3_init_244 : decode cX3_init 244 = .ok (.aload_n 0, 1) := dk_42 (dk_at dksX3_init_10 5 rfl rfl)
theorem dX3_init_245 : decode cX3_init 245 = .ok (.bipush 12, 2) := dk_16 12 (dk_at dksX3_init_10 6 rfl rfl)
theorem dX3_init_247 : decode cX3_init 247 = .ok (.putfield 100, 3) := dk_181 0 100 (dk_at dksX3_init_10 8 rfl rfl)
theorem dX3_init_250 : decode cX3_init 250 = .ok (.aload_n 0, 1) := dk_42 (dk_at dksX3_init_10 11 rfl rfl)
theorem dX3_init_251 : decode cX3_init 251 = .ok (.sipush 400, 3) := dk_17 1 144 (dk_at dksX3_init_10 12 rfl rfl)
theorem dX3_init_254 : decode cX3_init 254 = .ok (.newarray .byte, 2) := dk_188_8 (dk_at dksX3_init_10 15 rfl rfl)
theorem dX3_init_256 : decode cX3_init 256 = .ok (.putfield 104, 3) := dk_181 0 104 (dk_at dksX3_init_10 17 rfl rfl)
theorem dX3_init_259 : decode cX3_init 259 = .ok (.aload_n 0, 1) := dk_42 (dk_at dksX3_init_10 20 rfl rfl)
theorem dX3_init_260 : decode cX3_init 260 = .ok (.sipush 1800, 3) := dk_17 7 8 (dk_at dksX3_init_10 21 rfl rfl)
theorem dX3_init_263 : decode cX3_init 263 = .ok (.newarray .int, 2) := dk_188_10 (dk_at dksX3_init_11 0 rfl rfl)
theorem dX3_init_265 : decode cX3_init 265 = .ok (.putfield 108, 3) := dk_181 0 108 (dk_at dksX3_init_11 2 rfl rfl)
theorem dX3_init_268 : decode cX3_init 268 = .ok (.aload_n 0, 1) := dk_42 (dk_at dksX3_init_11 5 rfl rfl)
theorem dX3_init_269 : decode cX3_init 269 = .ok (.sipush 1800, 3) := dk_17 7 8 (dk_at dksX3_init_11 6 rfl rfl)
theorem dX3_init_272 : decode cX3_init 272 = .ok (.newarray .int, 2) := dk_188_10 (dk_at dksX3_init_11 9 rfl rfl)
theorem dX3_init_274 : decode cX3_init 274 = .ok (.putfield 111, 3) := dk_181 0 111 (dk_at dksX3_init_11 11 rfl rfl)
theorem dX3_init_277 : decode cX3_init 277 = .ok (.aload_n 0, 1) := dk_42 (dk_at dksX3_init_11 14 rfl rfl)
theorem dX3_init_278 : decode cX3_init 278 = .ok (.bipush 6, 2) := dk_16 6 (dk_at dksX3_init_11 15 rfl rfl)
theorem dX3_init_280 : decode cX3_init 280 = .ok (.newarray .int, 2) := dk_188_10 (dk_at dksX3_init_11 17 rfl rfl)
theorem dX3_init_282 : decode cX3_init 282 = .ok (.putfield 114, 3) := dk_181 0 114 (dk_at dksX3_init_11 19 rfl rfl)
theorem dX3_init_285 : decode cX3_init 285 = .ok (.aload_n 0, 1) := dk_42 (dk_at dksX3_init_11 22 rfl rfl)
theorem dX3_init_286 : decode cX3_init 286 = .ok (.bipush 72, 2) := dk_16 72 (dk_at dksX3_init_12 0 rfl rfl)
theorem dX3_init_288 : decode cX3_init 288 = .ok (.newarray .int, 2) := dk_188_10 (dk_at dksX3_init_12 2 rfl rfl)
theorem dX3_init_290 : decode cX3_init 290 = .ok (.putfield 117, 3) := dk_181 0 117 (dk_at dksX3_init_12 4 rfl rfl)
theorem dX3_init_293 : decode cX3_init 293 = .ok (.aload_n 0, 1) := dk_42 (dk_at dksX3_init_12 7 rfl rfl)
theorem dX3_init_294 : decode cX3_init 294 = .ok (.bipush 72, 2) := dk_16 72 (dk_at dksX3_init_12 8 rfl rfl)
theorem dX3_init_296 : decode cX3_init 296 = .ok (.newarray .int, 2) := dk_188_10 (dk_at dksX3_init_12 10 rfl rfl)
theorem dX3_init_298 : decode cX3_init 298 = .ok (.putfield 120, 3) := dk_181 0 120 (dk_at dksX3_init_12 12 rfl rfl)
theorem dX3_init_301 : decode cX3_init 301 = .ok (.aload_n 0, 1) := dk_42 (dk_at dksX3_init_12 15 rfl rfl)
theorem dX3_init_302 : decode cX3_init 302 = .ok (.bipush 72, 2) := dk_16 72 (dk_at dksX3_init_12 16 rfl rfl)
theorem dX3_init_304 : decode cX3_init 304 = .ok (.newarray .int, 2) := dk_188_10 (dk_at dksX3_init_12 18 rfl rfl)
theorem dX3_init_306 : decode cX3_init 306 = .ok (.putfield 123, 3) := dk_181 0 123 (dk_at dksX3_init_12 20 rfl rfl)
theorem dX3_init_309 : decode cX3_init 309 = .ok (.aload_n 0, 1) := dk_42 (dk_at dksX3_init_12 23 rfl rfl)
theorem dX3_init_310 : decode cX3_init 310 = .ok (.sipush 402, 3) := dk_17 1 146 (dk_at dksX3_init_13 0 rfl rfl)
theorem dX3_init_313 : decode cX3_init 313 = .ok (.newarray .int, 2) := dk_188_10 (dk_at dksX3_init_13 3 rfl rfl)
theorem dX3_init_315 : decode cX3_init 315 = .ok (.putfield 126, 3) := dk_181 0 126 (dk_at dksX3_init_13 5 rfl rfl)
theorem dX3_init_318 : decode cX3_init 318 = .ok (.aload_n 0, 1) := dk_42 (dk_at dksX3_init_13 8 rfl rfl)
theorem dX3_init_319 : decode cX3_init 319 = .ok (.bipush 12, 2) := dk_16 12 (dk_at dksX3_init_13 9 rfl rfl)
theorem dX3_init_321 : decode cX3_init 321 = .ok (.newarray .long, 2) := dk_188_11 (dk_at dksX3_init_13 11 rfl rfl)
theorem dX3_init_323 : decode cX3_init 323 = .ok (.putfield 129, 3) := dk_181 0 129 (dk_at dksX3_init_13 13 rfl rfl)
theorem dX3_init_326 : decode cX3_init 326 = .ok (.aload_n 0, 1) := dk_42 (dk_at dksX3_init_13 16 rfl rfl)
theorem dX3_init_327 : decode cX3_init 327 = .ok (.sipush 300, 3) := dk_17 1 44 (dk_at dksX3_init_13 17 rfl rfl)
theorem dX3_init_330 : decode cX3_init 330 = .ok (.newarray .long, 2) := dk_188_11 (dk_at dksX3_init_13 20 rfl rfl)
theorem dX3_init_332 : decode cX3_init 332 = .ok (.putfield 133, 3) := dk_181 0 133 (dk_at dksX3_init_14 0 rfl rfl)
theorem dX3_init_335 : decode cX3_init 335 = .ok (.aload_n 0, 1) := dk_42 (dk_at dksX3_init_14 3 rfl rfl)
theorem dX3_init_336 : decode cX3_init 336 = .ok (.sipush 1540, 3) := dk_17 6 4 (dk_at dksX3_init_14 4 rfl rfl)
theorem dX3_init_339 : decode cX3_init 339 = .ok (.newarray .int, 2) := dk_188_10 (dk_at dksX3_init_14 7 rfl rfl)
theorem dX3_init_341 : decode cX3_init 341 = .ok (.putfield 136, 3) := dk_181 0 136 (dk_at dksX3_init_14 9 rfl rfl)
theorem dX3_init_344 : decode cX3_init 344 = .ok (.aload_n 0, 1) := dk_42 (dk_at dksX3_init_14 12 rfl rfl)
theorem dX3_init_345 : decode cX3_init 345 = .ok (.iconst 1, 1) := dk_4 (dk_at dksX3_init_14 13 rfl rfl)
theorem dX3_init_346 : decode cX3_init 346 = .ok (.newarray .int, 2) := dk_188_10 (dk_at dksX3_init_14 14 rfl rfl)
theorem dX3_init_348 : decode cX3_init 348 = .ok (.putfield 139, 3) := dk_181 0 139 (dk_at dksX3_init_14 16 rfl rfl)
theorem dX3_init_351 : decode cX3_init 351 = .ok (.aload_n 0, 1) := dk_42 (dk_at dksX3_init_14 19 rfl rfl)
theorem dX3_init_352 : decode cX3_init 352 = .ok (.bipush 9, 2) := dk_16 9 (dk_at dksX3_init_14 20 rfl rfl)
theorem dX3_init_354 : decode cX3_init 354 = .ok (.newarray .int, 2) := dk_188_10 (dk_at dksX3_init_14 22 rfl rfl)
theorem dX3_init_356 : decode cX3_init 356 = .ok (.putfield 142, 3) := dk_181 0 142 (dk_at dksX3_init_15 0 rfl rfl)
theorem dX3_init_359 : decode cX3_init 359 = .ok (.aload_n 0, 1) := dk_42 (dk_at dksX3_init_15 3 rfl rfl)
theorem dX3_init_360 : decode cX3_init 360 = .ok (.bipush 8, 2) := dk_16 8 (dk_at dksX3_init_15 4 rfl rfl)
theorem dX3_init_362 : decode cX3_init 362 = .ok (.newarray .int, 2) := dk_188_10 (dk_at dksX3_init_15 6 rfl rfl)
theorem dX3_init_364 : decode cX3_init 364 = .ok (.putfield 145, 3) := dk_181 0 145 (dk_at dksX3_init_15 8 rfl rfl)
theorem dX3_init_367 : decode cX3_init 367 = .ok (.aload_n 0, 1) := dk_42 (dk_at dksX3_init_15 11 rfl rfl)
theorem dX3_init_368 : decode cX3_init 368 = .ok (.bipush 7, 2) := dk_16 7 (dk_at dksX3_init_15 12 rfl rfl)
theorem dX3_init_370 : decode cX3_init 370 = .ok (.newarray .int, 2) := dk_188_10 (dk_at dksX3_init_15 14 rfl rfl)
theorem dX3_init_372 : decode cX3_init 372 = .ok (.putfield 148, 3) := dk_181 0 148 (dk_at dksX3_init_15 16 rfl rfl)
theorem dX3_init_375 : decode cX3_init 375 = .ok (.aload_n 0, 1) := dk_42 (dk_at dksX3_init_15 19 rfl rfl)
theorem dX3_init_376 : decode cX3_init 376 = .ok (.bipush 9, 2) := dk_16 9 (dk_at dksX3_init_15 20 rfl rfl)
theorem dX3_init_378 : decode cX3_init 378 = .ok (.newarray .int, 2) := dk_188_10 (dk_at dksX3_init_15 22 rfl rfl)
theorem dX3_init_380 : decode cX3_init 380 = .ok (.putfield 151, 3) := dk_181 0 151 (dk_at dksX3_init_16 0 rfl rfl)
theorem dX3_init_383 : decode cX3_init 383 = .ok (.aload_n 0, 1) := dk_42 (dk_at dksX3_init_16 3 rfl rfl)
theorem dX3_init_384 : decode cX3_init 384 = .ok (.bipush 8, 2) := dk_16 8 (dk_at dksX3_init_16 4 rfl rfl)
theorem dX3_init_386 : decode cX3_init 386 = .ok (.newarray .int, 2) := dk_188_10 (dk_at dksX3_init_16 6 rfl rfl)
theorem dX3_init_388 : decode cX3_init 388 = .ok (.putfield 154, 3) := dk_181 0 154 (dk_at dksX3_init_16 8 rfl rfl)
theorem dX3_init_391 : decode cX3_init 391 = .ok (.aload_n 0, 1) := dk_42 (dk_at dksX3_init_16 11 rfl rfl)
theorem dX3_init_392 : decode cX3_init 392 = .ok (.bipush 8, 2) := dk_16 8 (dk_at dksX3_init_16 12 rfl rfl)
theorem dX3_init_394 : decode cX3_init 394 = .ok (.newarray .int, 2) := dk_188_10 (dk_at dksX3_init_16 14 rfl rfl)
theorem dX3_init_396 : decode cX3_init 396 = .ok (.putfield 157, 3) := dk_181 0 157 (dk_at dksX3_init_16 16 rfl rfl)
theorem dX3_init_399 : decode cX3_init 399 = .ok (.aload_n 0, 1) := dk_42 (dk_at dksX3_init_16 19 rfl rfl)
theorem dX3_init_400 : decode cX3_init 400 = .ok (.bipush 8, 2) := dk_16 8 (dk_at dksX3_init_16 20 rfl rfl)
theorem dX3_init_402 : decode cX3_init 402 = .ok (.newarray .int, 2) := dk_188_10 (dk_at dksX3_init_16 22 rfl rfl)
theorem dX3_init_404 : decode cX3_init 404 = .ok (.putfield 160, 3) := dk_181 0 160 (dk_at dksX3_init_17 0 rfl rfl)
theorem dX3_init_407 : decode cX3_init 407 = .ok (.aload_n 0, 1) := dk_42 (dk_at dksX3_init_17 3 rfl rfl)
theorem dX3_init_408 : decode cX3_init 408 = .ok (.sipush 256, 3) := dk_17 1 0 (dk_at dksX3_init_17 4 rfl rfl)
theorem dX3_init_411 : decode cX3_init 411 = .ok (.newarray .boolean, 2) := dk_188_4 (dk_at dksX3_init_17 7 rfl rfl)
theorem dX3_init_413 : decode cX3_init 413 = .ok (.putfield 163, 3) := dk_181 0 163 (dk_at dksX3_init_17 9 rfl rfl)
theorem dX3_init_416 : decode cX3_init 416 = .ok (.aload_n 0, 1) := dk_42 (dk_at dksX3_init_17 12 rfl rfl)
theorem dX3_init_417 : decode cX3_init 417 = .ok (.sipush 9500, 3) := dk_17 37 28 (dk_at dksX3_init_17 13 rfl rfl)
theorem dX3_init_420 : decode cX3_init 420 = .ok (.newarray .int, 2) := dk_188_10 (dk_at dksX3_init_17 16 rfl rfl)
theorem dX3_init_422 : decode cX3_init 422 = .ok (.putfield 167, 3) := dk_181 0 167 (dk_at dksX3_init_17 18 rfl rfl)
theorem dX3_init_425 : decode cX3_init 425 = .ok (.aload_n 0, 1) := dk_42 (dk_at dksX3_init_17 21 rfl rfl)
theorem dX3_init_426 : decode cX3_init 426 = .ok (.iconst 4, 1) := dk_7 (dk_at dksX3_init_17 22 rfl rfl)
theorem dX3_init_427 : decode cX3_init 427 = .ok (.newarray .boolean, 2) := dk_188_4 (dk_at dksX3_init_18 0 rfl rfl)
theorem dX3_init_429 : decode cX3_init 429 = .ok (.putfield 170, 3) := dk_181 0 170 (dk_at dksX3_init_18 2 rfl rfl)
theorem dX3_init_432 : decode cX3_init 432 = .ok (.return_, 1) := dk_177 (dk_at dksX3_init_18 5 rfl rfl)
abbrev cX3_feed : ByteArray := prog_17_method_12_code
def yX3_feed : MethodName := ⟨RX3, "feed", "(IIIII)I"⟩
def dkwX3_feed_2 : List UInt8 := [172]
abbrev dktX3_feed_2 : List UInt8 := dkwX3_feed_2 ++ []
def dkwX3_feed_1 : List UInt8 := [182, 0, 187, 42, 29, 182, 0, 187, 42, 21, 4, 182, 0, 187, 42, 21, 5, 182, 0, 187, 42, 180, 0, 184]
abbrev dktX3_feed_1 : List UInt8 := dkwX3_feed_1 ++ dktX3_feed_2
def dkwX3_feed_0 : List UInt8 := [42, 180, 0, 184, 16, 20, 96, 17, 1, 144, 164, 0, 5, 2, 172, 42, 27, 182, 0, 187, 42, 28]
abbrev dktX3_feed_0 : List UInt8 := dkwX3_feed_0 ++ dktX3_feed_1
theorem dksX3_feed_0 : cX3_feed.data.toList.drop 0 = dktX3_feed_0 := by decide +kernel
theorem dksX3_feed_1 : cX3_feed.data.toList.drop 22 = dktX3_feed_1 := dk_seg dksX3_feed_0 22 rfl rfl
theorem dksX3_feed_2 : cX3_feed.data.toList.drop 46 = dktX3_feed_2 := dk_seg dksX3_feed_1 24 rfl rfl
theorem dX3_feed_0 : decode cX3_feed 0 = .ok (.aload_n 0, 1) := dk_42 (dk_at dksX3_feed_0 0 rfl rfl)
theorem dX3_feed_1 : decode cX3_feed 1 = .ok (.getfield 184, 3) := dk_180 0 184 (dk_at dksX3_feed_0 1 rfl rfl)
theorem dX3_feed_4 : decode cX3_feed 4 = .ok (.bipush 20, 2) := dk_16 20 (dk_at dksX3_feed_0 4 rfl rfl)
theorem dX3_feed_6 : decode cX3_feed 6 = .ok (.iadd, 1) := dk_96 (dk_at dksX3_feed_0 6 rfl rfl)
theorem dX3_feed_7 : decode cX3_feed 7 = .ok (.sipush 400, 3) := dk_17 1 144 (dk_at dksX3_feed_0 7 rfl rfl)
theorem dX3_feed_10 : decode cX3_feed 10 = .ok (.if_icmp .le 5, 3) := dk_164 0 5 (dk_at dksX3_feed_0 10 rfl rfl)
theorem dX3_feed_13 : decode cX3_feed 13 = .ok (.iconst (-1), 1) := dk_2 (dk_at dksX3_feed_0 13 rfl rfl)
theorem dX3_feed_14 : decode cX3_feed 14 = .ok (.ireturn, 1) := dk_172 (dk_at dksX3_feed_0 14 rfl rfl)
theorem dX3_feed_15 : decode cX3_feed 15 = .ok (.aload_n 0, 1) := dk_42 (dk_at dksX3_feed_0 15 rfl rfl)
theorem dX3_feed_16 : decode cX3_feed 16 = .ok (.iload_n 1, 1) := dk_27 (dk_at dksX3_feed_0 16 rfl rfl)
theorem dX3_feed_17 : decode cX3_feed 17 = .ok (.invokevirtual 187, 3) := dk_182 0 187 (dk_at dksX3_feed_0 17 rfl rfl)
theorem dX3_feed_20 : decode cX3_feed 20 = .ok (.aload_n 0, 1) := dk_42 (dk_at dksX3_feed_0 20 rfl rfl)
theorem dX3_feed_21 : decode cX3_feed 21 = .ok (.iload_n 2, 1) := dk_28 (dk_at dksX3_feed_0 21 rfl rfl)
theorem dX3_feed_22 : decode cX3_feed 22 = .ok (.invokevirtual 187, 3) := dk_182 0 187 (dk_at dksX3_feed_1 0 rfl rfl)
theorem dX3_feed_25 : decode cX3_feed 25 = .ok (.aload_n 0, 1) := dk_42 (dk_at dksX3_feed_1 3 rfl rfl)
theorem dX3_feed_26 : decode cX3_feed 26 = .ok (.iload_n 3, 1) := dk_29 (dk_at dksX3_feed_1 4 rfl rfl)
theorem dX3_feed_27 : decode cX3_feed 27 = .ok (.invokevirtual 187, 3) := dk_182 0 187 (dk_at dksX3_feed_1 5 rfl rfl)
theorem dX3_feed_30 : decode cX3_feed 30 = .ok (.aload_n 0, 1) := dk_42 (dk_at dksX3_feed_1 8 rfl rfl)
theorem dX3_feed_31 : decode cX3_feed 31 = .ok (.iload 4, 2) := dk_21 4 (dk_at dksX3_feed_1 9 rfl rfl)
theorem dX3_feed_33 : decode cX3_feed 33 = .ok (.invokevirtual 187, 3) := dk_182 0 187 (dk_at dksX3_feed_1 11 rfl rfl)
theorem dX3_feed_36 : decode cX3_feed 36 = .ok (.aload_n 0, 1) := dk_42 (dk_at dksX3_feed_1 14 rfl rfl)
theorem dX3_feed_37 : decode cX3_feed 37 = .ok (.iload 5, 2) := dk_21 5 (dk_at dksX3_feed_1 15 rfl rfl)
theorem dX3_feed_39 : decode cX3_feed 39 = .ok (.invokevirtual 187, 3) := dk_182 0 187 (dk_at dksX3_feed_1 17 rfl rfl)
theorem dX3_feed_42 : decode cX3_feed 42 = .ok (.aload_n 0, 1) := dk_42 (dk_at dksX3_feed_1 20 rfl rfl)
theorem dX3_feed_43 : decode cX3_feed 43 = .ok (.getfield 184, 3) := dk_180 0 184 (dk_at dksX3_feed_1 21 rfl rfl)
theorem dX3_feed_46 : decode cX3_feed 46 = .ok (.ireturn, 1) := dk_172 (dk_at dksX3_feed_2 0 rfl rfl)
abbrev cX3_put : ByteArray := prog_17_method_13_code
def yX3_put : MethodName := ⟨RX3, "put", "(I)V"⟩
def dkwX3_put_1 : List UInt8 := [180, 0, 184, 4, 96, 181, 0, 184, 132, 2, 248, 167, 255, 226, 177]
abbrev dktX3_put_1 : List UInt8 := dkwX3_put_1 ++ []
def dkwX3_put_0 : List UInt8 := [16, 24, 61, 28, 155, 0, 32, 42, 180, 0, 104, 42, 180, 0, 184, 27, 28, 122, 145, 84, 42, 89]
abbrev dktX3_put_0 : List UInt8 := dkwX3_put_0 ++ dktX3_put_1
theorem dksX3_put_0 : cX3_put.data.toList.drop 0 = dktX3_put_0 := by decide +kernel
theorem dksX3_put_1 : cX3_put.data.toList.drop 22 = dktX3_put_1 := dk_seg dksX3_put_0 22 rfl rfl
theorem dX3_put_0 : decode cX3_put 0 = .ok (.bipush 24, 2) := dk_16 24 (dk_at dksX3_put_0 0 rfl rfl)
theorem dX3_put_2 : decode cX3_put 2 = .ok (.istore_n 2, 1) := dk_61 (dk_at dksX3_put_0 2 rfl rfl)
theorem dX3_put_3 : decode cX3_put 3 = .ok (.iload_n 2, 1) := dk_28 (dk_at dksX3_put_0 3 rfl rfl)
theorem dX3_put_4 : decode cX3_put 4 = .ok (.ifCond .lt 32, 3) := dk_155 0 32 (dk_at dksX3_put_0 4 rfl rfl)
theorem dX3_put_7 : decode cX3_put 7 = .ok (.aload_n 0, 1) := dk_42 (dk_at dksX3_put_0 7 rfl rfl)
theorem dX3_put_8 : decode cX3_put 8 = .ok (.getfield 104, 3) := dk_180 0 104 (dk_at dksX3_put_0 8 rfl rfl)
theorem dX3_put_11 : decode cX3_put 11 = .ok (.aload_n 0, 1) := dk_42 (dk_at dksX3_put_0 11 rfl rfl)
theorem dX3_put_12 : decode cX3_put 12 = .ok (.getfield 184, 3) := dk_180 0 184 (dk_at dksX3_put_0 12 rfl rfl)
theorem dX3_put_15 : decode cX3_put 15 = .ok (.iload_n 1, 1) := dk_27 (dk_at dksX3_put_0 15 rfl rfl)
theorem dX3_put_16 : decode cX3_put 16 = .ok (.iload_n 2, 1) := dk_28 (dk_at dksX3_put_0 16 rfl rfl)
theorem dX3_put_17 : decode cX3_put 17 = .ok (.ishr, 1) := dk_122 (dk_at dksX3_put_0 17 rfl rfl)
theorem dX3_put_18 : decode cX3_put 18 = .ok (.i2b, 1) := dk_145 (dk_at dksX3_put_0 18 rfl rfl)
theorem dX3_put_19 : decode cX3_put 19 = .ok (.bastore, 1) := dk_84 (dk_at dksX3_put_0 19 rfl rfl)
theorem dX3_put_20 : decode cX3_put 20 = .ok (.aload_n 0, 1) := dk_42 (dk_at dksX3_put_0 20 rfl rfl)
theorem dX3_put_21 : decode cX3_put 21 = .ok (.dup, 1) := dk_89 (dk_at dksX3_put_0 21 rfl rfl)
theorem dX3_put_22 : decode cX3_put 22 = .ok (.getfield 184, 3) := dk_180 0 184 (dk_at dksX3_put_1 0 rfl rfl)
theorem dX3_put_25 : decode cX3_put 25 = .ok (.iconst 1, 1) := dk_4 (dk_at dksX3_put_1 3 rfl rfl)
theorem dX3_put_26 : decode cX3_put 26 = .ok (.iadd, 1) := dk_96 (dk_at dksX3_put_1 4 rfl rfl)
theorem dX3_put_27 : decode cX3_put 27 = .ok (.putfield 184, 3) := dk_181 0 184 (dk_at dksX3_put_1 5 rfl rfl)
theorem dX3_put_30 : decode cX3_put 30 = .ok (.iinc 2 (-8), 3) := dk_132 2 248 (dk_at dksX3_put_1 8 rfl rfl)
theorem dX3_put_33 : decode cX3_put 33 = .ok (.goto (-30), 3) := dk_167 255 226 (dk_at dksX3_put_1 11 rfl rfl)
theorem dX3_put_36 : decode cX3_put 36 = .ok (.return_, 1) := dk_177 (dk_at dksX3_put_1 14 rfl rfl)
abbrev cX3_end : ByteArray := prog_17_method_14_code
def yX3_end : MethodName := ⟨RX3, "end", "(I)I"⟩
def dkwX3_end_0 : List UInt8 := [27, 155, 0, 11, 27, 42, 180, 0, 184, 164, 0, 5, 2, 172, 42, 27, 181, 0, 184, 27, 172]
abbrev dktX3_end_0 : List UInt8 := dkwX3_end_0 ++ []
theorem dksX3_end_0 : cX3_end.data.toList.drop 0 = dktX3_end_0 := by decide +kernel
theorem dX3_end_0 : decode cX3_end 0 = .ok (.iload_n 1, 1) := dk_27 (dk_at dksX3_end_0 0 rfl rfl)
theorem dX3_end_1 : decode cX3_end 1 = .ok (.ifCond .lt 11, 3) := dk_155 0 11 (dk_at dksX3_end_0 1 rfl rfl)
theorem dX3_end_4 : decode cX3_end 4 = .ok (.iload_n 1, 1) := dk_27 (dk_at dksX3_end_0 4 rfl rfl)
theorem dX3_end_5 : decode cX3_end 5 = .ok (.aload_n 0, 1) := dk_42 (dk_at dksX3_end_0 5 rfl rfl)
theorem dX3_end_6 : decode cX3_end 6 = .ok (.getfield 184, 3) := dk_180 0 184 (dk_at dksX3_end_0 6 rfl rfl)
theorem dX3_end_9 : decode cX3_end 9 = .ok (.if_icmp .le 5, 3) := dk_164 0 5 (dk_at dksX3_end_0 9 rfl rfl)
theorem dX3_end_12 : decode cX3_end 12 = .ok (.iconst (-1), 1) := dk_2 (dk_at dksX3_end_0 12 rfl rfl)
theorem dX3_end_13 : decode cX3_end 13 = .ok (.ireturn, 1) := dk_172 (dk_at dksX3_end_0 13 rfl rfl)
theorem dX3_end_14 : decode cX3_end 14 = .ok (.aload_n 0, 1) := dk_42 (dk_at dksX3_end_0 14 rfl rfl)
theorem dX3_end_15 : decode cX3_end 15 = .ok (.iload_n 1, 1) := dk_27 (dk_at dksX3_end_0 15 rfl rfl)
theorem dX3_end_16 : decode cX3_end 16 = .ok (.putfield 184, 3) := dk_181 0 184 (dk_at dksX3_end_0 16 rfl rfl)
theorem dX3_end_19 : decode cX3_end 19 = .ok (.iload_n 1, 1) := dk_27 (dk_at dksX3_end_0 19 rfl rfl)
theorem dX3_end_20 : decode cX3_end 20 = .ok (.ireturn, 1) := dk_172 (dk_at dksX3_end_0 20 rfl rfl)
abbrev cX3_river : ByteArray := prog_17_method_46_code
def yX3_river : MethodName := ⟨RX3, "river", "()I"⟩
def dkwX3_river_10 : List UInt8 := [181, 1, 103, 42, 180, 0, 9, 6, 46, 172]
abbrev dktX3_river_10 : List UInt8 := dkwX3_river_10 ++ []
def dkwX3_river_9 : List UInt8 := [42, 180, 0, 34, 27, 3, 79, 42, 180, 0, 37, 27, 16, 254, 79, 132, 1, 1, 167, 255, 232, 42, 3]
abbrev dktX3_river_9 : List UInt8 := dkwX3_river_9 ++ dktX3_river_10
def dkwX3_river_8 : List UInt8 := [162, 0, 16, 42, 180, 0, 19, 27, 3, 79, 132, 1, 1, 167, 255, 240, 3, 60, 27, 16, 8, 162, 0, 24]
abbrev dktX3_river_8 : List UInt8 := dkwX3_river_8 ++ dktX3_river_9
def dkwX3_river_7 : List UInt8 := [180, 0, 49, 184, 1, 99, 42, 180, 0, 97, 42, 180, 0, 52, 184, 1, 99, 3, 60, 27, 16, 6]
abbrev dktX3_river_7 : List UInt8 := dkwX3_river_7 ++ dktX3_river_8
def dkwX3_river_6 : List UInt8 := [180, 0, 43, 184, 1, 99, 42, 180, 0, 91, 42, 180, 0, 46, 184, 1, 99, 42, 180, 0, 94, 42]
abbrev dktX3_river_6 : List UInt8 := dkwX3_river_6 ++ dktX3_river_7
def dkwX3_river_5 : List UInt8 := [180, 0, 31, 184, 1, 99, 42, 180, 0, 85, 42, 180, 0, 40, 184, 1, 99, 42, 180, 0, 88, 42]
abbrev dktX3_river_5 : List UInt8 := dkwX3_river_5 ++ dktX3_river_6
def dkwX3_river_4 : List UInt8 := [180, 0, 25, 184, 1, 99, 42, 180, 0, 79, 42, 180, 0, 28, 184, 1, 99, 42, 180, 0, 82, 42]
abbrev dktX3_river_4 : List UInt8 := dkwX3_river_4 ++ dktX3_river_5
def dkwX3_river_3 : List UInt8 := [180, 0, 16, 184, 1, 99, 42, 180, 0, 73, 42, 180, 0, 22, 184, 1, 99, 42, 180, 0, 76, 42]
abbrev dktX3_river_3 : List UInt8 := dkwX3_river_3 ++ dktX3_river_4
def dkwX3_river_2 : List UInt8 := [79, 132, 1, 1, 167, 255, 225, 42, 180, 0, 67, 42, 180, 0, 13, 184, 1, 99, 42, 180, 0, 70, 42]
abbrev dktX3_river_2 : List UInt8 := dkwX3_river_2 ++ dktX3_river_3
def dkwX3_river_1 : List UInt8 := [162, 0, 31, 42, 180, 0, 9, 27, 27, 16, 6, 162, 0, 12, 42, 180, 0, 64, 27, 46, 167, 0, 4, 3]
abbrev dktX3_river_1 : List UInt8 := dkwX3_river_1 ++ dktX3_river_2
def dkwX3_river_0 : List UInt8 := [42, 182, 1, 96, 42, 180, 0, 212, 158, 0, 11, 16, 254, 42, 180, 0, 212, 100, 172, 3, 60, 27, 16, 8]
abbrev dktX3_river_0 : List UInt8 := dkwX3_river_0 ++ dktX3_river_1
theorem dksX3_river_0 : cX3_river.data.toList.drop 0 = dktX3_river_0 := by decide +kernel
theorem dksX3_river_1 : cX3_river.data.toList.drop 24 = dktX3_river_1 := dk_seg dksX3_river_0 24 rfl rfl
theorem dksX3_river_2 : cX3_river.data.toList.drop 48 = dktX3_river_2 := dk_seg dksX3_river_1 24 rfl rfl
theorem dksX3_river_3 : cX3_river.data.toList.drop 71 = dktX3_river_3 := dk_seg dksX3_river_2 23 rfl rfl
theorem dksX3_river_4 : cX3_river.data.toList.drop 93 = dktX3_river_4 := dk_seg dksX3_river_3 22 rfl rfl
theorem dksX3_river_5 : cX3_river.data.toList.drop 115 = dktX3_river_5 := dk_seg dksX3_river_4 22 rfl rfl
theorem dksX3_river_6 : cX3_river.data.toList.drop 137 = dktX3_river_6 := dk_seg dksX3_river_5 22 rfl rfl
theorem dksX3_river_7 : cX3_river.data.toList.drop 159 = dktX3_river_7 := dk_seg dksX3_river_6 22 rfl rfl
theorem dksX3_river_8 : cX3_river.data.toList.drop 181 = dktX3_river_8 := dk_seg dksX3_river_7 22 rfl rfl
theorem dksX3_river_9 : cX3_river.data.toList.drop 205 = dktX3_river_9 := dk_seg dksX3_river_8 24 rfl rfl
theorem dksX3_river_10 : cX3_river.data.toList.drop 228 = dktX3_river_10 := dk_seg dksX3_river_9 23 rfl rfl
theorem dX3_river_0 : decode cX3_river 0 = .ok (.aload_n 0, 1) := dk_42 (dk_at dksX3_river_0 0 rfl rfl)
theorem dX3_river_1 : decode cX3_river 1 = .ok (.invokevirtual 352, 3) := dk_182 1 96 (dk_at dksX3_river_0 1 rfl rfl)
theorem dX3_river_4 : decode cX3_river 4 = .ok (.aload_n 0, 1) := dk_42 (dk_at dksX3_river_0 4 rfl rfl)
theorem dX3_river_5 : decode cX3_river 5 = .ok (.getfield 212, 3) := dk_180 0 212 (dk_at dksX3_river_0 5 rfl rfl)
theorem dX3_river_8 : decode cX3_river 8 = .ok (.ifCond .le 11, 3) := dk_158 0 11 (dk_at dksX3_river_0 8 rfl rfl)
theorem dX3_river_11 : decode cX3_river 11 = .ok (.bipush (-2), 2) := dk_16 254 (dk_at dksX3_river_0 11 rfl rfl)
theorem dX3_river_13 : decode cX3_river 13 = .ok (.aload_n 0, 1) := dk_42 (dk_at dksX3_river_0 13 rfl rfl)
theorem dX3_river_14 : decode cX3_river 14 = .ok (.getfield 212, 3) := dk_180 0 212 (dk_at dksX3_river_0 14 rfl rfl)
theorem dX3_river_17 : decode cX3_river 17 = .ok (.isub, 1) := dk_100 (dk_at dksX3_river_0 17 rfl rfl)
theorem dX3_river_18 : decode cX3_river 18 = .ok (.ireturn, 1) := dk_172 (dk_at dksX3_river_0 18 rfl rfl)
theorem dX3_river_19 : decode cX3_river 19 = .ok (.iconst 0, 1) := dk_3 (dk_at dksX3_river_0 19 rfl rfl)
theorem dX3_river_20 : decode cX3_river 20 = .ok (.istore_n 1, 1) := dk_60 (dk_at dksX3_river_0 20 rfl rfl)
theorem dX3_river_21 : decode cX3_river 21 = .ok (.iload_n 1, 1) := dk_27 (dk_at dksX3_river_0 21 rfl rfl)
theorem dX3_river_22 : decode cX3_river 22 = .ok (.bipush 8, 2) := dk_16 8 (dk_at dksX3_river_0 22 rfl rfl)
theorem dX3_river_24 : decode cX3_river 24 = .ok (.if_icmp .ge 31, 3) := dk_162 0 31 (dk_at dksX3_river_1 0 rfl rfl)
theorem dX3_river_27 : decode cX3_river 27 = .ok (.aload_n 0, 1) := dk_42 (dk_at dksX3_river_1 3 rfl rfl)
theorem dX3_river_28 : decode cX3_river 28 = .ok (.getfield 9, 3) := dk_180 0 9 (dk_at dksX3_river_1 4 rfl rfl)
theorem dX3_river_31 : decode cX3_river 31 = .ok (.iload_n 1, 1) := dk_27 (dk_at dksX3_river_1 7 rfl rfl)
theorem dX3_river_32 : decode cX3_river 32 = .ok (.iload_n 1, 1) := dk_27 (dk_at dksX3_river_1 8 rfl rfl)
theorem dX3_river_33 : decode cX3_river 33 = .ok (.bipush 6, 2) := dk_16 6 (dk_at dksX3_river_1 9 rfl rfl)
theorem dX3_river_35 : decode cX3_river 35 = .ok (.if_icmp .ge 12, 3) := dk_162 0 12 (dk_at dksX3_river_1 11 rfl rfl)
theorem dX3_river_38 : decode cX3_river 38 = .ok (.aload_n 0, 1) := dk_42 (dk_at dksX3_river_1 14 rfl rfl)
theorem dX3_river_39 : decode cX3_river 39 = .ok (.getfield 64, 3) := dk_180 0 64 (dk_at dksX3_river_1 15 rfl rfl)
theorem dX3_river_42 : decode cX3_river 42 = .ok (.iload_n 1, 1) := dk_27 (dk_at dksX3_river_1 18 rfl rfl)
theorem dX3_river_43 : decode cX3_river 43 = .ok (.iaload, 1) := dk_46 (dk_at dksX3_river_1 19 rfl rfl)
theorem dX3_river_44 : decode cX3_river 44 = .ok (.goto 4, 3) := dk_167 0 4 (dk_at dksX3_river_1 20 rfl rfl)
theorem dX3_river_47 : decode cX3_river 47 = .ok (.iconst 0, 1) := dk_3 (dk_at dksX3_river_1 23 rfl rfl)
theorem dX3_river_48 : decode cX3_river 48 = .ok (.iastore, 1) := dk_79 (dk_at dksX3_river_2 0 rfl rfl)
theorem dX3_river_49 : decode cX3_river 49 = .ok (.iinc 1 1, 3) := dk_132 1 1 (dk_at dksX3_river_2 1 rfl rfl)
theorem dX3_river_52 : decode cX3_river 52 = .ok (.goto (-31), 3) := dk_167 255 225 (dk_at dksX3_river_2 4 rfl rfl)
theorem dX3_river_55 : decode cX3_river 55 = .ok (.aload_n 0, 1) := dk_42 (dk_at dksX3_river_2 7 rfl rfl)
theorem dX3_river_56 : decode cX3_river 56 = .ok (.getfield 67, 3) := dk_180 0 67 (dk_at dksX3_river_2 8 rfl rfl)
theorem dX3_river_59 : decode cX3_river 59 = .ok (.aload_n 0, 1) := dk_42 (dk_at dksX3_river_2 11 rfl rfl)
theorem dX3_river_60 : decode cX3_river 60 = .ok (.getfield 13, 3) := dk_180 0 13 (dk_at dksX3_river_2 12 rfl rfl)
theorem dX3_river_63 : decode cX3_river 63 = .ok (.invokestatic 355, 3) := dk_184 1 99 (dk_at dksX3_river_2 15 rfl rfl)
theorem dX3_river_66 : decode cX3_river 66 = .ok (.aload_n 0, 1) := dk_42 (dk_at dksX3_river_2 18 rfl rfl)
theorem dX3_river_67 : decode cX3_river 67 = .ok (.getfield 70, 3) := dk_180 0 70 (dk_at dksX3_river_2 19 rfl rfl)
theorem dX3_river_70 : decode cX3_river 70 = .ok (.aload_n 0, 1) := dk_42 (dk_at dksX3_river_2 22 rfl rfl)
theorem dX3_river_71 : decode cX3_river 71 = .ok (.getfield 16, 3) := dk_180 0 16 (dk_at dksX3_river_3 0 rfl rfl)
theorem dX3_river_74 : decode cX3_river 74 = .ok (.invokestatic 355, 3) := dk_184 1 99 (dk_at dksX3_river_3 3 rfl rfl)
theorem dX3_river_77 : decode cX3_river 77 = .ok (.aload_n 0, 1) := dk_42 (dk_at dksX3_river_3 6 rfl rfl)
theorem dX3_river_78 : decode cX3_river 78 = .ok (.getfield 73, 3) := dk_180 0 73 (dk_at dksX3_river_3 7 rfl rfl)
theorem dX3_river_81 : decode cX3_river 81 = .ok (.aload_n 0, 1) := dk_42 (dk_at dksX3_river_3 10 rfl rfl)
theorem dX3_river_82 : decode cX3_river 82 = .ok (.getfield 22, 3) := dk_180 0 22 (dk_at dksX3_river_3 11 rfl rfl)
theorem dX3_river_85 : decode cX3_river 85 = .ok (.invokestatic 355, 3) := dk_184 1 99 (dk_at dksX3_river_3 14 rfl rfl)
theorem dX3_river_88 : decode cX3_river 88 = .ok (.aload_n 0, 1) := dk_42 (dk_at dksX3_river_3 17 rfl rfl)
theorem dX3_river_89 : decode cX3_river 89 = .ok (.getfield 76, 3) := dk_180 0 76 (dk_at dksX3_river_3 18 rfl rfl)
theorem dX3_river_92 : decode cX3_river 92 = .ok (.aload_n 0, 1) := dk_42 (dk_at dksX3_river_3 21 rfl rfl)
theorem dX3_river_93 : decode cX3_river 93 = .ok (.getfield 25, 3) := dk_180 0 25 (dk_at dksX3_river_4 0 rfl rfl)
theorem dX3_river_96 : decode cX3_river 96 = .ok (.invokestatic 355, 3) := dk_184 1 99 (dk_at dksX3_river_4 3 rfl rfl)
theorem dX3_river_99 : decode cX3_river 99 = .ok (.aload_n 0, 1) := dk_42 (dk_at dksX3_river_4 6 rfl rfl)
theorem dX3_river_100 : decode cX3_river 100 = .ok (.getfield 79, 3) := dk_180 0 79 (dk_at dksX3_river_4 7 rfl rfl)
theorem dX3_river_103 : decode cX3_river 103 = .ok (.aload_n 0, 1) := dk_42 (dk_at dksX3_river_4 10 rfl rfl)
theorem dX3_river_104 : decode cX3_river 104 = .ok (.getfield 28, 3) := dk_180 0 28 (dk_at dksX3_river_4 11 rfl rfl)
theorem dX3_river_107 : decode cX3_river 107 = .ok (.invokestatic 355, 3) := dk_184 1 99 (dk_at dksX3_river_4 14 rfl rfl)
theorem dX3_river_110 : decode cX3_river 110 = .ok (.aload_n 0, 1) := dk_42 (dk_at dksX3_river_4 17 rfl rfl)
theorem dX3_river_111 : decode cX3_river 111 = .ok (.getfield 82, 3) := dk_180 0 82 (dk_at dksX3_river_4 18 rfl rfl)
theorem dX3_river_114 : decode cX3_river 114 = .ok (.aload_n 0, 1) := dk_42 (dk_at dksX3_river_4 21 rfl rfl)
theorem dX3_river_115 : decode cX3_river 115 = .ok (.getfield 31, 3) := dk_180 0 31 (dk_at dksX3_river_5 0 rfl rfl)
theorem dX3_river_118 : decode cX3_river 118 = .ok (.invokestatic 355, 3) := dk_184 1 99 (dk_at dksX3_river_5 3 rfl rfl)
theorem dX3_river_121 : decode cX3_river 121 = .ok (.aload_n 0, 1) := dk_42 (dk_at dksX3_river_5 6 rfl rfl)
theorem dX3_river_122 : decode cX3_river 122 = .ok (.getfield 85, 3) := dk_180 0 85 (dk_at dksX3_river_5 7 rfl rfl)
theorem dX3_river_125 : decode cX3_river 125 = .ok (.aload_n 0, 1) := dk_42 (dk_at dksX3_river_5 10 rfl rfl)
theorem dX3_river_126 : decode cX3_river 126 = .ok (.getfield 40, 3) := dk_180 0 40 (dk_at dksX3_river_5 11 rfl rfl)
theorem dX3_river_129 : decode cX3_river 129 = .ok (.invokestatic 355, 3) := dk_184 1 99 (dk_at dksX3_river_5 14 rfl rfl)
theorem dX3_river_132 : decode cX3_river 132 = .ok (.aload_n 0, 1) := dk_42 (dk_at dksX3_river_5 17 rfl rfl)
theorem dX3_river_133 : decode cX3_river 133 = .ok (.getfield 88, 3) := dk_180 0 88 (dk_at dksX3_river_5 18 rfl rfl)
theorem dX3_river_136 : decode cX3_river 136 = .ok (.aload_n 0, 1) := dk_42 (dk_at dksX3_river_5 21 rfl rfl)
theorem dX3_river_137 : decode cX3_river 137 = .ok (.getfield 43, 3) := dk_180 0 43 (dk_at dksX3_river_6 0 rfl rfl)
theorem dX3_river_140 : decode cX3_river 140 = .ok (.invokestatic 355, 3) := dk_184 1 99 (dk_at dksX3_river_6 3 rfl rfl)
theorem dX3_river_143 : decode cX3_river 143 = .ok (.aload_n 0, 1) := dk_42 (dk_at dksX3_river_6 6 rfl rfl)
theorem dX3_river_144 : decode cX3_river 144 = .ok (.getfield 91, 3) := dk_180 0 91 (dk_at dksX3_river_6 7 rfl rfl)
theorem dX3_river_147 : decode cX3_river 147 = .ok (.aload_n 0, 1) := dk_42 (dk_at dksX3_river_6 10 rfl rfl)
theorem dX3_river_148 : decode cX3_river 148 = .ok (.getfield 46, 3) := dk_180 0 46 (dk_at dksX3_river_6 11 rfl rfl)
theorem dX3_river_151 : decode cX3_river 151 = .ok (.invokestatic 355, 3) := dk_184 1 99 (dk_at dksX3_river_6 14 rfl rfl)
theorem dX3_river_154 : decode cX3_river 154 = .ok (.aload_n 0, 1) := dk_42 (dk_at dksX3_river_6 17 rfl rfl)
theorem dX3_river_155 : decode cX3_river 155 = .ok (.getfield 94, 3) := dk_180 0 94 (dk_at dksX3_river_6 18 rfl rfl)
theorem dX3_river_158 : decode cX3_river 158 = .ok (.aload_n 0, 1) := dk_42 (dk_at dksX3_river_6 21 rfl rfl)
theorem dX3_river_159 : decode cX3_river 159 = .ok (.getfield 49, 3) := dk_180 0 49 (dk_at dksX3_river_7 0 rfl rfl)
theorem dX3_river_162 : decode cX3_river 162 = .ok (.invokestatic 355, 3) := dk_184 1 99 (dk_at dksX3_river_7 3 rfl rfl)
theorem dX3_river_165 : decode cX3_river 165 = .ok (.aload_n 0, 1) := dk_42 (dk_at dksX3_river_7 6 rfl rfl)
theorem dX3_river_166 : decode cX3_river 166 = .ok (.getfield 97, 3) := dk_180 0 97 (dk_at dksX3_river_7 7 rfl rfl)
theorem dX3_river_169 : decode cX3_river 169 = .ok (.aload_n 0, 1) := dk_42 (dk_at dksX3_river_7 10 rfl rfl)
theorem dX3_river_170 : decode cX3_river 170 = .ok (.getfield 52, 3) := dk_180 0 52 (dk_at dksX3_river_7 11 rfl rfl)
theorem dX3_river_173 : decode cX3_river 173 = .ok (.invokestatic 355, 3) := dk_184 1 99 (dk_at dksX3_river_7 14 rfl rfl)
theorem dX3_river_176 : decode cX3_river 176 = .ok (.iconst 0, 1) := dk_3 (dk_at dksX3_river_7 17 rfl rfl)
theorem dX3_river_177 : decode cX3_river 177 = .ok (.istore_n 1, 1) := dk_60 (dk_at dksX3_river_7 18 rfl rfl)
theorem dX3_river_178 : decode cX3_river 178 = .ok (.iload_n 1, 1) := dk_27 (dk_at dksX3_river_7 19 rfl rfl)
theorem dX3_river_179 : decode cX3_river 179 = .ok (.bipush 6, 2) := dk_16 6 (dk_at dksX3_river_7 20 rfl rfl)
theorem dX3_river_181 : decode cX3_river 181 = .ok (.if_icmp .ge 16, 3) := dk_162 0 16 (dk_at dksX3_river_8 0 rfl rfl)
theorem dX3_river_184 : decode cX3_river 184 = .ok (.aload_n 0, 1) := dk_42 (dk_at dksX3_river_8 3 rfl rfl)
theorem dX3_river_185 : decode cX3_river 185 = .ok (.getfield 19, 3) := dk_180 0 19 (dk_at dksX3_river_8 4 rfl rfl)
theorem dX3_river_188 : decode cX3_river 188 = .ok (.iload_n 1, 1) := dk_27 (dk_at dksX3_river_8 7 rfl rfl)
theorem dX3_river_189 : decode cX3_river 189 = .ok (.iconst 0, 1) := dk_3 (dk_at dksX3_river_8 8 rfl rfl)
theorem dX3_river_190 : decode cX3_river 190 = .ok (.iastore, 1) := dk_79 (dk_at dksX3_river_8 9 rfl rfl)
theorem dX3_river_191 : decode cX3_river 191 = .ok (.iinc 1 1, 3) := dk_132 1 1 (dk_at dksX3_river_8 10 rfl rfl)
theorem dX3_river_194 : decode cX3_river 194 = .ok (.goto (-16), 3) := dk_167 255 240 (dk_at dksX3_river_8 13 rfl rfl)
theorem dX3_river_197 : decode cX3_river 197 = .ok (.iconst 0, 1) := dk_3 (dk_at dksX3_river_8 16 rfl rfl)
theorem dX3_river_198 : decode cX3_river 198 = .ok (.istore_n 1, 1) := dk_60 (dk_at dksX3_river_8 17 rfl rfl)
theorem dX3_river_199 : decode cX3_river 199 = .ok (.iload_n 1, 1) := dk_27 (dk_at dksX3_river_8 18 rfl rfl)
theorem dX3_river_200 : decode cX3_river 200 = .ok (.bipush 8, 2) := dk_16 8 (dk_at dksX3_river_8 19 rfl rfl)
theorem dX3_river_202 : decode cX3_river 202 = .ok (.if_icmp .ge 24, 3) := dk_162 0 24 (dk_at dksX3_river_8 21 rfl rfl)
theorem dX3_river_205 : decode cX3_river 205 = .ok (.aload_n 0, 1) := dk_42 (dk_at dksX3_river_9 0 rfl rfl)
theorem dX3_river_206 : decode cX3_river 206 = .ok (.getfield 34, 3) := dk_180 0 34 (dk_at dksX3_river_9 1 rfl rfl)
theorem dX3_river_209 : decode cX3_river 209 = .ok (.iload_n 1, 1) := dk_27 (dk_at dksX3_river_9 4 rfl rfl)
theorem dX3_river_210 : decode cX3_river 210 = .ok (.iconst 0, 1) := dk_3 (dk_at dksX3_river_9 5 rfl rfl)
theorem dX3_river_211 : decode cX3_river 211 = .ok (.iastore, 1) := dk_79 (dk_at dksX3_river_9 6 rfl rfl)
theorem dX3_river_212 : decode cX3_river 212 = .ok (.aload_n 0, 1) := dk_42 (dk_at dksX3_river_9 7 rfl rfl)
theorem dX3_river_213 : decode cX3_river 213 = .ok (.getfield 37, 3) := dk_180 0 37 (dk_at dksX3_river_9 8 rfl rfl)
theorem dX3_river_216 : decode cX3_river 216 = .ok (.iload_n 1, 1) := dk_27 (dk_at dksX3_river_9 11 rfl rfl)
theorem dX3_river_217 : decode cX3_river 217 = .ok (.bipush (-2), 2) := dk_16 254 (dk_at dksX3_river_9 12 rfl rfl)
theorem dX3_river_219 : decode cX3_river 219 = .ok (.iastore, 1) := dk_79 (dk_at dksX3_river_9 14 rfl rfl)
theorem dX3_river_220 : decode cX3_river 220 = .ok (.iinc 1 1, 3) := dk_132 1 1 (dk_at dksX3_river_9 15 rfl rfl)
theorem dX3_river_223 : decode cX3_river 223 = .ok (.goto (-24), 3) := dk_167 255 232 (dk_at dksX3_river_9 18 rfl rfl)
theorem dX3_river_226 : decode cX3_river 226 = .ok (.aload_n 0, 1) := dk_42 (dk_at dksX3_river_9 21 rfl rfl)
theorem dX3_river_227 : decode cX3_river 227 = .ok (.iconst 0, 1) := dk_3 (dk_at dksX3_river_9 22 rfl rfl)
theorem dX3_river_228 : decode cX3_river 228 = .ok (.putfield 359, 3) := dk_181 1 103 (dk_at dksX3_river_10 0 rfl rfl)
theorem dX3_river_231 : decode cX3_river 231 = .ok (.aload_n 0, 1) := dk_42 (dk_at dksX3_river_10 3 rfl rfl)
theorem dX3_river_232 : decode cX3_river 232 = .ok (.getfield 9, 3) := dk_180 0 9 (dk_at dksX3_river_10 4 rfl rfl)
theorem dX3_river_235 : decode cX3_river 235 = .ok (.iconst 3, 1) := dk_6 (dk_at dksX3_river_10 7 rfl rfl)
theorem dX3_river_236 : decode cX3_river 236 = .ok (.iaload, 1) := dk_46 (dk_at dksX3_river_10 8 rfl rfl)
theorem dX3_river_237 : decode cX3_river 237 = .ok (.ireturn, 1) := dk_172 (dk_at dksX3_river_10 9 rfl rfl)
abbrev cX3_readsAll : ByteArray := prog_17_method_45_code
def yX3_readsAll : MethodName := ⟨RX3, "readsAll", "()V"⟩
def dkwX3_readsAll_2 : List UInt8 := [167, 255, 239, 42, 3, 181, 0, 184, 177]
abbrev dktX3_readsAll_2 : List UInt8 := dkwX3_readsAll_2 ++ []
def dkwX3_readsAll_1 : List UInt8 := [167, 255, 240, 3, 60, 4, 61, 28, 153, 0, 19, 42, 27, 182, 1, 90, 132, 1, 1, 42, 182, 1, 93, 61]
abbrev dktX3_readsAll_1 : List UInt8 := dkwX3_readsAll_1 ++ dktX3_readsAll_2
def dkwX3_readsAll_0 : List UInt8 := [42, 182, 1, 87, 3, 60, 27, 16, 6, 162, 0, 16, 42, 180, 0, 64, 27, 3, 79, 132, 1, 1]
abbrev dktX3_readsAll_0 : List UInt8 := dkwX3_readsAll_0 ++ dktX3_readsAll_1
theorem dksX3_readsAll_0 : cX3_readsAll.data.toList.drop 0 = dktX3_readsAll_0 := by decide +kernel
theorem dksX3_readsAll_1 : cX3_readsAll.data.toList.drop 22 = dktX3_readsAll_1 := dk_seg dksX3_readsAll_0 22 rfl rfl
theorem dksX3_readsAll_2 : cX3_readsAll.data.toList.drop 46 = dktX3_readsAll_2 := dk_seg dksX3_readsAll_1 24 rfl rfl
theorem dX3_readsAll_0 : decode cX3_readsAll 0 = .ok (.aload_n 0, 1) := dk_42 (dk_at dksX3_readsAll_0 0 rfl rfl)
theorem dX3_readsAll_1 : decode cX3_readsAll 1 = .ok (.invokevirtual 343, 3) := dk_182 1 87 (dk_at dksX3_readsAll_0 1 rfl rfl)
theorem dX3_readsAll_4 : decode cX3_readsAll 4 = .ok (.iconst 0, 1) := dk_3 (dk_at dksX3_readsAll_0 4 rfl rfl)
theorem dX3_readsAll_5 : decode cX3_readsAll 5 = .ok (.istore_n 1, 1) := dk_60 (dk_at dksX3_readsAll_0 5 rfl rfl)
theorem dX3_readsAll_6 : decode cX3_readsAll 6 = .ok (.iload_n 1, 1) := dk_27 (dk_at dksX3_readsAll_0 6 rfl rfl)
theorem dX3_readsAll_7 : decode cX3_readsAll 7 = .ok (.bipush 6, 2) := dk_16 6 (dk_at dksX3_readsAll_0 7 rfl rfl)
theorem dX3_readsAll_9 : decode cX3_readsAll 9 = .ok (.if_icmp .ge 16, 3) := dk_162 0 16 (dk_at dksX3_readsAll_0 9 rfl rfl)
theorem dX3_readsAll_12 : decode cX3_readsAll 12 = .ok (.aload_n 0, 1) := dk_42 (dk_at dksX3_readsAll_0 12 rfl rfl)
theorem dX3_readsAll_13 : decode cX3_readsAll 13 = .ok (.getfield 64, 3) := dk_180 0 64 (dk_at dksX3_readsAll_0 13 rfl rfl)
theorem dX3_readsAll_16 : decode cX3_readsAll 16 = .ok (.iload_n 1, 1) := dk_27 (dk_at dksX3_readsAll_0 16 rfl rfl)
theorem dX3_readsAll_17 : decode cX3_readsAll 17 = .ok (.iconst 0, 1) := dk_3 (dk_at dksX3_readsAll_0 17 rfl rfl)
theorem dX3_readsAll_18 : decode cX3_readsAll 18 = .ok (.iastore, 1) := dk_79 (dk_at dksX3_readsAll_0 18 rfl rfl)
theorem dX3_readsAll_19 : decode cX3_readsAll 19 = .ok (.iinc 1 1, 3) := dk_132 1 1 (dk_at dksX3_readsAll_0 19 rfl rfl)
theorem dX3_readsAll_22 : decode cX3_readsAll 22 = .ok (.goto (-16), 3) := dk_167 255 240 (dk_at dksX3_readsAll_1 0 rfl rfl)
theorem dX3_readsAll_25 : decode cX3_readsAll 25 = .ok (.iconst 0, 1) := dk_3 (dk_at dksX3_readsAll_1 3 rfl rfl)
theorem dX3_readsAll_26 : decode cX3_readsAll 26 = .ok (.istore_n 1, 1) := dk_60 (dk_at dksX3_readsAll_1 4 rfl rfl)
theorem dX3_readsAll_27 : decode cX3_readsAll 27 = .ok (.iconst 1, 1) := dk_4 (dk_at dksX3_readsAll_1 5 rfl rfl)
theorem dX3_readsAll_28 : decode cX3_readsAll 28 = .ok (.istore_n 2, 1) := dk_61 (dk_at dksX3_readsAll_1 6 rfl rfl)
theorem dX3_readsAll_29 : decode cX3_readsAll 29 = .ok (.iload_n 2, 1) := dk_28 (dk_at dksX3_readsAll_1 7 rfl rfl)
theorem dX3_readsAll_30 : decode cX3_readsAll 30 = .ok (.ifCond .eq 19, 3) := dk_153 0 19 (dk_at dksX3_readsAll_1 8 rfl rfl)
theorem dX3_readsAll_33 : decode cX3_readsAll 33 = .ok (.aload_n 0, 1) := dk_42 (dk_at dksX3_readsAll_1 11 rfl rfl)
theorem dX3_readsAll_34 : decode cX3_readsAll 34 = .ok (.iload_n 1, 1) := dk_27 (dk_at dksX3_readsAll_1 12 rfl rfl)
theorem dX3_readsAll_35 : decode cX3_readsAll 35 = .ok (.invokevirtual 346, 3) := dk_182 1 90 (dk_at dksX3_readsAll_1 13 rfl rfl)
theorem dX3_readsAll_38 : decode cX3_readsAll 38 = .ok (.iinc 1 1, 3) := dk_132 1 1 (dk_at dksX3_readsAll_1 16 rfl rfl)
theorem dX3_readsAll_41 : decode cX3_readsAll 41 = .ok (.aload_n 0, 1) := dk_42 (dk_at dksX3_readsAll_1 19 rfl rfl)
theorem dX3_readsAll_42 : decode cX3_readsAll 42 = .ok (.invokevirtual 349, 3) := dk_182 1 93 (dk_at dksX3_readsAll_1 20 rfl rfl)
theorem dX3_readsAll_45 : decode cX3_readsAll 45 = .ok (.istore_n 2, 1) := dk_61 (dk_at dksX3_readsAll_1 23 rfl rfl)
theorem dX3_readsAll_46 : decode cX3_readsAll 46 = .ok (.goto (-17), 3) := dk_167 255 239 (dk_at dksX3_readsAll_2 0 rfl rfl)
theorem dX3_readsAll_49 : decode cX3_readsAll 49 = .ok (.aload_n 0, 1) := dk_42 (dk_at dksX3_readsAll_2 3 rfl rfl)
theorem dX3_readsAll_50 : decode cX3_readsAll 50 = .ok (.iconst 0, 1) := dk_3 (dk_at dksX3_readsAll_2 4 rfl rfl)
theorem dX3_readsAll_51 : decode cX3_readsAll 51 = .ok (.putfield 184, 3) := dk_181 0 184 (dk_at dksX3_readsAll_2 5 rfl rfl)
theorem dX3_readsAll_54 : decode cX3_readsAll 54 = .ok (.return_, 1) := dk_177 (dk_at dksX3_readsAll_2 8 rfl rfl)
abbrev cX3_starts : ByteArray := prog_17_method_44_code
def yX3_starts : MethodName := ⟨RX3, "starts", "()V"⟩
def dkwX3_starts_1 : List UInt8 := [181, 0, 248, 177]
abbrev dktX3_starts_1 : List UInt8 := dkwX3_starts_1 ++ []
def dkwX3_starts_0 : List UInt8 := [42, 3, 181, 0, 215, 42, 3, 181, 0, 212, 42, 3, 181, 0, 245, 42, 3, 181, 1, 30, 42, 3]
abbrev dktX3_starts_0 : List UInt8 := dkwX3_starts_0 ++ dktX3_starts_1
theorem dksX3_starts_0 : cX3_starts.data.toList.drop 0 = dktX3_starts_0 := by decide +kernel
theorem dksX3_starts_1 : cX3_starts.data.toList.drop 22 = dktX3_starts_1 := dk_seg dksX3_starts_0 22 rfl rfl
theorem dX3_starts_0 : decode cX3_starts 0 = .ok (.aload_n 0, 1) := dk_42 (dk_at dksX3_starts_0 0 rfl rfl)
theorem dX3_starts_1 : decode cX3_starts 1 = .ok (.iconst 0, 1) := dk_3 (dk_at dksX3_starts_0 1 rfl rfl)
theorem dX3_starts_2 : decode cX3_starts 2 = .ok (.putfield 215, 3) := dk_181 0 215 (dk_at dksX3_starts_0 2 rfl rfl)
theorem dX3_starts_5 : decode cX3_starts 5 = .ok (.aload_n 0, 1) := dk_42 (dk_at dksX3_starts_0 5 rfl rfl)
theorem dX3_starts_6 : decode cX3_starts 6 = .ok (.iconst 0, 1) := dk_3 (dk_at dksX3_starts_0 6 rfl rfl)
theorem dX3_starts_7 : decode cX3_starts 7 = .ok (.putfield 212, 3) := dk_181 0 212 (dk_at dksX3_starts_0 7 rfl rfl)
theorem dX3_starts_10 : decode cX3_starts 10 = .ok (.aload_n 0, 1) := dk_42 (dk_at dksX3_starts_0 10 rfl rfl)
theorem dX3_starts_11 : decode cX3_starts 11 = .ok (.iconst 0, 1) := dk_3 (dk_at dksX3_starts_0 11 rfl rfl)
theorem dX3_starts_12 : decode cX3_starts 12 = .ok (.putfield 245, 3) := dk_181 0 245 (dk_at dksX3_starts_0 12 rfl rfl)
theorem dX3_starts_15 : decode cX3_starts 15 = .ok (.aload_n 0, 1) := dk_42 (dk_at dksX3_starts_0 15 rfl rfl)
theorem dX3_starts_16 : decode cX3_starts 16 = .ok (.iconst 0, 1) := dk_3 (dk_at dksX3_starts_0 16 rfl rfl)
theorem dX3_starts_17 : decode cX3_starts 17 = .ok (.putfield 286, 3) := dk_181 1 30 (dk_at dksX3_starts_0 17 rfl rfl)
theorem dX3_starts_20 : decode cX3_starts 20 = .ok (.aload_n 0, 1) := dk_42 (dk_at dksX3_starts_0 20 rfl rfl)
theorem dX3_starts_21 : decode cX3_starts 21 = .ok (.iconst 0, 1) := dk_3 (dk_at dksX3_starts_0 21 rfl rfl)
theorem dX3_starts_22 : decode cX3_starts 22 = .ok (.putfield 248, 3) := dk_181 0 248 (dk_at dksX3_starts_1 0 rfl rfl)
theorem dX3_starts_25 : decode cX3_starts 25 = .ok (.return_, 1) := dk_177 (dk_at dksX3_starts_1 3 rfl rfl)
abbrev cX3_riverClause : ByteArray := prog_17_method_41_code
def yX3_riverClause : MethodName := ⟨RX3, "riverClause", "(I)V"⟩
def dkwX3_riverClause_3 : List UInt8 := [182, 0, 226, 96, 181, 0, 215, 42, 29, 182, 1, 84, 177]
abbrev dktX3_riverClause_3 : List UInt8 := dkwX3_riverClause_3 ++ []
def dkwX3_riverClause_2 : List UInt8 := [182, 1, 81, 153, 0, 10, 42, 7, 28, 182, 0, 251, 177, 42, 89, 180, 0, 215, 29, 184, 1, 78]
abbrev dktX3_riverClause_2 : List UInt8 := dkwX3_riverClause_2 ++ dktX3_riverClause_3
def dkwX3_riverClause_1 : List UInt8 := [154, 0, 9, 132, 3, 1, 167, 255, 237, 29, 8, 160, 0, 10, 42, 3, 28, 182, 0, 251, 177, 42, 29, 27]
abbrev dktX3_riverClause_1 : List UInt8 := dkwX3_riverClause_1 ++ dktX3_riverClause_2
def dkwX3_riverClause_0 : List UInt8 := [42, 182, 0, 235, 42, 180, 0, 215, 61, 3, 62, 29, 8, 162, 0, 20, 42, 29, 184, 1, 78, 182, 0, 238]
abbrev dktX3_riverClause_0 : List UInt8 := dkwX3_riverClause_0 ++ dktX3_riverClause_1
theorem dksX3_riverClause_0 : cX3_riverClause.data.toList.drop 0 = dktX3_riverClause_0 := by decide +kernel
theorem dksX3_riverClause_1 : cX3_riverClause.data.toList.drop 24 = dktX3_riverClause_1 := dk_seg dksX3_riverClause_0 24 rfl rfl
theorem dksX3_riverClause_2 : cX3_riverClause.data.toList.drop 48 = dktX3_riverClause_2 := dk_seg dksX3_riverClause_1 24 rfl rfl
theorem dksX3_riverClause_3 : cX3_riverClause.data.toList.drop 70 = dktX3_riverClause_3 := dk_seg dksX3_riverClause_2 22 rfl rfl
theorem dX3_riverClause_0 : decode cX3_riverClause 0 = .ok (.aload_n 0, 1) := dk_42 (dk_at dksX3_riverClause_0 0 rfl rfl)
theorem dX3_riverClause_1 : decode cX3_riverClause 1 = .ok (.invokevirtual 235, 3) := dk_182 0 235 (dk_at dksX3_riverClause_0 1 rfl rfl)
theorem dX3_riverClause_4 : decode cX3_riverClause 4 = .ok (.aload_n 0, 1) := dk_42 (dk_at dksX3_riverClause_0 4 rfl rfl)
theorem dX3_riverClause_5 : decode cX3_riverClause 5 = .ok (.getfield 215, 3) := dk_180 0 215 (dk_at dksX3_riverClause_0 5 rfl rfl)
theorem dX3_riverClause_8 : decode cX3_riverClause 8 = .ok (.istore_n 2, 1) := dk_61 (dk_at dksX3_riverClause_0 8 rfl rfl)
theorem dX3_riverClause_9 : decode cX3_riverClause 9 = .ok (.iconst 0, 1) := dk_3 (dk_at dksX3_riverClause_0 9 rfl rfl)
theorem dX3_riverClause_10 : decode cX3_riverClause 10 = .ok (.istore_n 3, 1) := dk_62 (dk_at dksX3_riverClause_0 10 rfl rfl)
theorem dX3_riverClause_11 : decode cX3_riverClause 11 = .ok (.iload_n 3, 1) := dk_29 (dk_at dksX3_riverClause_0 11 rfl rfl)
theorem dX3_riverClause_12 : decode cX3_riverClause 12 = .ok (.iconst 5, 1) := dk_8 (dk_at dksX3_riverClause_0 12 rfl rfl)
theorem dX3_riverClause_13 : decode cX3_riverClause 13 = .ok (.if_icmp .ge 20, 3) := dk_162 0 20 (dk_at dksX3_riverClause_0 13 rfl rfl)
theorem dX3_riverClause_16 : decode cX3_riverClause 16 = .ok (.aload_n 0, 1) := dk_42 (dk_at dksX3_riverClause_0 16 rfl rfl)
theorem dX3_riverClause_17 : decode cX3_riverClause 17 = .ok (.iload_n 3, 1) := dk_29 (dk_at dksX3_riverClause_0 17 rfl rfl)
theorem dX3_riverClause_18 : decode cX3_riverClause 18 = .ok (.invokestatic 334, 3) := dk_184 1 78 (dk_at dksX3_riverClause_0 18 rfl rfl)
theorem dX3_riverClause_21 : decode cX3_riverClause 21 = .ok (.invokevirtual 238, 3) := dk_182 0 238 (dk_at dksX3_riverClause_0 21 rfl rfl)
theorem dX3_riverClause_24 : decode cX3_riverClause 24 = .ok (.ifCond .ne 9, 3) := dk_154 0 9 (dk_at dksX3_riverClause_1 0 rfl rfl)
theorem dX3_riverClause_27 : decode cX3_riverClause 27 = .ok (.iinc 3 1, 3) := dk_132 3 1 (dk_at dksX3_riverClause_1 3 rfl rfl)
theorem dX3_riverClause_30 : decode cX3_riverClause 30 = .ok (.goto (-19), 3) := dk_167 255 237 (dk_at dksX3_riverClause_1 6 rfl rfl)
theorem dX3_riverClause_33 : decode cX3_riverClause 33 = .ok (.iload_n 3, 1) := dk_29 (dk_at dksX3_riverClause_1 9 rfl rfl)
theorem dX3_riverClause_34 : decode cX3_riverClause 34 = .ok (.iconst 5, 1) := dk_8 (dk_at dksX3_riverClause_1 10 rfl rfl)
theorem dX3_riverClause_35 : decode cX3_riverClause 35 = .ok (.if_icmp .ne 10, 3) := dk_160 0 10 (dk_at dksX3_riverClause_1 11 rfl rfl)
theorem dX3_riverClause_38 : decode cX3_riverClause 38 = .ok (.aload_n 0, 1) := dk_42 (dk_at dksX3_riverClause_1 14 rfl rfl)
theorem dX3_riverClause_39 : decode cX3_riverClause 39 = .ok (.iconst 0, 1) := dk_3 (dk_at dksX3_riverClause_1 15 rfl rfl)
theorem dX3_riverClause_40 : decode cX3_riverClause 40 = .ok (.iload_n 2, 1) := dk_28 (dk_at dksX3_riverClause_1 16 rfl rfl)
theorem dX3_riverClause_41 : decode cX3_riverClause 41 = .ok (.invokevirtual 251, 3) := dk_182 0 251 (dk_at dksX3_riverClause_1 17 rfl rfl)
theorem dX3_riverClause_44 : decode cX3_riverClause 44 = .ok (.return_, 1) := dk_177 (dk_at dksX3_riverClause_1 20 rfl rfl)
theorem dX3_riverClause_45 : decode cX3_riverClause 45 = .ok (.aload_n 0, 1) := dk_42 (dk_at dksX3_riverClause_1 21 rfl rfl)
theorem dX3_riverClause_46 : decode cX3_riverClause 46 = .ok (.iload_n 3, 1) := dk_29 (dk_at dksX3_riverClause_1 22 rfl rfl)
theorem dX3_riverClause_47 : decode cX3_riverClause 47 = .ok (.iload_n 1, 1) := dk_27 (dk_at dksX3_riverClause_1 23 rfl rfl)
theorem dX3_riverClause_48 : decode cX3_riverClause 48 = .ok (.invokevirtual 337, 3) := dk_182 1 81 (dk_at dksX3_riverClause_2 0 rfl rfl)
theorem dX3_riverClause_51 : decode cX3_riverClause 51 = .ok (.ifCond .eq 10, 3) := dk_153 0 10 (dk_at dksX3_riverClause_2 3 rfl rfl)
theorem dX3_riverClause_54 : decode cX3_riverClause 54 = .ok (.aload_n 0, 1) := dk_42 (dk_at dksX3_riverClause_2 6 rfl rfl)
theorem dX3_riverClause_55 : decode cX3_riverClause 55 = .ok (.iconst 4, 1) := dk_7 (dk_at dksX3_riverClause_2 7 rfl rfl)
theorem dX3_riverClause_56 : decode cX3_riverClause 56 = .ok (.iload_n 2, 1) := dk_28 (dk_at dksX3_riverClause_2 8 rfl rfl)
theorem dX3_riverClause_57 : decode cX3_riverClause 57 = .ok (.invokevirtual 251, 3) := dk_182 0 251 (dk_at dksX3_riverClause_2 9 rfl rfl)
theorem dX3_riverClause_60 : decode cX3_riverClause 60 = .ok (.return_, 1) := dk_177 (dk_at dksX3_riverClause_2 12 rfl rfl)
theorem dX3_riverClause_61 : decode cX3_riverClause 61 = .ok (.aload_n 0, 1) := dk_42 (dk_at dksX3_riverClause_2 13 rfl rfl)
theorem dX3_riverClause_62 : decode cX3_riverClause 62 = .ok (.dup, 1) := dk_89 (dk_at dksX3_riverClause_2 14 rfl rfl)
theorem dX3_riverClause_63 : decode cX3_riverClause 63 = .ok (.getfield 215, 3) := dk_180 0 215 (dk_at dksX3_riverClause_2 15 rfl rfl)
theorem dX3_riverClause_66 : decode cX3_riverClause 66 = .ok (.iload_n 3, 1) := dk_29 (dk_at dksX3_riverClause_2 18 rfl rfl)
theorem dX3_riverClause_67 : decode cX3_riverClause 67 = .ok (.invokestatic 334, 3) := dk_184 1 78 (dk_at dksX3_riverClause_2 19 rfl rfl)
theorem dX3_riverClause_70 : decode cX3_riverClause 70 = .ok (.invokevirtual 226, 3) := dk_182 0 226 (dk_at dksX3_riverClause_3 0 rfl rfl)
theorem dX3_riverClause_73 : decode cX3_riverClause 73 = .ok (.iadd, 1) := dk_96 (dk_at dksX3_riverClause_3 3 rfl rfl)
theorem dX3_riverClause_74 : decode cX3_riverClause 74 = .ok (.putfield 215, 3) := dk_181 0 215 (dk_at dksX3_riverClause_3 4 rfl rfl)
theorem dX3_riverClause_77 : decode cX3_riverClause 77 = .ok (.aload_n 0, 1) := dk_42 (dk_at dksX3_riverClause_3 7 rfl rfl)
theorem dX3_riverClause_78 : decode cX3_riverClause 78 = .ok (.iload_n 3, 1) := dk_29 (dk_at dksX3_riverClause_3 8 rfl rfl)
theorem dX3_riverClause_79 : decode cX3_riverClause 79 = .ok (.invokevirtual 340, 3) := dk_182 1 84 (dk_at dksX3_riverClause_3 9 rfl rfl)
theorem dX3_riverClause_82 : decode cX3_riverClause 82 = .ok (.return_, 1) := dk_177 (dk_at dksX3_riverClause_3 12 rfl rfl)
abbrev cX3_blanks : ByteArray := prog_17_method_18_code
def yX3_blanks : MethodName := ⟨RX3, "blanks", "()V"⟩
def dkwX3_blanks_0 : List UInt8 := [42, 182, 0, 218, 16, 32, 160, 0, 16, 42, 89, 180, 0, 215, 4, 96, 181, 0, 215, 167, 255, 237, 177]
abbrev dktX3_blanks_0 : List UInt8 := dkwX3_blanks_0 ++ []
theorem dksX3_blanks_0 : cX3_blanks.data.toList.drop 0 = dktX3_blanks_0 := by decide +kernel
theorem dX3_blanks_0 : decode cX3_blanks 0 = .ok (.aload_n 0, 1) := dk_42 (dk_at dksX3_blanks_0 0 rfl rfl)
theorem dX3_blanks_1 : decode cX3_blanks 1 = .ok (.invokevirtual 218, 3) := dk_182 0 218 (dk_at dksX3_blanks_0 1 rfl rfl)
theorem dX3_blanks_4 : decode cX3_blanks 4 = .ok (.bipush 32, 2) := dk_16 32 (dk_at dksX3_blanks_0 4 rfl rfl)
theorem dX3_blanks_6 : decode cX3_blanks 6 = .ok (.if_icmp .ne 16, 3) := dk_160 0 16 (dk_at dksX3_blanks_0 6 rfl rfl)
theorem dX3_blanks_9 : decode cX3_blanks 9 = .ok (.aload_n 0, 1) := dk_42 (dk_at dksX3_blanks_0 9 rfl rfl)
theorem dX3_blanks_10 : decode cX3_blanks 10 = .ok (.dup, 1) := dk_89 (dk_at dksX3_blanks_0 10 rfl rfl)
theorem dX3_blanks_11 : decode cX3_blanks 11 = .ok (.getfield 215, 3) := dk_180 0 215 (dk_at dksX3_blanks_0 11 rfl rfl)
theorem dX3_blanks_14 : decode cX3_blanks 14 = .ok (.iconst 1, 1) := dk_4 (dk_at dksX3_blanks_0 14 rfl rfl)
theorem dX3_blanks_15 : decode cX3_blanks 15 = .ok (.iadd, 1) := dk_96 (dk_at dksX3_blanks_0 15 rfl rfl)
theorem dX3_blanks_16 : decode cX3_blanks 16 = .ok (.putfield 215, 3) := dk_181 0 215 (dk_at dksX3_blanks_0 16 rfl rfl)
theorem dX3_blanks_19 : decode cX3_blanks 19 = .ok (.goto (-19), 3) := dk_167 255 237 (dk_at dksX3_blanks_0 19 rfl rfl)
theorem dX3_blanks_22 : decode cX3_blanks 22 = .ok (.return_, 1) := dk_177 (dk_at dksX3_blanks_0 22 rfl rfl)
abbrev cX3_sign : ByteArray := prog_17_method_17_code
def yX3_sign : MethodName := ⟨RX3, "sign", "()I"⟩
def dkwX3_sign_1 : List UInt8 := [167, 0, 4, 2, 172]
abbrev dktX3_sign_1 : List UInt8 := dkwX3_sign_1 ++ []
def dkwX3_sign_0 : List UInt8 := [42, 180, 0, 215, 42, 180, 0, 184, 162, 0, 19, 42, 180, 0, 104, 42, 180, 0, 215, 51, 17, 0, 255, 126]
abbrev dktX3_sign_0 : List UInt8 := dkwX3_sign_0 ++ dktX3_sign_1
theorem dksX3_sign_0 : cX3_sign.data.toList.drop 0 = dktX3_sign_0 := by decide +kernel
theorem dksX3_sign_1 : cX3_sign.data.toList.drop 24 = dktX3_sign_1 := dk_seg dksX3_sign_0 24 rfl rfl
theorem dX3_sign_0 : decode cX3_sign 0 = .ok (.aload_n 0, 1) := dk_42 (dk_at dksX3_sign_0 0 rfl rfl)
theorem dX3_sign_1 : decode cX3_sign 1 = .ok (.getfield 215, 3) := dk_180 0 215 (dk_at dksX3_sign_0 1 rfl rfl)
theorem dX3_sign_4 : decode cX3_sign 4 = .ok (.aload_n 0, 1) := dk_42 (dk_at dksX3_sign_0 4 rfl rfl)
theorem dX3_sign_5 : decode cX3_sign 5 = .ok (.getfield 184, 3) := dk_180 0 184 (dk_at dksX3_sign_0 5 rfl rfl)
theorem dX3_sign_8 : decode cX3_sign 8 = .ok (.if_icmp .ge 19, 3) := dk_162 0 19 (dk_at dksX3_sign_0 8 rfl rfl)
theorem dX3_sign_11 : decode cX3_sign 11 = .ok (.aload_n 0, 1) := dk_42 (dk_at dksX3_sign_0 11 rfl rfl)
theorem dX3_sign_12 : decode cX3_sign 12 = .ok (.getfield 104, 3) := dk_180 0 104 (dk_at dksX3_sign_0 12 rfl rfl)
theorem dX3_sign_15 : decode cX3_sign 15 = .ok (.aload_n 0, 1) := dk_42 (dk_at dksX3_sign_0 15 rfl rfl)
theorem dX3_sign_16 : decode cX3_sign 16 = .ok (.getfield 215, 3) := dk_180 0 215 (dk_at dksX3_sign_0 16 rfl rfl)
theorem dX3_sign_19 : decode cX3_sign 19 = .ok (.baload, 1) := dk_51 (dk_at dksX3_sign_0 19 rfl rfl)
theorem dX3_sign_20 : decode cX3_sign 20 = .ok (.sipush 255, 3) := dk_17 0 255 (dk_at dksX3_sign_0 20 rfl rfl)
theorem dX3_sign_23 : decode cX3_sign 23 = .ok (.iand, 1) := dk_126 (dk_at dksX3_sign_0 23 rfl rfl)
theorem dX3_sign_24 : decode cX3_sign 24 = .ok (.goto 4, 3) := dk_167 0 4 (dk_at dksX3_sign_1 0 rfl rfl)
theorem dX3_sign_27 : decode cX3_sign 27 = .ok (.iconst (-1), 1) := dk_2 (dk_at dksX3_sign_1 3 rfl rfl)
theorem dX3_sign_28 : decode cX3_sign 28 = .ok (.ireturn, 1) := dk_172 (dk_at dksX3_sign_1 4 rfl rfl)
abbrev cX3_riverWord : ByteArray := prog_17_method_35_code
def yX3_riverWord : MethodName := ⟨RX3, "riverWord", "(I)Ljava/lang/String;"⟩
def dkwX3_riverWord_2 : List UInt8 := [19, 1, 54, 176, 19, 1, 56, 176, 19, 1, 58, 176, 19, 1, 60, 176, 19, 1, 62, 176]
abbrev dktX3_riverWord_2 : List UInt8 := dkwX3_riverWord_2 ++ []
def dkwX3_riverWord_1 : List UInt8 := [170, 0, 0, 0, 0, 0, 47, 0, 0, 0, 0, 0, 0, 0, 3, 0, 0, 0, 31, 0, 0, 0, 35, 0, 0, 0, 39, 0, 0, 0, 43]
abbrev dktX3_riverWord_1 : List UInt8 := dkwX3_riverWord_1 ++ dktX3_riverWord_2
def dkwX3_riverWord_0 : List UInt8 := [26]
abbrev dktX3_riverWord_0 : List UInt8 := dkwX3_riverWord_0 ++ dktX3_riverWord_1
theorem dksX3_riverWord_0 : cX3_riverWord.data.toList.drop 0 = dktX3_riverWord_0 := by decide +kernel
theorem dksX3_riverWord_1 : cX3_riverWord.data.toList.drop 1 = dktX3_riverWord_1 := dk_seg dksX3_riverWord_0 1 rfl rfl
theorem dksX3_riverWord_2 : cX3_riverWord.data.toList.drop 32 = dktX3_riverWord_2 := dk_seg dksX3_riverWord_1 31 rfl rfl
theorem dX3_riverWord_0 : decode cX3_riverWord 0 = .ok (.iload_n 0, 1) := dk_26 (dk_at dksX3_riverWord_0 0 rfl rfl)
theorem dX3_riverWord_1 : decode cX3_riverWord 1 = .ok (.tableswitch 47 0 3 #[31, 35, 39, 43], 31) := by decide +kernel
theorem dX3_riverWord_32 : decode cX3_riverWord 32 = .ok (.ldc_w 310, 3) := dk_19 1 54 (dk_at dksX3_riverWord_2 0 rfl rfl)
theorem dX3_riverWord_35 : decode cX3_riverWord 35 = .ok (.areturn, 1) := dk_176 (dk_at dksX3_riverWord_2 3 rfl rfl)
theorem dX3_riverWord_36 : decode cX3_riverWord 36 = .ok (.ldc_w 312, 3) := dk_19 1 56 (dk_at dksX3_riverWord_2 4 rfl rfl)
theorem dX3_riverWord_39 : decode cX3_riverWord 39 = .ok (.areturn, 1) := dk_176 (dk_at dksX3_riverWord_2 7 rfl rfl)
theorem dX3_riverWord_40 : decode cX3_riverWord 40 = .ok (.ldc_w 314, 3) := dk_19 1 58 (dk_at dksX3_riverWord_2 8 rfl rfl)
theorem dX3_riverWord_43 : decode cX3_riverWord 43 = .ok (.areturn, 1) := dk_176 (dk_at dksX3_riverWord_2 11 rfl rfl)
theorem dX3_riverWord_44 : decode cX3_riverWord 44 = .ok (.ldc_w 316, 3) := dk_19 1 60 (dk_at dksX3_riverWord_2 12 rfl rfl)
theorem dX3_riverWord_47 : decode cX3_riverWord 47 = .ok (.areturn, 1) := dk_176 (dk_at dksX3_riverWord_2 15 rfl rfl)
theorem dX3_riverWord_48 : decode cX3_riverWord 48 = .ok (.ldc_w 318, 3) := dk_19 1 62 (dk_at dksX3_riverWord_2 16 rfl rfl)
theorem dX3_riverWord_51 : decode cX3_riverWord 51 = .ok (.areturn, 1) := dk_176 (dk_at dksX3_riverWord_2 19 rfl rfl)
abbrev cX3_stood : ByteArray := prog_17_method_20_code
def yX3_stood : MethodName := ⟨RX3, "stood", "(Ljava/lang/String;)Z"⟩
def dkwX3_stood_4 : List UInt8 := [160, 0, 7, 4, 167, 0, 4, 3, 62, 132, 4, 1, 167, 255, 213, 29, 172]
abbrev dktX3_stood_4 : List UInt8 := dkwX3_stood_4 ++ []
def dkwX3_stood_3 : List UInt8 := [29, 153, 0, 36, 42, 180, 0, 104, 42, 180, 0, 215, 21, 4, 96, 51, 43, 21, 4, 182, 0, 231]
abbrev dktX3_stood_3 : List UInt8 := dkwX3_stood_3 ++ dktX3_stood_4
def dkwX3_stood_2 : List UInt8 := [182, 0, 226, 160, 0, 7, 4, 167, 0, 4, 3, 62, 3, 54, 4, 21, 4, 43, 182, 0, 226, 162, 0, 40]
abbrev dktX3_stood_2 : List UInt8 := dkwX3_stood_2 ++ dktX3_stood_3
def dkwX3_stood_1 : List UInt8 := [42, 180, 0, 104, 28, 51, 16, 122, 163, 0, 9, 132, 2, 1, 167, 255, 223, 28, 42, 180, 0, 215, 100, 43]
abbrev dktX3_stood_1 : List UInt8 := dkwX3_stood_1 ++ dktX3_stood_2
def dkwX3_stood_0 : List UInt8 := [42, 180, 0, 215, 61, 28, 42, 180, 0, 184, 162, 0, 31, 42, 180, 0, 104, 28, 51, 16, 97, 161, 0, 20]
abbrev dktX3_stood_0 : List UInt8 := dkwX3_stood_0 ++ dktX3_stood_1
theorem dksX3_stood_0 : cX3_stood.data.toList.drop 0 = dktX3_stood_0 := by decide +kernel
theorem dksX3_stood_1 : cX3_stood.data.toList.drop 24 = dktX3_stood_1 := dk_seg dksX3_stood_0 24 rfl rfl
theorem dksX3_stood_2 : cX3_stood.data.toList.drop 48 = dktX3_stood_2 := dk_seg dksX3_stood_1 24 rfl rfl
theorem dksX3_stood_3 : cX3_stood.data.toList.drop 72 = dktX3_stood_3 := dk_seg dksX3_stood_2 24 rfl rfl
theorem dksX3_stood_4 : cX3_stood.data.toList.drop 94 = dktX3_stood_4 := dk_seg dksX3_stood_3 22 rfl rfl
theorem dX3_stood_0 : decode cX3_stood 0 = .ok (.aload_n 0, 1) := dk_42 (dk_at dksX3_stood_0 0 rfl rfl)
theorem dX3_stood_1 : decode cX3_stood 1 = .ok (.getfield 215, 3) := dk_180 0 215 (dk_at dksX3_stood_0 1 rfl rfl)
theorem dX3_stood_4 : decode cX3_stood 4 = .ok (.istore_n 2, 1) := dk_61 (dk_at dksX3_stood_0 4 rfl rfl)
theorem dX3_stood_5 : decode cX3_stood 5 = .ok (.iload_n 2, 1) := dk_28 (dk_at dksX3_stood_0 5 rfl rfl)
theorem dX3_stood_6 : decode cX3_stood 6 = .ok (.aload_n 0, 1) := dk_42 (dk_at dksX3_stood_0 6 rfl rfl)
theorem dX3_stood_7 : decode cX3_stood 7 = .ok (.getfield 184, 3) := dk_180 0 184 (dk_at dksX3_stood_0 7 rfl rfl)
theorem dX3_stood_10 : decode cX3_stood 10 = .ok (.if_icmp .ge 31, 3) := dk_162 0 31 (dk_at dksX3_stood_0 10 rfl rfl)
theorem dX3_stood_13 : decode cX3_stood 13 = .ok (.aload_n 0, 1) := dk_42 (dk_at dksX3_stood_0 13 rfl rfl)
theorem dX3_stood_14 : decode cX3_stood 14 = .ok (.getfield 104, 3) := dk_180 0 104 (dk_at dksX3_stood_0 14 rfl rfl)
theorem dX3_stood_17 : decode cX3_stood 17 = .ok (.iload_n 2, 1) := dk_28 (dk_at dksX3_stood_0 17 rfl rfl)
theorem dX3_stood_18 : decode cX3_stood 18 = .ok (.baload, 1) := dk_51 (dk_at dksX3_stood_0 18 rfl rfl)
theorem dX3_stood_19 : decode cX3_stood 19 = .ok (.bipush 97, 2) := dk_16 97 (dk_at dksX3_stood_0 19 rfl rfl)
theorem dX3_stood_21 : decode cX3_stood 21 = .ok (.if_icmp .lt 20, 3) := dk_161 0 20 (dk_at dksX3_stood_0 21 rfl rfl)
theorem dX3_stood_24 : decode cX3_stood 24 = .ok (.aload_n 0, 1) := dk_42 (dk_at dksX3_stood_1 0 rfl rfl)
theorem dX3_stood_25 : decode cX3_stood 25 = .ok (.getfield 104, 3) := dk_180 0 104 (dk_at dksX3_stood_1 1 rfl rfl)
theorem dX3_stood_28 : decode cX3_stood 28 = .ok (.iload_n 2, 1) := dk_28 (dk_at dksX3_stood_1 4 rfl rfl)
theorem dX3_stood_29 : decode cX3_stood 29 = .ok (.baload, 1) := dk_51 (dk_at dksX3_stood_1 5 rfl rfl)
theorem dX3_stood_30 : decode cX3_stood 30 = .ok (.bipush 122, 2) := dk_16 122 (dk_at dksX3_stood_1 6 rfl rfl)
theorem dX3_stood_32 : decode cX3_stood 32 = .ok (.if_icmp .gt 9, 3) := dk_163 0 9 (dk_at dksX3_stood_1 8 rfl rfl)
theorem dX3_stood_35 : decode cX3_stood 35 = .ok (.iinc 2 1, 3) := dk_132 2 1 (dk_at dksX3_stood_1 11 rfl rfl)
theorem dX3_stood_38 : decode cX3_stood 38 = .ok (.goto (-33), 3) := dk_167 255 223 (dk_at dksX3_stood_1 14 rfl rfl)
theorem dX3_stood_41 : decode cX3_stood 41 = .ok (.iload_n 2, 1) := dk_28 (dk_at dksX3_stood_1 17 rfl rfl)
theorem dX3_stood_42 : decode cX3_stood 42 = .ok (.aload_n 0, 1) := dk_42 (dk_at dksX3_stood_1 18 rfl rfl)
theorem dX3_stood_43 : decode cX3_stood 43 = .ok (.getfield 215, 3) := dk_180 0 215 (dk_at dksX3_stood_1 19 rfl rfl)
theorem dX3_stood_46 : decode cX3_stood 46 = .ok (.isub, 1) := dk_100 (dk_at dksX3_stood_1 22 rfl rfl)
theorem dX3_stood_47 : decode cX3_stood 47 = .ok (.aload_n 1, 1) := dk_43 (dk_at dksX3_stood_1 23 rfl rfl)
theorem dX3_stood_48 : decode cX3_stood 48 = .ok (.invokevirtual 226, 3) := dk_182 0 226 (dk_at dksX3_stood_2 0 rfl rfl)
theorem dX3_stood_51 : decode cX3_stood 51 = .ok (.if_icmp .ne 7, 3) := dk_160 0 7 (dk_at dksX3_stood_2 3 rfl rfl)
theorem dX3_stood_54 : decode cX3_stood 54 = .ok (.iconst 1, 1) := dk_4 (dk_at dksX3_stood_2 6 rfl rfl)
theorem dX3_stood_55 : decode cX3_stood 55 = .ok (.goto 4, 3) := dk_167 0 4 (dk_at dksX3_stood_2 7 rfl rfl)
theorem dX3_stood_58 : decode cX3_stood 58 = .ok (.iconst 0, 1) := dk_3 (dk_at dksX3_stood_2 10 rfl rfl)
theorem dX3_stood_59 : decode cX3_stood 59 = .ok (.istore_n 3, 1) := dk_62 (dk_at dksX3_stood_2 11 rfl rfl)
theorem dX3_stood_60 : decode cX3_stood 60 = .ok (.iconst 0, 1) := dk_3 (dk_at dksX3_stood_2 12 rfl rfl)
theorem dX3_stood_61 : decode cX3_stood 61 = .ok (.istore 4, 2) := dk_54 4 (dk_at dksX3_stood_2 13 rfl rfl)
theorem dX3_stood_63 : decode cX3_stood 63 = .ok (.iload 4, 2) := dk_21 4 (dk_at dksX3_stood_2 15 rfl rfl)
theorem dX3_stood_65 : decode cX3_stood 65 = .ok (.aload_n 1, 1) := dk_43 (dk_at dksX3_stood_2 17 rfl rfl)
theorem dX3_stood_66 : decode cX3_stood 66 = .ok (.invokevirtual 226, 3) := dk_182 0 226 (dk_at dksX3_stood_2 18 rfl rfl)
theorem dX3_stood_69 : decode cX3_stood 69 = .ok (.if_icmp .ge 40, 3) := dk_162 0 40 (dk_at dksX3_stood_2 21 rfl rfl)
theorem dX3_stood_72 : decode cX3_stood 72 = .ok (.iload_n 3, 1) := dk_29 (dk_at dksX3_stood_3 0 rfl rfl)
theorem dX3_stood_73 : decode cX3_stood 73 = .ok (.ifCond .eq 36, 3) := dk_153 0 36 (dk_at dksX3_stood_3 1 rfl rfl)
theorem dX3_stood_76 : decode cX3_stood 76 = .ok (.aload_n 0, 1) := dk_42 (dk_at dksX3_stood_3 4 rfl rfl)
theorem dX3_stood_77 : decode cX3_stood 77 = .ok (.getfield 104, 3) := dk_180 0 104 (dk_at dksX3_stood_3 5 rfl rfl)
theorem dX3_stood_80 : decode cX3_stood 80 = .ok (.aload_n 0, 1) := dk_42 (dk_at dksX3_stood_3 8 rfl rfl)
theorem dX3_stood_81 : decode cX3_stood 81 = .ok (.getfield 215, 3) := dk_180 0 215 (dk_at dksX3_stood_3 9 rfl rfl)
theorem dX3_stood_84 : decode cX3_stood 84 = .ok (.iload 4, 2) := dk_21 4 (dk_at dksX3_stood_3 12 rfl rfl)
theorem dX3_stood_86 : decode cX3_stood 86 = .ok (.iadd, 1) := dk_96 (dk_at dksX3_stood_3 14 rfl rfl)
theorem dX3_stood_87 : decode cX3_stood 87 = .ok (.baload, 1) := dk_51 (dk_at dksX3_stood_3 15 rfl rfl)
theorem dX3_stood_88 : decode cX3_stood 88 = .ok (.aload_n 1, 1) := dk_43 (dk_at dksX3_stood_3 16 rfl rfl)
theorem dX3_stood_89 : decode cX3_stood 89 = .ok (.iload 4, 2) := dk_21 4 (dk_at dksX3_stood_3 17 rfl rfl)
theorem dX3_stood_91 : decode cX3_stood 91 = .ok (.invokevirtual 231, 3) := dk_182 0 231 (dk_at dksX3_stood_3 19 rfl rfl)
theorem dX3_stood_94 : decode cX3_stood 94 = .ok (.if_icmp .ne 7, 3) := dk_160 0 7 (dk_at dksX3_stood_4 0 rfl rfl)
theorem dX3_stood_97 : decode cX3_stood 97 = .ok (.iconst 1, 1) := dk_4 (dk_at dksX3_stood_4 3 rfl rfl)
theorem dX3_stood_98 : decode cX3_stood 98 = .ok (.goto 4, 3) := dk_167 0 4 (dk_at dksX3_stood_4 4 rfl rfl)
theorem dX3_stood_101 : decode cX3_stood 101 = .ok (.iconst 0, 1) := dk_3 (dk_at dksX3_stood_4 7 rfl rfl)
theorem dX3_stood_102 : decode cX3_stood 102 = .ok (.istore_n 3, 1) := dk_62 (dk_at dksX3_stood_4 8 rfl rfl)
theorem dX3_stood_103 : decode cX3_stood 103 = .ok (.iinc 4 1, 3) := dk_132 4 1 (dk_at dksX3_stood_4 9 rfl rfl)
theorem dX3_stood_106 : decode cX3_stood 106 = .ok (.goto (-43), 3) := dk_167 255 213 (dk_at dksX3_stood_4 12 rfl rfl)
theorem dX3_stood_109 : decode cX3_stood 109 = .ok (.iload_n 3, 1) := dk_29 (dk_at dksX3_stood_4 15 rfl rfl)
theorem dX3_stood_110 : decode cX3_stood 110 = .ok (.ireturn, 1) := dk_172 (dk_at dksX3_stood_4 16 rfl rfl)
abbrev cX3_fails : ByteArray := prog_17_method_16_code
def yX3_fails : MethodName := ⟨RX3, "fails", "(II)V"⟩
def dkwX3_fails_1 : List UInt8 := [181, 0, 212, 177]
abbrev dktX3_fails_1 : List UInt8 := dkwX3_fails_1 ++ []
def dkwX3_fails_0 : List UInt8 := [42, 42, 180, 0, 212, 154, 0, 14, 4, 16, 8, 28, 104, 96, 27, 96, 167, 0, 7, 42, 180, 0, 212]
abbrev dktX3_fails_0 : List UInt8 := dkwX3_fails_0 ++ dktX3_fails_1
theorem dksX3_fails_0 : cX3_fails.data.toList.drop 0 = dktX3_fails_0 := by decide +kernel
theorem dksX3_fails_1 : cX3_fails.data.toList.drop 23 = dktX3_fails_1 := dk_seg dksX3_fails_0 23 rfl rfl
theorem dX3_fails_0 : decode cX3_fails 0 = .ok (.aload_n 0, 1) := dk_42 (dk_at dksX3_fails_0 0 rfl rfl)
theorem dX3_fails_1 : decode cX3_fails 1 = .ok (.aload_n 0, 1) := dk_42 (dk_at dksX3_fails_0 1 rfl rfl)
theorem dX3_fails_2 : decode cX3_fails 2 = .ok (.getfield 212, 3) := dk_180 0 212 (dk_at dksX3_fails_0 2 rfl rfl)
theorem dX3_fails_5 : decode cX3_fails 5 = .ok (.ifCond .ne 14, 3) := dk_154 0 14 (dk_at dksX3_fails_0 5 rfl rfl)
theorem dX3_fails_8 : decode cX3_fails 8 = .ok (.iconst 1, 1) := dk_4 (dk_at dksX3_fails_0 8 rfl rfl)
theorem dX3_fails_9 : decode cX3_fails 9 = .ok (.bipush 8, 2) := dk_16 8 (dk_at dksX3_fails_0 9 rfl rfl)
theorem dX3_fails_11 : decode cX3_fails 11 = .ok (.iload_n 2, 1) := dk_28 (dk_at dksX3_fails_0 11 rfl rfl)
theorem dX3_fails_12 : decode cX3_fails 12 = .ok (.imul, 1) := dk_104 (dk_at dksX3_fails_0 12 rfl rfl)
theorem dX3_fails_13 : decode cX3_fails 13 = .ok (.iadd, 1) := dk_96 (dk_at dksX3_fails_0 13 rfl rfl)
theorem dX3_fails_14 : decode cX3_fails 14 = .ok (.iload_n 1, 1) := dk_27 (dk_at dksX3_fails_0 14 rfl rfl)
theorem dX3_fails_15 : decode cX3_fails 15 = .ok (.iadd, 1) := dk_96 (dk_at dksX3_fails_0 15 rfl rfl)
theorem dX3_fails_16 : decode cX3_fails 16 = .ok (.goto 7, 3) := dk_167 0 7 (dk_at dksX3_fails_0 16 rfl rfl)
theorem dX3_fails_19 : decode cX3_fails 19 = .ok (.aload_n 0, 1) := dk_42 (dk_at dksX3_fails_0 19 rfl rfl)
theorem dX3_fails_20 : decode cX3_fails 20 = .ok (.getfield 212, 3) := dk_180 0 212 (dk_at dksX3_fails_0 20 rfl rfl)
theorem dX3_fails_23 : decode cX3_fails 23 = .ok (.putfield 212, 3) := dk_181 0 212 (dk_at dksX3_fails_1 0 rfl rfl)
theorem dX3_fails_26 : decode cX3_fails 26 = .ok (.return_, 1) := dk_177 (dk_at dksX3_fails_1 3 rfl rfl)
abbrev cX3_isFull : ByteArray := prog_17_method_40_code
def yX3_isFull : MethodName := ⟨RX3, "isFull", "(II)Z"⟩
def dkwX3_isFull_5 : List UInt8 := [167, 0, 4, 3, 172, 42, 180, 0, 64, 8, 46, 16, 6, 160, 0, 7, 4, 167, 0, 4, 3, 172, 3, 172]
abbrev dktX3_isFull_5 : List UInt8 := dkwX3_isFull_5 ++ []
def dkwX3_isFull_4 : List UInt8 := [16, 8, 160, 0, 7, 4, 167, 0, 4, 3, 172, 42, 180, 0, 64, 7, 46, 16, 12, 160, 0, 7, 4]
abbrev dktX3_isFull_4 : List UInt8 := dkwX3_isFull_4 ++ dktX3_isFull_5
def dkwX3_isFull_3 : List UInt8 := [42, 180, 0, 64, 5, 46, 16, 6, 160, 0, 7, 4, 167, 0, 4, 3, 172, 42, 180, 0, 64, 6, 46]
abbrev dktX3_isFull_3 : List UInt8 := dkwX3_isFull_3 ++ dktX3_isFull_4
def dkwX3_isFull_2 : List UInt8 := [170, 0, 0, 0, 0, 98, 0, 0, 0, 1, 0, 0, 0, 4, 0, 0, 0, 30, 0, 0, 0, 47, 0, 0, 0, 64, 0, 0, 0, 81]
abbrev dktX3_isFull_2 : List UInt8 := dkwX3_isFull_2 ++ dktX3_isFull_3
def dkwX3_isFull_1 : List UInt8 := [159, 0, 5, 4, 172, 27]
abbrev dktX3_isFull_1 : List UInt8 := dkwX3_isFull_1 ++ dktX3_isFull_2
def dkwX3_isFull_0 : List UInt8 := [28, 16, 40, 159, 0, 24, 27, 154, 0, 7, 4, 167, 0, 4, 3, 28, 154, 0, 7, 4, 167, 0, 4, 3]
abbrev dktX3_isFull_0 : List UInt8 := dkwX3_isFull_0 ++ dktX3_isFull_1
theorem dksX3_isFull_0 : cX3_isFull.data.toList.drop 0 = dktX3_isFull_0 := by decide +kernel
theorem dksX3_isFull_1 : cX3_isFull.data.toList.drop 24 = dktX3_isFull_1 := dk_seg dksX3_isFull_0 24 rfl rfl
theorem dksX3_isFull_2 : cX3_isFull.data.toList.drop 30 = dktX3_isFull_2 := dk_seg dksX3_isFull_1 6 rfl rfl
theorem dksX3_isFull_3 : cX3_isFull.data.toList.drop 60 = dktX3_isFull_3 := dk_seg dksX3_isFull_2 30 rfl rfl
theorem dksX3_isFull_4 : cX3_isFull.data.toList.drop 83 = dktX3_isFull_4 := dk_seg dksX3_isFull_3 23 rfl rfl
theorem dksX3_isFull_5 : cX3_isFull.data.toList.drop 106 = dktX3_isFull_5 := dk_seg dksX3_isFull_4 23 rfl rfl
theorem dX3_isFull_0 : decode cX3_isFull 0 = .ok (.iload_n 2, 1) := dk_28 (dk_at dksX3_isFull_0 0 rfl rfl)
theorem dX3_isFull_1 : decode cX3_isFull 1 = .ok (.bipush 40, 2) := dk_16 40 (dk_at dksX3_isFull_0 1 rfl rfl)
theorem dX3_isFull_3 : decode cX3_isFull 3 = .ok (.if_icmp .eq 24, 3) := dk_159 0 24 (dk_at dksX3_isFull_0 3 rfl rfl)
theorem dX3_isFull_6 : decode cX3_isFull 6 = .ok (.iload_n 1, 1) := dk_27 (dk_at dksX3_isFull_0 6 rfl rfl)
theorem dX3_isFull_7 : decode cX3_isFull 7 = .ok (.ifCond .ne 7, 3) := dk_154 0 7 (dk_at dksX3_isFull_0 7 rfl rfl)
theorem dX3_isFull_10 : decode cX3_isFull 10 = .ok (.iconst 1, 1) := dk_4 (dk_at dksX3_isFull_0 10 rfl rfl)
theorem dX3_isFull_11 : decode cX3_isFull 11 = .ok (.goto 4, 3) := dk_167 0 4 (dk_at dksX3_isFull_0 11 rfl rfl)
theorem dX3_isFull_14 : decode cX3_isFull 14 = .ok (.iconst 0, 1) := dk_3 (dk_at dksX3_isFull_0 14 rfl rfl)
theorem dX3_isFull_15 : decode cX3_isFull 15 = .ok (.iload_n 2, 1) := dk_28 (dk_at dksX3_isFull_0 15 rfl rfl)
theorem dX3_isFull_16 : decode cX3_isFull 16 = .ok (.ifCond .ne 7, 3) := dk_154 0 7 (dk_at dksX3_isFull_0 16 rfl rfl)
theorem dX3_isFull_19 : decode cX3_isFull 19 = .ok (.iconst 1, 1) := dk_4 (dk_at dksX3_isFull_0 19 rfl rfl)
theorem dX3_isFull_20 : decode cX3_isFull 20 = .ok (.goto 4, 3) := dk_167 0 4 (dk_at dksX3_isFull_0 20 rfl rfl)
theorem dX3_isFull_23 : decode cX3_isFull 23 = .ok (.iconst 0, 1) := dk_3 (dk_at dksX3_isFull_0 23 rfl rfl)
theorem dX3_isFull_24 : decode cX3_isFull 24 = .ok (.if_icmp .eq 5, 3) := dk_159 0 5 (dk_at dksX3_isFull_1 0 rfl rfl)
theorem dX3_isFull_27 : decode cX3_isFull 27 = .ok (.iconst 1, 1) := dk_4 (dk_at dksX3_isFull_1 3 rfl rfl)
theorem dX3_isFull_28 : decode cX3_isFull 28 = .ok (.ireturn, 1) := dk_172 (dk_at dksX3_isFull_1 4 rfl rfl)
theorem dX3_isFull_29 : decode cX3_isFull 29 = .ok (.iload_n 1, 1) := dk_27 (dk_at dksX3_isFull_1 5 rfl rfl)
theorem dX3_isFull_30 : decode cX3_isFull 30 = .ok (.tableswitch 98 1 4 #[30, 47, 64, 81], 30) := by decide +kernel
theorem dX3_isFull_60 : decode cX3_isFull 60 = .ok (.aload_n 0, 1) := dk_42 (dk_at dksX3_isFull_3 0 rfl rfl)
theorem dX3_isFull_61 : decode cX3_isFull 61 = .ok (.getfield 64, 3) := dk_180 0 64 (dk_at dksX3_isFull_3 1 rfl rfl)
theorem dX3_isFull_64 : decode cX3_isFull 64 = .ok (.iconst 2, 1) := dk_5 (dk_at dksX3_isFull_3 4 rfl rfl)
theorem dX3_isFull_65 : decode cX3_isFull 65 = .ok (.iaload, 1) := dk_46 (dk_at dksX3_isFull_3 5 rfl rfl)
theorem dX3_isFull_66 : decode cX3_isFull 66 = .ok (.bipush 6, 2) := dk_16 6 (dk_at dksX3_isFull_3 6 rfl rfl)
theorem dX3_isFull_68 : decode cX3_isFull 68 = .ok (.if_icmp .ne 7, 3) := dk_160 0 7 (dk_at dksX3_isFull_3 8 rfl rfl)
theorem dX3_isFull_71 : decode cX3_isFull 71 = .ok (.iconst 1, 1) := dk_4 (dk_at dksX3_isFull_3 11 rfl rfl)
theorem dX3_isFull_72 : decode cX3_isFull 72 = .ok (.goto 4, 3) := dk_167 0 4 (dk_at dksX3_isFull_3 12 rfl rfl)
theorem dX3_isFull_75 : decode cX3_isFull 75 = .ok (.iconst 0, 1) := dk_3 (dk_at dksX3_isFull_3 15 rfl rfl)
theorem dX3_isFull_76 : decode cX3_isFull 76 = .ok (.ireturn, 1) := dk_172 (dk_at dksX3_isFull_3 16 rfl rfl)
theorem dX3_isFull_77 : decode cX3_isFull 77 = .ok (.aload_n 0, 1) := dk_42 (dk_at dksX3_isFull_3 17 rfl rfl)
theorem dX3_isFull_78 : decode cX3_isFull 78 = .ok (.getfield 64, 3) := dk_180 0 64 (dk_at dksX3_isFull_3 18 rfl rfl)
theorem dX3_isFull_81 : decode cX3_isFull 81 = .ok (.iconst 3, 1) := dk_6 (dk_at dksX3_isFull_3 21 rfl rfl)
theorem dX3_isFull_82 : decode cX3_isFull 82 = .ok (.iaload, 1) := dk_46 (dk_at dksX3_isFull_3 22 rfl rfl)
theorem dX3_isFull_83 : decode cX3_isFull 83 = .ok (.bipush 8, 2) := dk_16 8 (dk_at dksX3_isFull_4 0 rfl rfl)
theorem dX3_isFull_85 : decode cX3_isFull 85 = .ok (.if_icmp .ne 7, 3) := dk_160 0 7 (dk_at dksX3_isFull_4 2 rfl rfl)
theorem dX3_isFull_88 : decode cX3_isFull 88 = .ok (.iconst 1, 1) := dk_4 (dk_at dksX3_isFull_4 5 rfl rfl)
theorem dX3_isFull_89 : decode cX3_isFull 89 = .ok (.goto 4, 3) := dk_167 0 4 (dk_at dksX3_isFull_4 6 rfl rfl)
theorem dX3_isFull_92 : decode cX3_isFull 92 = .ok (.iconst 0, 1) := dk_3 (dk_at dksX3_isFull_4 9 rfl rfl)
theorem dX3_isFull_93 : decode cX3_isFull 93 = .ok (.ireturn, 1) := dk_172 (dk_at dksX3_isFull_4 10 rfl rfl)
theorem dX3_isFull_94 : decode cX3_isFull 94 = .ok (.aload_n 0, 1) := dk_42 (dk_at dksX3_isFull_4 11 rfl rfl)
theorem dX3_isFull_95 : decode cX3_isFull 95 = .ok (.getfield 64, 3) := dk_180 0 64 (dk_at dksX3_isFull_4 12 rfl rfl)
theorem dX3_isFull_98 : decode cX3_isFull 98 = .ok (.iconst 4, 1) := dk_7 (dk_at dksX3_isFull_4 15 rfl rfl)
theorem dX3_isFull_99 : decode cX3_isFull 99 = .ok (.iaload, 1) := dk_46 (dk_at dksX3_isFull_4 16 rfl rfl)
theorem dX3_isFull_100 : decode cX3_isFull 100 = .ok (.bipush 12, 2) := dk_16 12 (dk_at dksX3_isFull_4 17 rfl rfl)
theorem dX3_isFull_102 : decode cX3_isFull 102 = .ok (.if_icmp .ne 7, 3) := dk_160 0 7 (dk_at dksX3_isFull_4 19 rfl rfl)
theorem dX3_isFull_105 : decode cX3_isFull 105 = .ok (.iconst 1, 1) := dk_4 (dk_at dksX3_isFull_4 22 rfl rfl)
theorem dX3_isFull_106 : decode cX3_isFull 106 = .ok (.goto 4, 3) := dk_167 0 4 (dk_at dksX3_isFull_5 0 rfl rfl)
theorem dX3_isFull_109 : decode cX3_isFull 109 = .ok (.iconst 0, 1) := dk_3 (dk_at dksX3_isFull_5 3 rfl rfl)
theorem dX3_isFull_110 : decode cX3_isFull 110 = .ok (.ireturn, 1) := dk_172 (dk_at dksX3_isFull_5 4 rfl rfl)
theorem dX3_isFull_111 : decode cX3_isFull 111 = .ok (.aload_n 0, 1) := dk_42 (dk_at dksX3_isFull_5 5 rfl rfl)
theorem dX3_isFull_112 : decode cX3_isFull 112 = .ok (.getfield 64, 3) := dk_180 0 64 (dk_at dksX3_isFull_5 6 rfl rfl)
theorem dX3_isFull_115 : decode cX3_isFull 115 = .ok (.iconst 5, 1) := dk_8 (dk_at dksX3_isFull_5 9 rfl rfl)
theorem dX3_isFull_116 : decode cX3_isFull 116 = .ok (.iaload, 1) := dk_46 (dk_at dksX3_isFull_5 10 rfl rfl)
theorem dX3_isFull_117 : decode cX3_isFull 117 = .ok (.bipush 6, 2) := dk_16 6 (dk_at dksX3_isFull_5 11 rfl rfl)
theorem dX3_isFull_119 : decode cX3_isFull 119 = .ok (.if_icmp .ne 7, 3) := dk_160 0 7 (dk_at dksX3_isFull_5 13 rfl rfl)
theorem dX3_isFull_122 : decode cX3_isFull 122 = .ok (.iconst 1, 1) := dk_4 (dk_at dksX3_isFull_5 16 rfl rfl)
theorem dX3_isFull_123 : decode cX3_isFull 123 = .ok (.goto 4, 3) := dk_167 0 4 (dk_at dksX3_isFull_5 17 rfl rfl)
theorem dX3_isFull_126 : decode cX3_isFull 126 = .ok (.iconst 0, 1) := dk_3 (dk_at dksX3_isFull_5 20 rfl rfl)
theorem dX3_isFull_127 : decode cX3_isFull 127 = .ok (.ireturn, 1) := dk_172 (dk_at dksX3_isFull_5 21 rfl rfl)
theorem dX3_isFull_128 : decode cX3_isFull 128 = .ok (.iconst 0, 1) := dk_3 (dk_at dksX3_isFull_5 22 rfl rfl)
theorem dX3_isFull_129 : decode cX3_isFull 129 = .ok (.ireturn, 1) := dk_172 (dk_at dksX3_isFull_5 23 rfl rfl)
abbrev cX3_riverPart : ByteArray := prog_17_method_39_code
def yX3_riverPart : MethodName := ⟨RX3, "riverPart", "(I)V"⟩
def dkwX3_riverPart_9 : List UInt8 := [167, 0, 7, 42, 182, 1, 75, 177]
abbrev dktX3_riverPart_9 : List UInt8 := dkwX3_riverPart_9 ++ []
def dkwX3_riverPart_8 : List UInt8 := [16, 9, 182, 1, 64, 79, 42, 180, 0, 64, 6, 92, 46, 4, 96, 79, 167, 0, 14, 42, 182, 1, 72]
abbrev dktX3_riverPart_8 : List UInt8 := dkwX3_riverPart_8 ++ dktX3_riverPart_9
def dkwX3_riverPart_7 : List UInt8 := [182, 1, 64, 79, 42, 180, 0, 79, 28, 42, 3, 16, 99, 182, 1, 64, 79, 42, 180, 0, 82, 28, 42, 3]
abbrev dktX3_riverPart_7 : List UInt8 := dkwX3_riverPart_7 ++ dktX3_riverPart_8
def dkwX3_riverPart_6 : List UInt8 := [42, 3, 42, 180, 0, 64, 5, 46, 4, 100, 182, 1, 64, 79, 42, 180, 0, 76, 28, 42, 3, 16, 50]
abbrev dktX3_riverPart_6 : List UInt8 := dkwX3_riverPart_6 ++ dktX3_riverPart_7
def dkwX3_riverPart_5 : List UInt8 := [180, 0, 64, 5, 92, 46, 4, 96, 79, 167, 0, 92, 42, 180, 0, 64, 6, 46, 61, 42, 180, 0, 73, 28]
abbrev dktX3_riverPart_5 : List UInt8 := dkwX3_riverPart_5 ++ dktX3_riverPart_6
def dkwX3_riverPart_4 : List UInt8 := [180, 0, 64, 3, 46, 182, 1, 64, 79, 42, 180, 0, 70, 28, 42, 3, 16, 20, 182, 1, 64, 79, 42]
abbrev dktX3_riverPart_4 : List UInt8 := dkwX3_riverPart_4 ++ dktX3_riverPart_5
def dkwX3_riverPart_3 : List UInt8 := [182, 1, 64, 79, 167, 0, 142, 42, 180, 0, 64, 5, 46, 61, 42, 180, 0, 67, 28, 42, 4, 42]
abbrev dktX3_riverPart_3 : List UInt8 := dkwX3_riverPart_3 ++ dktX3_riverPart_4
def dkwX3_riverPart_2 : List UInt8 := [42, 180, 0, 64, 3, 42, 5, 16, 99, 182, 1, 64, 79, 42, 180, 0, 64, 4, 42, 3, 16, 99]
abbrev dktX3_riverPart_2 : List UInt8 := dkwX3_riverPart_2 ++ dktX3_riverPart_3
def dkwX3_riverPart_1 : List UInt8 := [170, 0, 0, 0, 0, 0, 195, 0, 0, 0, 0, 0, 0, 0, 3, 0, 0, 0, 31, 0, 0, 0, 60, 0, 0, 0, 110, 0, 0, 0, 188]
abbrev dktX3_riverPart_1 : List UInt8 := dkwX3_riverPart_1 ++ dktX3_riverPart_2
def dkwX3_riverPart_0 : List UInt8 := [27]
abbrev dktX3_riverPart_0 : List UInt8 := dkwX3_riverPart_0 ++ dktX3_riverPart_1
theorem dksX3_riverPart_0 : cX3_riverPart.data.toList.drop 0 = dktX3_riverPart_0 := by decide +kernel
theorem dksX3_riverPart_1 : cX3_riverPart.data.toList.drop 1 = dktX3_riverPart_1 := dk_seg dksX3_riverPart_0 1 rfl rfl
theorem dksX3_riverPart_2 : cX3_riverPart.data.toList.drop 32 = dktX3_riverPart_2 := dk_seg dksX3_riverPart_1 31 rfl rfl
theorem dksX3_riverPart_3 : cX3_riverPart.data.toList.drop 54 = dktX3_riverPart_3 := dk_seg dksX3_riverPart_2 22 rfl rfl
theorem dksX3_riverPart_4 : cX3_riverPart.data.toList.drop 76 = dktX3_riverPart_4 := dk_seg dksX3_riverPart_3 22 rfl rfl
theorem dksX3_riverPart_5 : cX3_riverPart.data.toList.drop 99 = dktX3_riverPart_5 := dk_seg dksX3_riverPart_4 23 rfl rfl
theorem dksX3_riverPart_6 : cX3_riverPart.data.toList.drop 123 = dktX3_riverPart_6 := dk_seg dksX3_riverPart_5 24 rfl rfl
theorem dksX3_riverPart_7 : cX3_riverPart.data.toList.drop 146 = dktX3_riverPart_7 := dk_seg dksX3_riverPart_6 23 rfl rfl
theorem dksX3_riverPart_8 : cX3_riverPart.data.toList.drop 170 = dktX3_riverPart_8 := dk_seg dksX3_riverPart_7 24 rfl rfl
theorem dksX3_riverPart_9 : cX3_riverPart.data.toList.drop 193 = dktX3_riverPart_9 := dk_seg dksX3_riverPart_8 23 rfl rfl
theorem dX3_riverPart_0 : decode cX3_riverPart 0 = .ok (.iload_n 1, 1) := dk_27 (dk_at dksX3_riverPart_0 0 rfl rfl)
theorem dX3_riverPart_1 : decode cX3_riverPart 1 = .ok (.tableswitch 195 0 3 #[31, 60, 110, 188], 31) := by decide +kernel
theorem dX3_riverPart_32 : decode cX3_riverPart 32 = .ok (.aload_n 0, 1) := dk_42 (dk_at dksX3_riverPart_2 0 rfl rfl)
theorem dX3_riverPart_33 : decode cX3_riverPart 33 = .ok (.getfield 64, 3) := dk_180 0 64 (dk_at dksX3_riverPart_2 1 rfl rfl)
theorem dX3_riverPart_36 : decode cX3_riverPart 36 = .ok (.iconst 0, 1) := dk_3 (dk_at dksX3_riverPart_2 4 rfl rfl)
theorem dX3_riverPart_37 : decode cX3_riverPart 37 = .ok (.aload_n 0, 1) := dk_42 (dk_at dksX3_riverPart_2 5 rfl rfl)
theorem dX3_riverPart_38 : decode cX3_riverPart 38 = .ok (.iconst 2, 1) := dk_5 (dk_at dksX3_riverPart_2 6 rfl rfl)
theorem dX3_riverPart_39 : decode cX3_riverPart 39 = .ok (.bipush 99, 2) := dk_16 99 (dk_at dksX3_riverPart_2 7 rfl rfl)
theorem dX3_riverPart_41 : decode cX3_riverPart 41 = .ok (.invokevirtual 320, 3) := dk_182 1 64 (dk_at dksX3_riverPart_2 9 rfl rfl)
theorem dX3_riverPart_44 : decode cX3_riverPart 44 = .ok (.iastore, 1) := dk_79 (dk_at dksX3_riverPart_2 12 rfl rfl)
theorem dX3_riverPart_45 : decode cX3_riverPart 45 = .ok (.aload_n 0, 1) := dk_42 (dk_at dksX3_riverPart_2 13 rfl rfl)
theorem dX3_riverPart_46 : decode cX3_riverPart 46 = .ok (.getfield 64, 3) := dk_180 0 64 (dk_at dksX3_riverPart_2 14 rfl rfl)
theorem dX3_riverPart_49 : decode cX3_riverPart 49 = .ok (.iconst 1, 1) := dk_4 (dk_at dksX3_riverPart_2 17 rfl rfl)
theorem dX3_riverPart_50 : decode cX3_riverPart 50 = .ok (.aload_n 0, 1) := dk_42 (dk_at dksX3_riverPart_2 18 rfl rfl)
theorem dX3_riverPart_51 : decode cX3_riverPart 51 = .ok (.iconst 0, 1) := dk_3 (dk_at dksX3_riverPart_2 19 rfl rfl)
theorem dX3_riverPart_52 : decode cX3_riverPart 52 = .ok (.bipush 99, 2) := dk_16 99 (dk_at dksX3_riverPart_2 20 rfl rfl)
theorem dX3_riverPart_54 : decode cX3_riverPart 54 = .ok (.invokevirtual 320, 3) := dk_182 1 64 (dk_at dksX3_riverPart_3 0 rfl rfl)
theorem dX3_riverPart_57 : decode cX3_riverPart 57 = .ok (.iastore, 1) := dk_79 (dk_at dksX3_riverPart_3 3 rfl rfl)
theorem dX3_riverPart_58 : decode cX3_riverPart 58 = .ok (.goto 142, 3) := dk_167 0 142 (dk_at dksX3_riverPart_3 4 rfl rfl)
theorem dX3_riverPart_61 : decode cX3_riverPart 61 = .ok (.aload_n 0, 1) := dk_42 (dk_at dksX3_riverPart_3 7 rfl rfl)
theorem dX3_riverPart_62 : decode cX3_riverPart 62 = .ok (.getfield 64, 3) := dk_180 0 64 (dk_at dksX3_riverPart_3 8 rfl rfl)
theorem dX3_riverPart_65 : decode cX3_riverPart 65 = .ok (.iconst 2, 1) := dk_5 (dk_at dksX3_riverPart_3 11 rfl rfl)
theorem dX3_riverPart_66 : decode cX3_riverPart 66 = .ok (.iaload, 1) := dk_46 (dk_at dksX3_riverPart_3 12 rfl rfl)
theorem dX3_riverPart_67 : decode cX3_riverPart 67 = .ok (.istore_n 2, 1) := dk_61 (dk_at dksX3_riverPart_3 13 rfl rfl)
theorem dX3_riverPart_68 : decode cX3_riverPart 68 = .ok (.aload_n 0, 1) := dk_42 (dk_at dksX3_riverPart_3 14 rfl rfl)
theorem dX3_riverPart_69 : decode cX3_riverPart 69 = .ok (.getfield 67, 3) := dk_180 0 67 (dk_at dksX3_riverPart_3 15 rfl rfl)
theorem dX3_riverPart_72 : decode cX3_riverPart 72 = .ok (.iload_n 2, 1) := dk_28 (dk_at dksX3_riverPart_3 18 rfl rfl)
theorem dX3_riverPart_73 : decode cX3_riverPart 73 = .ok (.aload_n 0, 1) := dk_42 (dk_at dksX3_riverPart_3 19 rfl rfl)
theorem dX3_riverPart_74 : decode cX3_riverPart 74 = .ok (.iconst 1, 1) := dk_4 (dk_at dksX3_riverPart_3 20 rfl rfl)
theorem dX3_riverPart_75 : decode cX3_riverPart 75 = .ok (.aload_n 0, 1) := dk_42 (dk_at dksX3_riverPart_3 21 rfl rfl)
theorem dX3_riverPart_76 : decode cX3_riverPart 76 = .ok (.getfield 64, 3) := dk_180 0 64 (dk_at dksX3_riverPart_4 0 rfl rfl)
theorem dX3_riverPart_79 : decode cX3_riverPart 79 = .ok (.iconst 0, 1) := dk_3 (dk_at dksX3_riverPart_4 3 rfl rfl)
theorem dX3_riverPart_80 : decode cX3_riverPart 80 = .ok (.iaload, 1) := dk_46 (dk_at dksX3_riverPart_4 4 rfl rfl)
theorem dX3_riverPart_81 : decode cX3_riverPart 81 = .ok (.invokevirtual 320, 3) := dk_182 1 64 (dk_at dksX3_riverPart_4 5 rfl rfl)
theorem dX3_riverPart_84 : decode cX3_riverPart 84 = .ok (.iastore, 1) := dk_79 (dk_at dksX3_riverPart_4 8 rfl rfl)
theorem dX3_riverPart_85 : decode cX3_riverPart 85 = .ok (.aload_n 0, 1) := dk_42 (dk_at dksX3_riverPart_4 9 rfl rfl)
theorem dX3_riverPart_86 : decode cX3_riverPart 86 = .ok (.getfield 70, 3) := dk_180 0 70 (dk_at dksX3_riverPart_4 10 rfl rfl)
theorem dX3_riverPart_89 : decode cX3_riverPart 89 = .ok (.iload_n 2, 1) := dk_28 (dk_at dksX3_riverPart_4 13 rfl rfl)
theorem dX3_riverPart_90 : decode cX3_riverPart 90 = .ok (.aload_n 0, 1) := dk_42 (dk_at dksX3_riverPart_4 14 rfl rfl)
theorem dX3_riverPart_91 : decode cX3_riverPart 91 = .ok (.iconst 0, 1) := dk_3 (dk_at dksX3_riverPart_4 15 rfl rfl)
theorem dX3_riverPart_92 : decode cX3_riverPart 92 = .ok (.bipush 20, 2) := dk_16 20 (dk_at dksX3_riverPart_4 16 rfl rfl)
theorem dX3_riverPart_94 : decode cX3_riverPart 94 = .ok (.invokevirtual 320, 3) := dk_182 1 64 (dk_at dksX3_riverPart_4 18 rfl rfl)
theorem dX3_riverPart_97 : decode cX3_riverPart 97 = .ok (.iastore, 1) := dk_79 (dk_at dksX3_riverPart_4 21 rfl rfl)
theorem dX3_riverPart_98 : decode cX3_riverPart 98 = .ok (.aload_n 0, 1) := dk_42 (dk_at dksX3_riverPart_4 22 rfl rfl)
theorem dX3_riverPart_99 : decode cX3_riverPart 99 = .ok (.getfield 64, 3) := dk_180 0 64 (dk_at dksX3_riverPart_5 0 rfl rfl)
theorem dX3_riverPart_102 : decode cX3_riverPart 102 = .ok (.iconst 2, 1) := dk_5 (dk_at dksX3_riverPart_5 3 rfl rfl)
theorem dX3_riverPart_103 : decode cX3_riverPart 103 = .ok (.dup2, 1) := dk_92 (dk_at dksX3_riverPart_5 4 rfl rfl)
theorem dX3_riverPart_104 : decode cX3_riverPart 104 = .ok (.iaload, 1) := dk_46 (dk_at dksX3_riverPart_5 5 rfl rfl)
theorem dX3_riverPart_105 : decode cX3_riverPart 105 = .ok (.iconst 1, 1) := dk_4 (dk_at dksX3_riverPart_5 6 rfl rfl)
theorem dX3_riverPart_106 : decode cX3_riverPart 106 = .ok (.iadd, 1) := dk_96 (dk_at dksX3_riverPart_5 7 rfl rfl)
theorem dX3_riverPart_107 : decode cX3_riverPart 107 = .ok (.iastore, 1) := dk_79 (dk_at dksX3_riverPart_5 8 rfl rfl)
theorem dX3_riverPart_108 : decode cX3_riverPart 108 = .ok (.goto 92, 3) := dk_167 0 92 (dk_at dksX3_riverPart_5 9 rfl rfl)
theorem dX3_riverPart_111 : decode cX3_riverPart 111 = .ok (.aload_n 0, 1) := dk_42 (dk_at dksX3_riverPart_5 12 rfl rfl)
theorem dX3_riverPart_112 : decode cX3_riverPart 112 = .ok (.getfield 64, 3) := dk_180 0 64 (dk_at dksX3_riverPart_5 13 rfl rfl)
theorem dX3_riverPart_115 : decode cX3_riverPart 115 = .ok (.iconst 3, 1) := dk_6 (dk_at dksX3_riverPart_5 16 rfl rfl)
theorem dX3_riverPart_116 : decode cX3_riverPart 116 = .ok (.iaload, 1) := dk_46 (dk_at dksX3_riverPart_5 17 rfl rfl)
theorem dX3_riverPart_117 : decode cX3_riverPart 117 = .ok (.istore_n 2, 1) := dk_61 (dk_at dksX3_riverPart_5 18 rfl rfl)
theorem dX3_riverPart_118 : decode cX3_riverPart 118 = .ok (.aload_n 0, 1) := dk_42 (dk_at dksX3_riverPart_5 19 rfl rfl)
theorem dX3_riverPart_119 : decode cX3_riverPart 119 = .ok (.getfield 73, 3) := dk_180 0 73 (dk_at dksX3_riverPart_5 20 rfl rfl)
theorem dX3_riverPart_122 : decode cX3_riverPart 122 = .ok (.iload_n 2, 1) := dk_28 (dk_at dksX3_riverPart_5 23 rfl rfl)
theorem dX3_riverPart_123 : decode cX3_riverPart 123 = .ok (.aload_n 0, 1) := dk_42 (dk_at dksX3_riverPart_6 0 rfl rfl)
theorem dX3_riverPart_124 : decode cX3_riverPart 124 = .ok (.iconst 0, 1) := dk_3 (dk_at dksX3_riverPart_6 1 rfl rfl)
theorem dX3_riverPart_125 : decode cX3_riverPart 125 = .ok (.aload_n 0, 1) := dk_42 (dk_at dksX3_riverPart_6 2 rfl rfl)
theorem dX3_riverPart_126 : decode cX3_riverPart 126 = .ok (.getfield 64, 3) := dk_180 0 64 (dk_at dksX3_riverPart_6 3 rfl rfl)
theorem dX3_riverPart_129 : decode cX3_riverPart 129 = .ok (.iconst 2, 1) := dk_5 (dk_at dksX3_riverPart_6 6 rfl rfl)
theorem dX3_riverPart_130 : decode cX3_riverPart 130 = .ok (.iaload, 1) := dk_46 (dk_at dksX3_riverPart_6 7 rfl rfl)
theorem dX3_riverPart_131 : decode cX3_riverPart 131 = .ok (.iconst 1, 1) := dk_4 (dk_at dksX3_riverPart_6 8 rfl rfl)
theorem dX3_riverPart_132 : decode cX3_riverPart 132 = .ok (.isub, 1) := dk_100 (dk_at dksX3_riverPart_6 9 rfl rfl)
theorem dX3_riverPart_133 : decode cX3_riverPart 133 = .ok (.invokevirtual 320, 3) := dk_182 1 64 (dk_at dksX3_riverPart_6 10 rfl rfl)
theorem dX3_riverPart_136 : decode cX3_riverPart 136 = .ok (.iastore, 1) := dk_79 (dk_at dksX3_riverPart_6 13 rfl rfl)
theorem dX3_riverPart_137 : decode cX3_riverPart 137 = .ok (.aload_n 0, 1) := dk_42 (dk_at dksX3_riverPart_6 14 rfl rfl)
theorem dX3_riverPart_138 : decode cX3_riverPart 138 = .ok (.getfield 76, 3) := dk_180 0 76 (dk_at dksX3_riverPart_6 15 rfl rfl)
theorem dX3_riverPart_141 : decode cX3_riverPart 141 = .ok (.iload_n 2, 1) := dk_28 (dk_at dksX3_riverPart_6 18 rfl rfl)
theorem dX3_riverPart_142 : decode cX3_riverPart 142 = .ok (.aload_n 0, 1) := dk_42 (dk_at dksX3_riverPart_6 19 rfl rfl)
theorem dX3_riverPart_143 : decode cX3_riverPart 143 = .ok (.iconst 0, 1) := dk_3 (dk_at dksX3_riverPart_6 20 rfl rfl)
theorem dX3_riverPart_144 : decode cX3_riverPart 144 = .ok (.bipush 50, 2) := dk_16 50 (dk_at dksX3_riverPart_6 21 rfl rfl)
theorem dX3_riverPart_146 : decode cX3_riverPart 146 = .ok (.invokevirtual 320, 3) := dk_182 1 64 (dk_at dksX3_riverPart_7 0 rfl rfl)
theorem dX3_riverPart_149 : decode cX3_riverPart 149 = .ok (.iastore, 1) := dk_79 (dk_at dksX3_riverPart_7 3 rfl rfl)
theorem dX3_riverPart_150 : decode cX3_riverPart 150 = .ok (.aload_n 0, 1) := dk_42 (dk_at dksX3_riverPart_7 4 rfl rfl)
theorem dX3_riverPart_151 : decode cX3_riverPart 151 = .ok (.getfield 79, 3) := dk_180 0 79 (dk_at dksX3_riverPart_7 5 rfl rfl)
theorem dX3_riverPart_154 : decode cX3_riverPart 154 = .ok (.iload_n 2, 1) := dk_28 (dk_at dksX3_riverPart_7 8 rfl rfl)
theorem dX3_riverPart_155 : decode cX3_riverPart 155 = .ok (.aload_n 0, 1) := dk_42 (dk_at dksX3_riverPart_7 9 rfl rfl)
theorem dX3_riverPart_156 : decode cX3_riverPart 156 = .ok (.iconst 0, 1) := dk_3 (dk_at dksX3_riverPart_7 10 rfl rfl)
theorem dX3_riverPart_157 : decode cX3_riverPart 157 = .ok (.bipush 99, 2) := dk_16 99 (dk_at dksX3_riverPart_7 11 rfl rfl)
theorem dX3_riverPart_159 : decode cX3_riverPart 159 = .ok (.invokevirtual 320, 3) := dk_182 1 64 (dk_at dksX3_riverPart_7 13 rfl rfl)
theorem dX3_riverPart_162 : decode cX3_riverPart 162 = .ok (.iastore, 1) := dk_79 (dk_at dksX3_riverPart_7 16 rfl rfl)
theorem dX3_riverPart_163 : decode cX3_riverPart 163 = .ok (.aload_n 0, 1) := dk_42 (dk_at dksX3_riverPart_7 17 rfl rfl)
theorem dX3_riverPart_164 : decode cX3_riverPart 164 = .ok (.getfield 82, 3) := dk_180 0 82 (dk_at dksX3_riverPart_7 18 rfl rfl)
theorem dX3_riverPart_167 : decode cX3_riverPart 167 = .ok (.iload_n 2, 1) := dk_28 (dk_at dksX3_riverPart_7 21 rfl rfl)
theorem dX3_riverPart_168 : decode cX3_riverPart 168 = .ok (.aload_n 0, 1) := dk_42 (dk_at dksX3_riverPart_7 22 rfl rfl)
theorem dX3_riverPart_169 : decode cX3_riverPart 169 = .ok (.iconst 0, 1) := dk_3 (dk_at dksX3_riverPart_7 23 rfl rfl)
theorem dX3_riverPart_170 : decode cX3_riverPart 170 = .ok (.bipush 9, 2) := dk_16 9 (dk_at dksX3_riverPart_8 0 rfl rfl)
theorem dX3_riverPart_172 : decode cX3_riverPart 172 = .ok (.invokevirtual 320, 3) := dk_182 1 64 (dk_at dksX3_riverPart_8 2 rfl rfl)
theorem dX3_riverPart_175 : decode cX3_riverPart 175 = .ok (.iastore, 1) := dk_79 (dk_at dksX3_riverPart_8 5 rfl rfl)
theorem dX3_riverPart_176 : decode cX3_riverPart 176 = .ok (.aload_n 0, 1) := dk_42 (dk_at dksX3_riverPart_8 6 rfl rfl)
theorem dX3_riverPart_177 : decode cX3_riverPart 177 = .ok (.getfield 64, 3) := dk_180 0 64 (dk_at dksX3_riverPart_8 7 rfl rfl)
theorem dX3_riverPart_180 : decode cX3_riverPart 180 = .ok (.iconst 3, 1) := dk_6 (dk_at dksX3_riverPart_8 10 rfl rfl)
theorem dX3_riverPart_181 : decode cX3_riverPart 181 = .ok (.dup2, 1) := dk_92 (dk_at dksX3_riverPart_8 11 rfl rfl)
theorem dX3_riverPart_182 : decode cX3_riverPart 182 = .ok (.iaload, 1) := dk_46 (dk_at dksX3_riverPart_8 12 rfl rfl)
theorem dX3_riverPart_183 : decode cX3_riverPart 183 = .ok (.iconst 1, 1) := dk_4 (dk_at dksX3_riverPart_8 13 rfl rfl)
theorem dX3_riverPart_184 : decode cX3_riverPart 184 = .ok (.iadd, 1) := dk_96 (dk_at dksX3_riverPart_8 14 rfl rfl)
theorem dX3_riverPart_185 : decode cX3_riverPart 185 = .ok (.iastore, 1) := dk_79 (dk_at dksX3_riverPart_8 15 rfl rfl)
theorem dX3_riverPart_186 : decode cX3_riverPart 186 = .ok (.goto 14, 3) := dk_167 0 14 (dk_at dksX3_riverPart_8 16 rfl rfl)
theorem dX3_riverPart_189 : decode cX3_riverPart 189 = .ok (.aload_n 0, 1) := dk_42 (dk_at dksX3_riverPart_8 19 rfl rfl)
theorem dX3_riverPart_190 : decode cX3_riverPart 190 = .ok (.invokevirtual 328, 3) := dk_182 1 72 (dk_at dksX3_riverPart_8 20 rfl rfl)
theorem dX3_riverPart_193 : decode cX3_riverPart 193 = .ok (.goto 7, 3) := dk_167 0 7 (dk_at dksX3_riverPart_9 0 rfl rfl)
theorem dX3_riverPart_196 : decode cX3_riverPart 196 = .ok (.aload_n 0, 1) := dk_42 (dk_at dksX3_riverPart_9 3 rfl rfl)
theorem dX3_riverPart_197 : decode cX3_riverPart 197 = .ok (.invokevirtual 331, 3) := dk_182 1 75 (dk_at dksX3_riverPart_9 4 rfl rfl)
theorem dX3_riverPart_200 : decode cX3_riverPart 200 = .ok (.return_, 1) := dk_177 (dk_at dksX3_riverPart_9 7 rfl rfl)
abbrev cX3_amount : ByteArray := prog_17_method_34_code
def yX3_amount : MethodName := ⟨RX3, "amount", "(II)I"⟩
def dkwX3_amount_2 : List UInt8 := [154, 0, 9, 42, 4, 29, 182, 0, 251, 21, 4, 172]
abbrev dktX3_amount_2 : List UInt8 := dkwX3_amount_2 ++ []
def dkwX3_amount_1 : List UInt8 := [167, 0, 4, 3, 54, 4, 42, 180, 0, 212, 154, 0, 22, 21, 4, 133, 27, 133, 28, 133, 184, 0, 176]
abbrev dktX3_amount_1 : List UInt8 := dkwX3_amount_1 ++ dktX3_amount_2
def dkwX3_amount_0 : List UInt8 := [42, 182, 0, 235, 42, 180, 0, 215, 62, 42, 180, 0, 212, 154, 0, 13, 42, 19, 1, 3, 182, 1, 4]
abbrev dktX3_amount_0 : List UInt8 := dkwX3_amount_0 ++ dktX3_amount_1
theorem dksX3_amount_0 : cX3_amount.data.toList.drop 0 = dktX3_amount_0 := by decide +kernel
theorem dksX3_amount_1 : cX3_amount.data.toList.drop 23 = dktX3_amount_1 := dk_seg dksX3_amount_0 23 rfl rfl
theorem dksX3_amount_2 : cX3_amount.data.toList.drop 46 = dktX3_amount_2 := dk_seg dksX3_amount_1 23 rfl rfl
theorem dX3_amount_0 : decode cX3_amount 0 = .ok (.aload_n 0, 1) := dk_42 (dk_at dksX3_amount_0 0 rfl rfl)
theorem dX3_amount_1 : decode cX3_amount 1 = .ok (.invokevirtual 235, 3) := dk_182 0 235 (dk_at dksX3_amount_0 1 rfl rfl)
theorem dX3_amount_4 : decode cX3_amount 4 = .ok (.aload_n 0, 1) := dk_42 (dk_at dksX3_amount_0 4 rfl rfl)
theorem dX3_amount_5 : decode cX3_amount 5 = .ok (.getfield 215, 3) := dk_180 0 215 (dk_at dksX3_amount_0 5 rfl rfl)
theorem dX3_amount_8 : decode cX3_amount 8 = .ok (.istore_n 3, 1) := dk_62 (dk_at dksX3_amount_0 8 rfl rfl)
theorem dX3_amount_9 : decode cX3_amount 9 = .ok (.aload_n 0, 1) := dk_42 (dk_at dksX3_amount_0 9 rfl rfl)
theorem dX3_amount_10 : decode cX3_amount 10 = .ok (.getfield 212, 3) := dk_180 0 212 (dk_at dksX3_amount_0 10 rfl rfl)
theorem dX3_amount_13 : decode cX3_amount 13 = .ok (.ifCond .ne 13, 3) := dk_154 0 13 (dk_at dksX3_amount_0 13 rfl rfl)
theorem dX3_amount_16 : decode cX3_amount 16 = .ok (.aload_n 0, 1) := dk_42 (dk_at dksX3_amount_0 16 rfl rfl)
theorem dX3_amount_17 : decode cX3_amount 17 = .ok (.ldc_w 259, 3) := dk_19 1 3 (dk_at dksX3_amount_0 17 rfl rfl)
theorem dX3_amount_20 : decode cX3_amount 20 = .ok (.invokevirtual 260, 3) := dk_182 1 4 (dk_at dksX3_amount_0 20 rfl rfl)
theorem dX3_amount_23 : decode cX3_amount 23 = .ok (.goto 4, 3) := dk_167 0 4 (dk_at dksX3_amount_1 0 rfl rfl)
theorem dX3_amount_26 : decode cX3_amount 26 = .ok (.iconst 0, 1) := dk_3 (dk_at dksX3_amount_1 3 rfl rfl)
theorem dX3_amount_27 : decode cX3_amount 27 = .ok (.istore 4, 2) := dk_54 4 (dk_at dksX3_amount_1 4 rfl rfl)
theorem dX3_amount_29 : decode cX3_amount 29 = .ok (.aload_n 0, 1) := dk_42 (dk_at dksX3_amount_1 6 rfl rfl)
theorem dX3_amount_30 : decode cX3_amount 30 = .ok (.getfield 212, 3) := dk_180 0 212 (dk_at dksX3_amount_1 7 rfl rfl)
theorem dX3_amount_33 : decode cX3_amount 33 = .ok (.ifCond .ne 22, 3) := dk_154 0 22 (dk_at dksX3_amount_1 10 rfl rfl)
theorem dX3_amount_36 : decode cX3_amount 36 = .ok (.iload 4, 2) := dk_21 4 (dk_at dksX3_amount_1 13 rfl rfl)
theorem dX3_amount_38 : decode cX3_amount 38 = .ok (.i2l, 1) := dk_133 (dk_at dksX3_amount_1 15 rfl rfl)
theorem dX3_amount_39 : decode cX3_amount 39 = .ok (.iload_n 1, 1) := dk_27 (dk_at dksX3_amount_1 16 rfl rfl)
theorem dX3_amount_40 : decode cX3_amount 40 = .ok (.i2l, 1) := dk_133 (dk_at dksX3_amount_1 17 rfl rfl)
theorem dX3_amount_41 : decode cX3_amount 41 = .ok (.iload_n 2, 1) := dk_28 (dk_at dksX3_amount_1 18 rfl rfl)
theorem dX3_amount_42 : decode cX3_amount 42 = .ok (.i2l, 1) := dk_133 (dk_at dksX3_amount_1 19 rfl rfl)
theorem dX3_amount_43 : decode cX3_amount 43 = .ok (.invokestatic 176, 3) := dk_184 0 176 (dk_at dksX3_amount_1 20 rfl rfl)
theorem dX3_amount_46 : decode cX3_amount 46 = .ok (.ifCond .ne 9, 3) := dk_154 0 9 (dk_at dksX3_amount_2 0 rfl rfl)
theorem dX3_amount_49 : decode cX3_amount 49 = .ok (.aload_n 0, 1) := dk_42 (dk_at dksX3_amount_2 3 rfl rfl)
theorem dX3_amount_50 : decode cX3_amount 50 = .ok (.iconst 1, 1) := dk_4 (dk_at dksX3_amount_2 4 rfl rfl)
theorem dX3_amount_51 : decode cX3_amount 51 = .ok (.iload_n 3, 1) := dk_29 (dk_at dksX3_amount_2 5 rfl rfl)
theorem dX3_amount_52 : decode cX3_amount 52 = .ok (.invokevirtual 251, 3) := dk_182 0 251 (dk_at dksX3_amount_2 6 rfl rfl)
theorem dX3_amount_55 : decode cX3_amount 55 = .ok (.iload 4, 2) := dk_21 4 (dk_at dksX3_amount_2 9 rfl rfl)
theorem dX3_amount_57 : decode cX3_amount 57 = .ok (.ireturn, 1) := dk_172 (dk_at dksX3_amount_2 11 rfl rfl)
abbrev cX3_digits : ByteArray := prog_17_method_24_code
def yX3_digits : MethodName := ⟨RX3, "digits", "(I)I"⟩
def dkwX3_digits_4 : List UInt8 := [29, 172]
abbrev dktX3_digits_4 : List UInt8 := dkwX3_digits_4 ++ []
def dkwX3_digits_3 : List UInt8 := [167, 255, 212, 42, 180, 0, 215, 28, 100, 8, 163, 0, 8, 29, 27, 164, 0, 9, 42, 4, 28, 182, 0, 251]
abbrev dktX3_digits_3 : List UInt8 := dkwX3_digits_3 ++ dktX3_digits_4
def dkwX3_digits_2 : List UInt8 := [182, 0, 218, 96, 16, 48, 100, 167, 0, 4, 29, 62, 42, 89, 180, 0, 215, 4, 96, 181, 0, 215]
abbrev dktX3_digits_2 : List UInt8 := dkwX3_digits_2 ++ dktX3_digits_3
def dkwX3_digits_1 : List UInt8 := [62, 42, 182, 0, 255, 153, 0, 43, 42, 180, 0, 215, 28, 100, 8, 162, 0, 18, 16, 10, 29, 104, 42]
abbrev dktX3_digits_1 : List UInt8 := dkwX3_digits_1 ++ dktX3_digits_2
def dkwX3_digits_0 : List UInt8 := [42, 182, 0, 255, 154, 0, 14, 42, 3, 42, 180, 0, 215, 182, 0, 251, 3, 172, 42, 180, 0, 215, 61, 3]
abbrev dktX3_digits_0 : List UInt8 := dkwX3_digits_0 ++ dktX3_digits_1
theorem dksX3_digits_0 : cX3_digits.data.toList.drop 0 = dktX3_digits_0 := by decide +kernel
theorem dksX3_digits_1 : cX3_digits.data.toList.drop 24 = dktX3_digits_1 := dk_seg dksX3_digits_0 24 rfl rfl
theorem dksX3_digits_2 : cX3_digits.data.toList.drop 47 = dktX3_digits_2 := dk_seg dksX3_digits_1 23 rfl rfl
theorem dksX3_digits_3 : cX3_digits.data.toList.drop 69 = dktX3_digits_3 := dk_seg dksX3_digits_2 22 rfl rfl
theorem dksX3_digits_4 : cX3_digits.data.toList.drop 93 = dktX3_digits_4 := dk_seg dksX3_digits_3 24 rfl rfl
theorem dX3_digits_0 : decode cX3_digits 0 = .ok (.aload_n 0, 1) := dk_42 (dk_at dksX3_digits_0 0 rfl rfl)
theorem dX3_digits_1 : decode cX3_digits 1 = .ok (.invokevirtual 255, 3) := dk_182 0 255 (dk_at dksX3_digits_0 1 rfl rfl)
theorem dX3_digits_4 : decode cX3_digits 4 = .ok (.ifCond .ne 14, 3) := dk_154 0 14 (dk_at dksX3_digits_0 4 rfl rfl)
theorem dX3_digits_7 : decode cX3_digits 7 = .ok (.aload_n 0, 1) := dk_42 (dk_at dksX3_digits_0 7 rfl rfl)
theorem dX3_digits_8 : decode cX3_digits 8 = .ok (.iconst 0, 1) := dk_3 (dk_at dksX3_digits_0 8 rfl rfl)
theorem dX3_digits_9 : decode cX3_digits 9 = .ok (.aload_n 0, 1) := dk_42 (dk_at dksX3_digits_0 9 rfl rfl)
theorem dX3_digits_10 : decode cX3_digits 10 = .ok (.getfield 215, 3) := dk_180 0 215 (dk_at dksX3_digits_0 10 rfl rfl)
theorem dX3_digits_13 : decode cX3_digits 13 = .ok (.invokevirtual 251, 3) := dk_182 0 251 (dk_at dksX3_digits_0 13 rfl rfl)
theorem dX3_digits_16 : decode cX3_digits 16 = .ok (.iconst 0, 1) := dk_3 (dk_at dksX3_digits_0 16 rfl rfl)
theorem dX3_digits_17 : decode cX3_digits 17 = .ok (.ireturn, 1) := dk_172 (dk_at dksX3_digits_0 17 rfl rfl)
theorem dX3_digits_18 : decode cX3_digits 18 = .ok (.aload_n 0, 1) := dk_42 (dk_at dksX3_digits_0 18 rfl rfl)
theorem dX3_digits_19 : decode cX3_digits 19 = .ok (.getfield 215, 3) := dk_180 0 215 (dk_at dksX3_digits_0 19 rfl rfl)
theorem dX3_digits_22 : decode cX3_digits 22 = .ok (.istore_n 2, 1) := dk_61 (dk_at dksX3_digits_0 22 rfl rfl)
theorem dX3_digits_23 : decode cX3_digits 23 = .ok (.iconst 0, 1) := dk_3 (dk_at dksX3_digits_0 23 rfl rfl)
theorem dX3_digits_24 : decode cX3_digits 24 = .ok (.istore_n 3, 1) := dk_62 (dk_at dksX3_digits_1 0 rfl rfl)
theorem dX3_digits_25 : decode cX3_digits 25 = .ok (.aload_n 0, 1) := dk_42 (dk_at dksX3_digits_1 1 rfl rfl)
theorem dX3_digits_26 : decode cX3_digits 26 = .ok (.invokevirtual 255, 3) := dk_182 0 255 (dk_at dksX3_digits_1 2 rfl rfl)
theorem dX3_digits_29 : decode cX3_digits 29 = .ok (.ifCond .eq 43, 3) := dk_153 0 43 (dk_at dksX3_digits_1 5 rfl rfl)
theorem dX3_digits_32 : decode cX3_digits 32 = .ok (.aload_n 0, 1) := dk_42 (dk_at dksX3_digits_1 8 rfl rfl)
theorem dX3_digits_33 : decode cX3_digits 33 = .ok (.getfield 215, 3) := dk_180 0 215 (dk_at dksX3_digits_1 9 rfl rfl)
theorem dX3_digits_36 : decode cX3_digits 36 = .ok (.iload_n 2, 1) := dk_28 (dk_at dksX3_digits_1 12 rfl rfl)
theorem dX3_digits_37 : decode cX3_digits 37 = .ok (.isub, 1) := dk_100 (dk_at dksX3_digits_1 13 rfl rfl)
theorem dX3_digits_38 : decode cX3_digits 38 = .ok (.iconst 5, 1) := dk_8 (dk_at dksX3_digits_1 14 rfl rfl)
theorem dX3_digits_39 : decode cX3_digits 39 = .ok (.if_icmp .ge 18, 3) := dk_162 0 18 (dk_at dksX3_digits_1 15 rfl rfl)
theorem dX3_digits_42 : decode cX3_digits 42 = .ok (.bipush 10, 2) := dk_16 10 (dk_at dksX3_digits_1 18 rfl rfl)
theorem dX3_digits_44 : decode cX3_digits 44 = .ok (.iload_n 3, 1) := dk_29 (dk_at dksX3_digits_1 20 rfl rfl)
theorem dX3_digits_45 : decode cX3_digits 45 = .ok (.imul, 1) := dk_104 (dk_at dksX3_digits_1 21 rfl rfl)
theorem dX3_digits_46 : decode cX3_digits 46 = .ok (.aload_n 0, 1) := dk_42 (dk_at dksX3_digits_1 22 rfl rfl)
theorem dX3_digits_47 : decode cX3_digits 47 = .ok (.invokevirtual 218, 3) := dk_182 0 218 (dk_at dksX3_digits_2 0 rfl rfl)
theorem dX3_digits_50 : decode cX3_digits 50 = .ok (.iadd, 1) := dk_96 (dk_at dksX3_digits_2 3 rfl rfl)
theorem dX3_digits_51 : decode cX3_digits 51 = .ok (.bipush 48, 2) := dk_16 48 (dk_at dksX3_digits_2 4 rfl rfl)
theorem dX3_digits_53 : decode cX3_digits 53 = .ok (.isub, 1) := dk_100 (dk_at dksX3_digits_2 6 rfl rfl)
theorem dX3_digits_54 : decode cX3_digits 54 = .ok (.goto 4, 3) := dk_167 0 4 (dk_at dksX3_digits_2 7 rfl rfl)
theorem dX3_digits_57 : decode cX3_digits 57 = .ok (.iload_n 3, 1) := dk_29 (dk_at dksX3_digits_2 10 rfl rfl)
theorem dX3_digits_58 : decode cX3_digits 58 = .ok (.istore_n 3, 1) := dk_62 (dk_at dksX3_digits_2 11 rfl rfl)
theorem dX3_digits_59 : decode cX3_digits 59 = .ok (.aload_n 0, 1) := dk_42 (dk_at dksX3_digits_2 12 rfl rfl)
theorem dX3_digits_60 : decode cX3_digits 60 = .ok (.dup, 1) := dk_89 (dk_at dksX3_digits_2 13 rfl rfl)
theorem dX3_digits_61 : decode cX3_digits 61 = .ok (.getfield 215, 3) := dk_180 0 215 (dk_at dksX3_digits_2 14 rfl rfl)
theorem dX3_digits_64 : decode cX3_digits 64 = .ok (.iconst 1, 1) := dk_4 (dk_at dksX3_digits_2 17 rfl rfl)
theorem dX3_digits_65 : decode cX3_digits 65 = .ok (.iadd, 1) := dk_96 (dk_at dksX3_digits_2 18 rfl rfl)
theorem dX3_digits_66 : decode cX3_digits 66 = .ok (.putfield 215, 3) := dk_181 0 215 (dk_at dksX3_digits_2 19 rfl rfl)
theorem dX3_digits_69 : decode cX3_digits 69 = .ok (.goto (-44), 3) := dk_167 255 212 (dk_at dksX3_digits_3 0 rfl rfl)
theorem dX3_digits_72 : decode cX3_digits 72 = .ok (.aload_n 0, 1) := dk_42 (dk_at dksX3_digits_3 3 rfl rfl)
theorem dX3_digits_73 : decode cX3_digits 73 = .ok (.getfield 215, 3) := dk_180 0 215 (dk_at dksX3_digits_3 4 rfl rfl)
theorem dX3_digits_76 : decode cX3_digits 76 = .ok (.iload_n 2, 1) := dk_28 (dk_at dksX3_digits_3 7 rfl rfl)
theorem dX3_digits_77 : decode cX3_digits 77 = .ok (.isub, 1) := dk_100 (dk_at dksX3_digits_3 8 rfl rfl)
theorem dX3_digits_78 : decode cX3_digits 78 = .ok (.iconst 5, 1) := dk_8 (dk_at dksX3_digits_3 9 rfl rfl)
theorem dX3_digits_79 : decode cX3_digits 79 = .ok (.if_icmp .gt 8, 3) := dk_163 0 8 (dk_at dksX3_digits_3 10 rfl rfl)
theorem dX3_digits_82 : decode cX3_digits 82 = .ok (.iload_n 3, 1) := dk_29 (dk_at dksX3_digits_3 13 rfl rfl)
theorem dX3_digits_83 : decode cX3_digits 83 = .ok (.iload_n 1, 1) := dk_27 (dk_at dksX3_digits_3 14 rfl rfl)
theorem dX3_digits_84 : decode cX3_digits 84 = .ok (.if_icmp .le 9, 3) := dk_164 0 9 (dk_at dksX3_digits_3 15 rfl rfl)
theorem dX3_digits_87 : decode cX3_digits 87 = .ok (.aload_n 0, 1) := dk_42 (dk_at dksX3_digits_3 18 rfl rfl)
theorem dX3_digits_88 : decode cX3_digits 88 = .ok (.iconst 1, 1) := dk_4 (dk_at dksX3_digits_3 19 rfl rfl)
theorem dX3_digits_89 : decode cX3_digits 89 = .ok (.iload_n 2, 1) := dk_28 (dk_at dksX3_digits_3 20 rfl rfl)
theorem dX3_digits_90 : decode cX3_digits 90 = .ok (.invokevirtual 251, 3) := dk_182 0 251 (dk_at dksX3_digits_3 21 rfl rfl)
theorem dX3_digits_93 : decode cX3_digits 93 = .ok (.iload_n 3, 1) := dk_29 (dk_at dksX3_digits_4 0 rfl rfl)
theorem dX3_digits_94 : decode cX3_digits 94 = .ok (.ireturn, 1) := dk_172 (dk_at dksX3_digits_4 1 rfl rfl)
abbrev cX3_isDigit : ByteArray := prog_17_method_19_code
def yX3_isDigit : MethodName := ⟨RX3, "isDigit", "()Z"⟩
def dkwX3_isDigit_0 : List UInt8 := [42, 182, 0, 218, 133, 20, 0, 222, 20, 0, 224, 184, 0, 176, 172]
abbrev dktX3_isDigit_0 : List UInt8 := dkwX3_isDigit_0 ++ []
theorem dksX3_isDigit_0 : cX3_isDigit.data.toList.drop 0 = dktX3_isDigit_0 := by decide +kernel
theorem dX3_isDigit_0 : decode cX3_isDigit 0 = .ok (.aload_n 0, 1) := dk_42 (dk_at dksX3_isDigit_0 0 rfl rfl)
theorem dX3_isDigit_1 : decode cX3_isDigit 1 = .ok (.invokevirtual 218, 3) := dk_182 0 218 (dk_at dksX3_isDigit_0 1 rfl rfl)
theorem dX3_isDigit_4 : decode cX3_isDigit 4 = .ok (.i2l, 1) := dk_133 (dk_at dksX3_isDigit_0 4 rfl rfl)
theorem dX3_isDigit_5 : decode cX3_isDigit 5 = .ok (.ldc2_w 222, 3) := dk_20 0 222 (dk_at dksX3_isDigit_0 5 rfl rfl)
theorem dX3_isDigit_8 : decode cX3_isDigit 8 = .ok (.ldc2_w 224, 3) := dk_20 0 224 (dk_at dksX3_isDigit_0 8 rfl rfl)
theorem dX3_isDigit_11 : decode cX3_isDigit 11 = .ok (.invokestatic 176, 3) := dk_184 0 176 (dk_at dksX3_isDigit_0 11 rfl rfl)
theorem dX3_isDigit_14 : decode cX3_isDigit 14 = .ok (.ireturn, 1) := dk_172 (dk_at dksX3_isDigit_0 14 rfl rfl)
abbrev cX3_in : ByteArray := prog_17_method_3_code
def yX3_in : MethodName := ⟨RX3, "in", "(JJJ)Z"⟩
def dkwX3_in_0 : List UInt8 := [30, 32, 148, 155, 0, 14, 30, 22, 4, 148, 157, 0, 7, 4, 167, 0, 4, 3, 172]
abbrev dktX3_in_0 : List UInt8 := dkwX3_in_0 ++ []
theorem dksX3_in_0 : cX3_in.data.toList.drop 0 = dktX3_in_0 := by decide +kernel
theorem dX3_in_0 : decode cX3_in 0 = .ok (.lload_n 0, 1) := dk_30 (dk_at dksX3_in_0 0 rfl rfl)
theorem dX3_in_1 : decode cX3_in 1 = .ok (.lload_n 2, 1) := dk_32 (dk_at dksX3_in_0 1 rfl rfl)
theorem dX3_in_2 : decode cX3_in 2 = .ok (.lcmp, 1) := dk_148 (dk_at dksX3_in_0 2 rfl rfl)
theorem dX3_in_3 : decode cX3_in 3 = .ok (.ifCond .lt 14, 3) := dk_155 0 14 (dk_at dksX3_in_0 3 rfl rfl)
theorem dX3_in_6 : decode cX3_in 6 = .ok (.lload_n 0, 1) := dk_30 (dk_at dksX3_in_0 6 rfl rfl)
theorem dX3_in_7 : decode cX3_in 7 = .ok (.lload 4, 2) := dk_22 4 (dk_at dksX3_in_0 7 rfl rfl)
theorem dX3_in_9 : decode cX3_in 9 = .ok (.lcmp, 1) := dk_148 (dk_at dksX3_in_0 9 rfl rfl)
theorem dX3_in_10 : decode cX3_in 10 = .ok (.ifCond .gt 7, 3) := dk_157 0 7 (dk_at dksX3_in_0 10 rfl rfl)
theorem dX3_in_13 : decode cX3_in 13 = .ok (.iconst 1, 1) := dk_4 (dk_at dksX3_in_0 13 rfl rfl)
theorem dX3_in_14 : decode cX3_in 14 = .ok (.goto 4, 3) := dk_167 0 4 (dk_at dksX3_in_0 14 rfl rfl)
theorem dX3_in_17 : decode cX3_in 17 = .ok (.iconst 0, 1) := dk_3 (dk_at dksX3_in_0 17 rfl rfl)
theorem dX3_in_18 : decode cX3_in 18 = .ok (.ireturn, 1) := dk_172 (dk_at dksX3_in_0 18 rfl rfl)
abbrev cX3_readsBound : ByteArray := prog_17_method_37_code
def yX3_readsBound : MethodName := ⟨RX3, "readsBound", "()V"⟩
def dkwX3_readsBound_5 : List UInt8 := [16, 9, 182, 1, 64, 79, 42, 180, 0, 64, 7, 92, 46, 4, 96, 79, 177]
abbrev dktX3_readsBound_5 : List UInt8 := dkwX3_readsBound_5 ++ []
def dkwX3_readsBound_4 : List UInt8 := [180, 0, 88, 27, 28, 21, 4, 162, 0, 8, 21, 4, 167, 0, 4, 28, 79, 42, 180, 0, 91, 27, 42, 4]
abbrev dktX3_readsBound_4 : List UInt8 := dkwX3_readsBound_4 ++ dktX3_readsBound_5
def dkwX3_readsBound_3 : List UInt8 := [29, 182, 0, 251, 42, 180, 0, 85, 27, 28, 21, 4, 162, 0, 7, 28, 167, 0, 5, 21, 4, 79, 42]
abbrev dktX3_readsBound_3 : List UInt8 := dkwX3_readsBound_3 ++ dktX3_readsBound_4
def dkwX3_readsBound_2 : List UInt8 := [180, 0, 212, 154, 0, 25, 28, 21, 4, 159, 0, 13, 42, 28, 21, 4, 182, 1, 68, 153, 0, 9, 42, 4]
abbrev dktX3_readsBound_2 : List UInt8 := dkwX3_readsBound_2 ++ dktX3_readsBound_3
def dkwX3_readsBound_1 : List UInt8 := [182, 0, 235, 42, 180, 0, 215, 62, 42, 3, 42, 180, 0, 64, 6, 46, 4, 100, 182, 1, 64, 54, 4, 42]
abbrev dktX3_readsBound_1 : List UInt8 := dkwX3_readsBound_1 ++ dktX3_readsBound_2
def dkwX3_readsBound_0 : List UInt8 := [42, 180, 0, 64, 7, 46, 60, 42, 3, 42, 180, 0, 64, 6, 46, 4, 100, 182, 1, 64, 61, 42]
abbrev dktX3_readsBound_0 : List UInt8 := dkwX3_readsBound_0 ++ dktX3_readsBound_1
theorem dksX3_readsBound_0 : cX3_readsBound.data.toList.drop 0 = dktX3_readsBound_0 := by decide +kernel
theorem dksX3_readsBound_1 : cX3_readsBound.data.toList.drop 22 = dktX3_readsBound_1 := dk_seg dksX3_readsBound_0 22 rfl rfl
theorem dksX3_readsBound_2 : cX3_readsBound.data.toList.drop 46 = dktX3_readsBound_2 := dk_seg dksX3_readsBound_1 24 rfl rfl
theorem dksX3_readsBound_3 : cX3_readsBound.data.toList.drop 70 = dktX3_readsBound_3 := dk_seg dksX3_readsBound_2 24 rfl rfl
theorem dksX3_readsBound_4 : cX3_readsBound.data.toList.drop 93 = dktX3_readsBound_4 := dk_seg dksX3_readsBound_3 23 rfl rfl
theorem dksX3_readsBound_5 : cX3_readsBound.data.toList.drop 117 = dktX3_readsBound_5 := dk_seg dksX3_readsBound_4 24 rfl rfl
theorem dX3_readsBound_0 : decode cX3_readsBound 0 = .ok (.aload_n 0, 1) := dk_42 (dk_at dksX3_readsBound_0 0 rfl rfl)
theorem dX3_readsBound_1 : decode cX3_readsBound 1 = .ok (.getfield 64, 3) := dk_180 0 64 (dk_at dksX3_readsBound_0 1 rfl rfl)
theorem dX3_readsBound_4 : decode cX3_readsBound 4 = .ok (.iconst 4, 1) := dk_7 (dk_at dksX3_readsBound_0 4 rfl rfl)
theorem dX3_readsBound_5 : decode cX3_readsBound 5 = .ok (.iaload, 1) := dk_46 (dk_at dksX3_readsBound_0 5 rfl rfl)
theorem dX3_readsBound_6 : decode cX3_readsBound 6 = .ok (.istore_n 1, 1) := dk_60 (dk_at dksX3_readsBound_0 6 rfl rfl)
theorem dX3_readsBound_7 : decode cX3_readsBound 7 = .ok (.aload_n 0, 1) := dk_42 (dk_at dksX3_readsBound_0 7 rfl rfl)
theorem dX3_readsBound_8 : decode cX3_readsBound 8 = .ok (.iconst 0, 1) := dk_3 (dk_at dksX3_readsBound_0 8 rfl rfl)
theorem dX3_readsBound_9 : decode cX3_readsBound 9 = .ok (.aload_n 0, 1) := dk_42 (dk_at dksX3_readsBound_0 9 rfl rfl)
theorem dX3_readsBound_10 : decode cX3_readsBound 10 = .ok (.getfield 64, 3) := dk_180 0 64 (dk_at dksX3_readsBound_0 10 rfl rfl)
theorem dX3_readsBound_13 : decode cX3_readsBound 13 = .ok (.iconst 3, 1) := dk_6 (dk_at dksX3_readsBound_0 13 rfl rfl)
theorem dX3_readsBound_14 : decode cX3_readsBound 14 = .ok (.iaload, 1) := dk_46 (dk_at dksX3_readsBound_0 14 rfl rfl)
theorem dX3_readsBound_15 : decode cX3_readsBound 15 = .ok (.iconst 1, 1) := dk_4 (dk_at dksX3_readsBound_0 15 rfl rfl)
theorem dX3_readsBound_16 : decode cX3_readsBound 16 = .ok (.isub, 1) := dk_100 (dk_at dksX3_readsBound_0 16 rfl rfl)
theorem dX3_readsBound_17 : decode cX3_readsBound 17 = .ok (.invokevirtual 320, 3) := dk_182 1 64 (dk_at dksX3_readsBound_0 17 rfl rfl)
theorem dX3_readsBound_20 : decode cX3_readsBound 20 = .ok (.istore_n 2, 1) := dk_61 (dk_at dksX3_readsBound_0 20 rfl rfl)
theorem dX3_readsBound_21 : decode cX3_readsBound 21 = .ok (.aload_n 0, 1) := dk_42 (dk_at dksX3_readsBound_0 21 rfl rfl)
theorem dX3_readsBound_22 : decode cX3_readsBound 22 = .ok (.invokevirtual 235, 3) := dk_182 0 235 (dk_at dksX3_readsBound_1 0 rfl rfl)
theorem dX3_readsBound_25 : decode cX3_readsBound 25 = .ok (.aload_n 0, 1) := dk_42 (dk_at dksX3_readsBound_1 3 rfl rfl)
theorem dX3_readsBound_26 : decode cX3_readsBound 26 = .ok (.getfield 215, 3) := dk_180 0 215 (dk_at dksX3_readsBound_1 4 rfl rfl)
theorem dX3_readsBound_29 : decode cX3_readsBound 29 = .ok (.istore_n 3, 1) := dk_62 (dk_at dksX3_readsBound_1 7 rfl rfl)
theorem dX3_readsBound_30 : decode cX3_readsBound 30 = .ok (.aload_n 0, 1) := dk_42 (dk_at dksX3_readsBound_1 8 rfl rfl)
theorem dX3_readsBound_31 : decode cX3_readsBound 31 = .ok (.iconst 0, 1) := dk_3 (dk_at dksX3_readsBound_1 9 rfl rfl)
theorem dX3_readsBound_32 : decode cX3_readsBound 32 = .ok (.aload_n 0, 1) := dk_42 (dk_at dksX3_readsBound_1 10 rfl rfl)
theorem dX3_readsBound_33 : decode cX3_readsBound 33 = .ok (.getfield 64, 3) := dk_180 0 64 (dk_at dksX3_readsBound_1 11 rfl rfl)
theorem dX3_readsBound_36 : decode cX3_readsBound 36 = .ok (.iconst 3, 1) := dk_6 (dk_at dksX3_readsBound_1 14 rfl rfl)
theorem dX3_readsBound_37 : decode cX3_readsBound 37 = .ok (.iaload, 1) := dk_46 (dk_at dksX3_readsBound_1 15 rfl rfl)
theorem dX3_readsBound_38 : decode cX3_readsBound 38 = .ok (.iconst 1, 1) := dk_4 (dk_at dksX3_readsBound_1 16 rfl rfl)
theorem dX3_readsBound_39 : decode cX3_readsBound 39 = .ok (.isub, 1) := dk_100 (dk_at dksX3_readsBound_1 17 rfl rfl)
theorem dX3_readsBound_40 : decode cX3_readsBound 40 = .ok (.invokevirtual 320, 3) := dk_182 1 64 (dk_at dksX3_readsBound_1 18 rfl rfl)
theorem dX3_readsBound_43 : decode cX3_readsBound 43 = .ok (.istore 4, 2) := dk_54 4 (dk_at dksX3_readsBound_1 21 rfl rfl)
theorem dX3_readsBound_45 : decode cX3_readsBound 45 = .ok (.aload_n 0, 1) := dk_42 (dk_at dksX3_readsBound_1 23 rfl rfl)
theorem dX3_readsBound_46 : decode cX3_readsBound 46 = .ok (.getfield 212, 3) := dk_180 0 212 (dk_at dksX3_readsBound_2 0 rfl rfl)
theorem dX3_readsBound_49 : decode cX3_readsBound 49 = .ok (.ifCond .ne 25, 3) := dk_154 0 25 (dk_at dksX3_readsBound_2 3 rfl rfl)
theorem dX3_readsBound_52 : decode cX3_readsBound 52 = .ok (.iload_n 2, 1) := dk_28 (dk_at dksX3_readsBound_2 6 rfl rfl)
theorem dX3_readsBound_53 : decode cX3_readsBound 53 = .ok (.iload 4, 2) := dk_21 4 (dk_at dksX3_readsBound_2 7 rfl rfl)
theorem dX3_readsBound_55 : decode cX3_readsBound 55 = .ok (.if_icmp .eq 13, 3) := dk_159 0 13 (dk_at dksX3_readsBound_2 9 rfl rfl)
theorem dX3_readsBound_58 : decode cX3_readsBound 58 = .ok (.aload_n 0, 1) := dk_42 (dk_at dksX3_readsBound_2 12 rfl rfl)
theorem dX3_readsBound_59 : decode cX3_readsBound 59 = .ok (.iload_n 2, 1) := dk_28 (dk_at dksX3_readsBound_2 13 rfl rfl)
theorem dX3_readsBound_60 : decode cX3_readsBound 60 = .ok (.iload 4, 2) := dk_21 4 (dk_at dksX3_readsBound_2 14 rfl rfl)
theorem dX3_readsBound_62 : decode cX3_readsBound 62 = .ok (.invokevirtual 324, 3) := dk_182 1 68 (dk_at dksX3_readsBound_2 16 rfl rfl)
theorem dX3_readsBound_65 : decode cX3_readsBound 65 = .ok (.ifCond .eq 9, 3) := dk_153 0 9 (dk_at dksX3_readsBound_2 19 rfl rfl)
theorem dX3_readsBound_68 : decode cX3_readsBound 68 = .ok (.aload_n 0, 1) := dk_42 (dk_at dksX3_readsBound_2 22 rfl rfl)
theorem dX3_readsBound_69 : decode cX3_readsBound 69 = .ok (.iconst 1, 1) := dk_4 (dk_at dksX3_readsBound_2 23 rfl rfl)
theorem dX3_readsBound_70 : decode cX3_readsBound 70 = .ok (.iload_n 3, 1) := dk_29 (dk_at dksX3_readsBound_3 0 rfl rfl)
theorem dX3_readsBound_71 : decode cX3_readsBound 71 = .ok (.invokevirtual 251, 3) := dk_182 0 251 (dk_at dksX3_readsBound_3 1 rfl rfl)
theorem dX3_readsBound_74 : decode cX3_readsBound 74 = .ok (.aload_n 0, 1) := dk_42 (dk_at dksX3_readsBound_3 4 rfl rfl)
theorem dX3_readsBound_75 : decode cX3_readsBound 75 = .ok (.getfield 85, 3) := dk_180 0 85 (dk_at dksX3_readsBound_3 5 rfl rfl)
theorem dX3_readsBound_78 : decode cX3_readsBound 78 = .ok (.iload_n 1, 1) := dk_27 (dk_at dksX3_readsBound_3 8 rfl rfl)
theorem dX3_readsBound_79 : decode cX3_readsBound 79 = .ok (.iload_n 2, 1) := dk_28 (dk_at dksX3_readsBound_3 9 rfl rfl)
theorem dX3_readsBound_80 : decode cX3_readsBound 80 = .ok (.iload 4, 2) := dk_21 4 (dk_at dksX3_readsBound_3 10 rfl rfl)
theorem dX3_readsBound_82 : decode cX3_readsBound 82 = .ok (.if_icmp .ge 7, 3) := dk_162 0 7 (dk_at dksX3_readsBound_3 12 rfl rfl)
theorem dX3_readsBound_85 : decode cX3_readsBound 85 = .ok (.iload_n 2, 1) := dk_28 (dk_at dksX3_readsBound_3 15 rfl rfl)
theorem dX3_readsBound_86 : decode cX3_readsBound 86 = .ok (.goto 5, 3) := dk_167 0 5 (dk_at dksX3_readsBound_3 16 rfl rfl)
theorem dX3_readsBound_89 : decode cX3_readsBound 89 = .ok (.iload 4, 2) := dk_21 4 (dk_at dksX3_readsBound_3 19 rfl rfl)
theorem dX3_readsBound_91 : decode cX3_readsBound 91 = .ok (.iastore, 1) := dk_79 (dk_at dksX3_readsBound_3 21 rfl rfl)
theorem dX3_readsBound_92 : decode cX3_readsBound 92 = .ok (.aload_n 0, 1) := dk_42 (dk_at dksX3_readsBound_3 22 rfl rfl)
theorem dX3_readsBound_93 : decode cX3_readsBound 93 = .ok (.getfield 88, 3) := dk_180 0 88 (dk_at dksX3_readsBound_4 0 rfl rfl)
theorem dX3_readsBound_96 : decode cX3_readsBound 96 = .ok (.iload_n 1, 1) := dk_27 (dk_at dksX3_readsBound_4 3 rfl rfl)
theorem dX3_readsBound_97 : decode cX3_readsBound 97 = .ok (.iload_n 2, 1) := dk_28 (dk_at dksX3_readsBound_4 4 rfl rfl)
theorem dX3_readsBound_98 : decode cX3_readsBound 98 = .ok (.iload 4, 2) := dk_21 4 (dk_at dksX3_readsBound_4 5 rfl rfl)
theorem dX3_readsBound_100 : decode cX3_readsBound 100 = .ok (.if_icmp .ge 8, 3) := dk_162 0 8 (dk_at dksX3_readsBound_4 7 rfl rfl)
theorem dX3_readsBound_103 : decode cX3_readsBound 103 = .ok (.iload 4, 2) := dk_21 4 (dk_at dksX3_readsBound_4 10 rfl rfl)
theorem dX3_readsBound_105 : decode cX3_readsBound 105 = .ok (.goto 4, 3) := dk_167 0 4 (dk_at dksX3_readsBound_4 12 rfl rfl)
theorem dX3_readsBound_108 : decode cX3_readsBound 108 = .ok (.iload_n 2, 1) := dk_28 (dk_at dksX3_readsBound_4 15 rfl rfl)
theorem dX3_readsBound_109 : decode cX3_readsBound 109 = .ok (.iastore, 1) := dk_79 (dk_at dksX3_readsBound_4 16 rfl rfl)
theorem dX3_readsBound_110 : decode cX3_readsBound 110 = .ok (.aload_n 0, 1) := dk_42 (dk_at dksX3_readsBound_4 17 rfl rfl)
theorem dX3_readsBound_111 : decode cX3_readsBound 111 = .ok (.getfield 91, 3) := dk_180 0 91 (dk_at dksX3_readsBound_4 18 rfl rfl)
theorem dX3_readsBound_114 : decode cX3_readsBound 114 = .ok (.iload_n 1, 1) := dk_27 (dk_at dksX3_readsBound_4 21 rfl rfl)
theorem dX3_readsBound_115 : decode cX3_readsBound 115 = .ok (.aload_n 0, 1) := dk_42 (dk_at dksX3_readsBound_4 22 rfl rfl)
theorem dX3_readsBound_116 : decode cX3_readsBound 116 = .ok (.iconst 1, 1) := dk_4 (dk_at dksX3_readsBound_4 23 rfl rfl)
theorem dX3_readsBound_117 : decode cX3_readsBound 117 = .ok (.bipush 9, 2) := dk_16 9 (dk_at dksX3_readsBound_5 0 rfl rfl)
theorem dX3_readsBound_119 : decode cX3_readsBound 119 = .ok (.invokevirtual 320, 3) := dk_182 1 64 (dk_at dksX3_readsBound_5 2 rfl rfl)
theorem dX3_readsBound_122 : decode cX3_readsBound 122 = .ok (.iastore, 1) := dk_79 (dk_at dksX3_readsBound_5 5 rfl rfl)
theorem dX3_readsBound_123 : decode cX3_readsBound 123 = .ok (.aload_n 0, 1) := dk_42 (dk_at dksX3_readsBound_5 6 rfl rfl)
theorem dX3_readsBound_124 : decode cX3_readsBound 124 = .ok (.getfield 64, 3) := dk_180 0 64 (dk_at dksX3_readsBound_5 7 rfl rfl)
theorem dX3_readsBound_127 : decode cX3_readsBound 127 = .ok (.iconst 4, 1) := dk_7 (dk_at dksX3_readsBound_5 10 rfl rfl)
theorem dX3_readsBound_128 : decode cX3_readsBound 128 = .ok (.dup2, 1) := dk_92 (dk_at dksX3_readsBound_5 11 rfl rfl)
theorem dX3_readsBound_129 : decode cX3_readsBound 129 = .ok (.iaload, 1) := dk_46 (dk_at dksX3_readsBound_5 12 rfl rfl)
theorem dX3_readsBound_130 : decode cX3_readsBound 130 = .ok (.iconst 1, 1) := dk_4 (dk_at dksX3_readsBound_5 13 rfl rfl)
theorem dX3_readsBound_131 : decode cX3_readsBound 131 = .ok (.iadd, 1) := dk_96 (dk_at dksX3_readsBound_5 14 rfl rfl)
theorem dX3_readsBound_132 : decode cX3_readsBound 132 = .ok (.iastore, 1) := dk_79 (dk_at dksX3_readsBound_5 15 rfl rfl)
theorem dX3_readsBound_133 : decode cX3_readsBound 133 = .ok (.return_, 1) := dk_177 (dk_at dksX3_readsBound_5 16 rfl rfl)
abbrev cX3_isNewBound : ByteArray := prog_17_method_36_code
def yX3_isNewBound : MethodName := ⟨RX3, "isNewBound", "(II)Z"⟩
def dkwX3_isNewBound_2 : List UInt8 := [46, 27, 160, 0, 5, 4, 172, 132, 3, 1, 167, 255, 201, 3, 172]
abbrev dktX3_isNewBound_2 : List UInt8 := dkwX3_isNewBound_2 ++ []
def dkwX3_isNewBound_1 : List UInt8 := [180, 0, 88, 29, 46, 28, 159, 0, 23, 42, 180, 0, 85, 29, 46, 28, 160, 0, 15, 42, 180, 0, 88, 29]
abbrev dktX3_isNewBound_1 : List UInt8 := dkwX3_isNewBound_1 ++ dktX3_isNewBound_2
def dkwX3_isNewBound_0 : List UInt8 := [3, 62, 29, 42, 180, 0, 64, 7, 46, 162, 0, 51, 42, 180, 0, 85, 29, 46, 27, 160, 0, 13, 42]
abbrev dktX3_isNewBound_0 : List UInt8 := dkwX3_isNewBound_0 ++ dktX3_isNewBound_1
theorem dksX3_isNewBound_0 : cX3_isNewBound.data.toList.drop 0 = dktX3_isNewBound_0 := by decide +kernel
theorem dksX3_isNewBound_1 : cX3_isNewBound.data.toList.drop 23 = dktX3_isNewBound_1 := dk_seg dksX3_isNewBound_0 23 rfl rfl
theorem dksX3_isNewBound_2 : cX3_isNewBound.data.toList.drop 47 = dktX3_isNewBound_2 := dk_seg dksX3_isNewBound_1 24 rfl rfl
theorem dX3_isNewBound_0 : decode cX3_isNewBound 0 = .ok (.iconst 0, 1) := dk_3 (dk_at dksX3_isNewBound_0 0 rfl rfl)
theorem dX3_isNewBound_1 : decode cX3_isNewBound 1 = .ok (.istore_n 3, 1) := dk_62 (dk_at dksX3_isNewBound_0 1 rfl rfl)
theorem dX3_isNewBound_2 : decode cX3_isNewBound 2 = .ok (.iload_n 3, 1) := dk_29 (dk_at dksX3_isNewBound_0 2 rfl rfl)
theorem dX3_isNewBound_3 : decode cX3_isNewBound 3 = .ok (.aload_n 0, 1) := dk_42 (dk_at dksX3_isNewBound_0 3 rfl rfl)
theorem dX3_isNewBound_4 : decode cX3_isNewBound 4 = .ok (.getfield 64, 3) := dk_180 0 64 (dk_at dksX3_isNewBound_0 4 rfl rfl)
theorem dX3_isNewBound_7 : decode cX3_isNewBound 7 = .ok (.iconst 4, 1) := dk_7 (dk_at dksX3_isNewBound_0 7 rfl rfl)
theorem dX3_isNewBound_8 : decode cX3_isNewBound 8 = .ok (.iaload, 1) := dk_46 (dk_at dksX3_isNewBound_0 8 rfl rfl)
theorem dX3_isNewBound_9 : decode cX3_isNewBound 9 = .ok (.if_icmp .ge 51, 3) := dk_162 0 51 (dk_at dksX3_isNewBound_0 9 rfl rfl)
theorem dX3_isNewBound_12 : decode cX3_isNewBound 12 = .ok (.aload_n 0, 1) := dk_42 (dk_at dksX3_isNewBound_0 12 rfl rfl)
theorem dX3_isNewBound_13 : decode cX3_isNewBound 13 = .ok (.getfield 85, 3) := dk_180 0 85 (dk_at dksX3_isNewBound_0 13 rfl rfl)
theorem dX3_isNewBound_16 : decode cX3_isNewBound 16 = .ok (.iload_n 3, 1) := dk_29 (dk_at dksX3_isNewBound_0 16 rfl rfl)
theorem dX3_isNewBound_17 : decode cX3_isNewBound 17 = .ok (.iaload, 1) := dk_46 (dk_at dksX3_isNewBound_0 17 rfl rfl)
theorem dX3_isNewBound_18 : decode cX3_isNewBound 18 = .ok (.iload_n 1, 1) := dk_27 (dk_at dksX3_isNewBound_0 18 rfl rfl)
theorem dX3_isNewBound_19 : decode cX3_isNewBound 19 = .ok (.if_icmp .ne 13, 3) := dk_160 0 13 (dk_at dksX3_isNewBound_0 19 rfl rfl)
theorem dX3_isNewBound_22 : decode cX3_isNewBound 22 = .ok (.aload_n 0, 1) := dk_42 (dk_at dksX3_isNewBound_0 22 rfl rfl)
theorem dX3_isNewBound_23 : decode cX3_isNewBound 23 = .ok (.getfield 88, 3) := dk_180 0 88 (dk_at dksX3_isNewBound_1 0 rfl rfl)
theorem dX3_isNewBound_26 : decode cX3_isNewBound 26 = .ok (.iload_n 3, 1) := dk_29 (dk_at dksX3_isNewBound_1 3 rfl rfl)
theorem dX3_isNewBound_27 : decode cX3_isNewBound 27 = .ok (.iaload, 1) := dk_46 (dk_at dksX3_isNewBound_1 4 rfl rfl)
theorem dX3_isNewBound_28 : decode cX3_isNewBound 28 = .ok (.iload_n 2, 1) := dk_28 (dk_at dksX3_isNewBound_1 5 rfl rfl)
theorem dX3_isNewBound_29 : decode cX3_isNewBound 29 = .ok (.if_icmp .eq 23, 3) := dk_159 0 23 (dk_at dksX3_isNewBound_1 6 rfl rfl)
theorem dX3_isNewBound_32 : decode cX3_isNewBound 32 = .ok (.aload_n 0, 1) := dk_42 (dk_at dksX3_isNewBound_1 9 rfl rfl)
theorem dX3_isNewBound_33 : decode cX3_isNewBound 33 = .ok (.getfield 85, 3) := dk_180 0 85 (dk_at dksX3_isNewBound_1 10 rfl rfl)
theorem dX3_isNewBound_36 : decode cX3_isNewBound 36 = .ok (.iload_n 3, 1) := dk_29 (dk_at dksX3_isNewBound_1 13 rfl rfl)
theorem dX3_isNewBound_37 : decode cX3_isNewBound 37 = .ok (.iaload, 1) := dk_46 (dk_at dksX3_isNewBound_1 14 rfl rfl)
theorem dX3_isNewBound_38 : decode cX3_isNewBound 38 = .ok (.iload_n 2, 1) := dk_28 (dk_at dksX3_isNewBound_1 15 rfl rfl)
theorem dX3_isNewBound_39 : decode cX3_isNewBound 39 = .ok (.if_icmp .ne 15, 3) := dk_160 0 15 (dk_at dksX3_isNewBound_1 16 rfl rfl)
theorem dX3_isNewBound_42 : decode cX3_isNewBound 42 = .ok (.aload_n 0, 1) := dk_42 (dk_at dksX3_isNewBound_1 19 rfl rfl)
theorem dX3_isNewBound_43 : decode cX3_isNewBound 43 = .ok (.getfield 88, 3) := dk_180 0 88 (dk_at dksX3_isNewBound_1 20 rfl rfl)
theorem dX3_isNewBound_46 : decode cX3_isNewBound 46 = .ok (.iload_n 3, 1) := dk_29 (dk_at dksX3_isNewBound_1 23 rfl rfl)
theorem dX3_isNewBound_47 : decode cX3_isNewBound 47 = .ok (.iaload, 1) := dk_46 (dk_at dksX3_isNewBound_2 0 rfl rfl)
theorem dX3_isNewBound_48 : decode cX3_isNewBound 48 = .ok (.iload_n 1, 1) := dk_27 (dk_at dksX3_isNewBound_2 1 rfl rfl)
theorem dX3_isNewBound_49 : decode cX3_isNewBound 49 = .ok (.if_icmp .ne 5, 3) := dk_160 0 5 (dk_at dksX3_isNewBound_2 2 rfl rfl)
theorem dX3_isNewBound_52 : decode cX3_isNewBound 52 = .ok (.iconst 1, 1) := dk_4 (dk_at dksX3_isNewBound_2 5 rfl rfl)
theorem dX3_isNewBound_53 : decode cX3_isNewBound 53 = .ok (.ireturn, 1) := dk_172 (dk_at dksX3_isNewBound_2 6 rfl rfl)
theorem dX3_isNewBound_54 : decode cX3_isNewBound 54 = .ok (.iinc 3 1, 3) := dk_132 3 1 (dk_at dksX3_isNewBound_2 7 rfl rfl)
theorem dX3_isNewBound_57 : decode cX3_isNewBound 57 = .ok (.goto (-55), 3) := dk_167 255 201 (dk_at dksX3_isNewBound_2 10 rfl rfl)
theorem dX3_isNewBound_60 : decode cX3_isNewBound 60 = .ok (.iconst 0, 1) := dk_3 (dk_at dksX3_isNewBound_2 13 rfl rfl)
theorem dX3_isNewBound_61 : decode cX3_isNewBound 61 = .ok (.ireturn, 1) := dk_172 (dk_at dksX3_isNewBound_2 14 rfl rfl)
abbrev cX3_readsRapid : ByteArray := prog_17_method_38_code
def yX3_readsRapid : MethodName := ⟨RX3, "readsRapid", "()V"⟩
def dkwX3_readsRapid_4 : List UInt8 := [79, 177]
abbrev dktX3_readsRapid_4 : List UInt8 := dkwX3_readsRapid_4 ++ []
def dkwX3_readsRapid_3 : List UInt8 := [29, 79, 42, 180, 0, 97, 27, 42, 4, 16, 9, 182, 1, 64, 79, 42, 180, 0, 64, 8, 92, 46, 4, 96]
abbrev dktX3_readsRapid_3 : List UInt8 := dkwX3_readsRapid_3 ++ dktX3_readsRapid_4
def dkwX3_readsRapid_2 : List UInt8 := [42, 180, 0, 212, 154, 0, 9, 42, 4, 28, 182, 0, 251, 132, 4, 1, 167, 255, 223, 42, 180, 0, 94, 27]
abbrev dktX3_readsRapid_2 : List UInt8 := dkwX3_readsRapid_2 ++ dktX3_readsRapid_3
def dkwX3_readsRapid_1 : List UInt8 := [182, 1, 64, 62, 3, 54, 4, 21, 4, 27, 162, 0, 33, 42, 180, 0, 94, 21, 4, 46, 29, 160, 0, 16]
abbrev dktX3_readsRapid_1 : List UInt8 := dkwX3_readsRapid_1 ++ dktX3_readsRapid_2
def dkwX3_readsRapid_0 : List UInt8 := [42, 180, 0, 64, 8, 46, 60, 42, 182, 0, 235, 42, 180, 0, 215, 61, 42, 4, 42, 180, 0, 64, 3, 46]
abbrev dktX3_readsRapid_0 : List UInt8 := dkwX3_readsRapid_0 ++ dktX3_readsRapid_1
theorem dksX3_readsRapid_0 : cX3_readsRapid.data.toList.drop 0 = dktX3_readsRapid_0 := by decide +kernel
theorem dksX3_readsRapid_1 : cX3_readsRapid.data.toList.drop 24 = dktX3_readsRapid_1 := dk_seg dksX3_readsRapid_0 24 rfl rfl
theorem dksX3_readsRapid_2 : cX3_readsRapid.data.toList.drop 48 = dktX3_readsRapid_2 := dk_seg dksX3_readsRapid_1 24 rfl rfl
theorem dksX3_readsRapid_3 : cX3_readsRapid.data.toList.drop 72 = dktX3_readsRapid_3 := dk_seg dksX3_readsRapid_2 24 rfl rfl
theorem dksX3_readsRapid_4 : cX3_readsRapid.data.toList.drop 96 = dktX3_readsRapid_4 := dk_seg dksX3_readsRapid_3 24 rfl rfl
theorem dX3_readsRapid_0 : decode cX3_readsRapid 0 = .ok (.aload_n 0, 1) := dk_42 (dk_at dksX3_readsRapid_0 0 rfl rfl)
theorem dX3_readsRapid_1 : decode cX3_readsRapid 1 = .ok (.getfield 64, 3) := dk_180 0 64 (dk_at dksX3_readsRapid_0 1 rfl rfl)
theorem dX3_readsRapid_4 : decode cX3_readsRapid 4 = .ok (.iconst 5, 1) := dk_8 (dk_at dksX3_readsRapid_0 4 rfl rfl)
theorem dX3_readsRapid_5 : decode cX3_readsRapid 5 = .ok (.iaload, 1) := dk_46 (dk_at dksX3_readsRapid_0 5 rfl rfl)
theorem dX3_readsRapid_6 : decode cX3_readsRapid 6 = .ok (.istore_n 1, 1) := dk_60 (dk_at dksX3_readsRapid_0 6 rfl rfl)
theorem dX3_readsRapid_7 : decode cX3_readsRapid 7 = .ok (.aload_n 0, 1) := dk_42 (dk_at dksX3_readsRapid_0 7 rfl rfl)
theorem dX3_readsRapid_8 : decode cX3_readsRapid 8 = .ok (.invokevirtual 235, 3) := dk_182 0 235 (dk_at dksX3_readsRapid_0 8 rfl rfl)
theorem dX3_readsRapid_11 : decode cX3_readsRapid 11 = .ok (.aload_n 0, 1) := dk_42 (dk_at dksX3_readsRapid_0 11 rfl rfl)
theorem dX3_readsRapid_12 : decode cX3_readsRapid 12 = .ok (.getfield 215, 3) := dk_180 0 215 (dk_at dksX3_readsRapid_0 12 rfl rfl)
theorem dX3_readsRapid_15 : decode cX3_readsRapid 15 = .ok (.istore_n 2, 1) := dk_61 (dk_at dksX3_readsRapid_0 15 rfl rfl)
theorem dX3_readsRapid_16 : decode cX3_readsRapid 16 = .ok (.aload_n 0, 1) := dk_42 (dk_at dksX3_readsRapid_0 16 rfl rfl)
theorem dX3_readsRapid_17 : decode cX3_readsRapid 17 = .ok (.iconst 1, 1) := dk_4 (dk_at dksX3_readsRapid_0 17 rfl rfl)
theorem dX3_readsRapid_18 : decode cX3_readsRapid 18 = .ok (.aload_n 0, 1) := dk_42 (dk_at dksX3_readsRapid_0 18 rfl rfl)
theorem dX3_readsRapid_19 : decode cX3_readsRapid 19 = .ok (.getfield 64, 3) := dk_180 0 64 (dk_at dksX3_readsRapid_0 19 rfl rfl)
theorem dX3_readsRapid_22 : decode cX3_readsRapid 22 = .ok (.iconst 0, 1) := dk_3 (dk_at dksX3_readsRapid_0 22 rfl rfl)
theorem dX3_readsRapid_23 : decode cX3_readsRapid 23 = .ok (.iaload, 1) := dk_46 (dk_at dksX3_readsRapid_0 23 rfl rfl)
theorem dX3_readsRapid_24 : decode cX3_readsRapid 24 = .ok (.invokevirtual 320, 3) := dk_182 1 64 (dk_at dksX3_readsRapid_1 0 rfl rfl)
theorem dX3_readsRapid_27 : decode cX3_readsRapid 27 = .ok (.istore_n 3, 1) := dk_62 (dk_at dksX3_readsRapid_1 3 rfl rfl)
theorem dX3_readsRapid_28 : decode cX3_readsRapid 28 = .ok (.iconst 0, 1) := dk_3 (dk_at dksX3_readsRapid_1 4 rfl rfl)
theorem dX3_readsRapid_29 : decode cX3_readsRapid 29 = .ok (.istore 4, 2) := dk_54 4 (dk_at dksX3_readsRapid_1 5 rfl rfl)
theorem dX3_readsRapid_31 : decode cX3_readsRapid 31 = .ok (.iload 4, 2) := dk_21 4 (dk_at dksX3_readsRapid_1 7 rfl rfl)
theorem dX3_readsRapid_33 : decode cX3_readsRapid 33 = .ok (.iload_n 1, 1) := dk_27 (dk_at dksX3_readsRapid_1 9 rfl rfl)
theorem dX3_readsRapid_34 : decode cX3_readsRapid 34 = .ok (.if_icmp .ge 33, 3) := dk_162 0 33 (dk_at dksX3_readsRapid_1 10 rfl rfl)
theorem dX3_readsRapid_37 : decode cX3_readsRapid 37 = .ok (.aload_n 0, 1) := dk_42 (dk_at dksX3_readsRapid_1 13 rfl rfl)
theorem dX3_readsRapid_38 : decode cX3_readsRapid 38 = .ok (.getfield 94, 3) := dk_180 0 94 (dk_at dksX3_readsRapid_1 14 rfl rfl)
theorem dX3_readsRapid_41 : decode cX3_readsRapid 41 = .ok (.iload 4, 2) := dk_21 4 (dk_at dksX3_readsRapid_1 17 rfl rfl)
theorem dX3_readsRapid_43 : decode cX3_readsRapid 43 = .ok (.iaload, 1) := dk_46 (dk_at dksX3_readsRapid_1 19 rfl rfl)
theorem dX3_readsRapid_44 : decode cX3_readsRapid 44 = .ok (.iload_n 3, 1) := dk_29 (dk_at dksX3_readsRapid_1 20 rfl rfl)
theorem dX3_readsRapid_45 : decode cX3_readsRapid 45 = .ok (.if_icmp .ne 16, 3) := dk_160 0 16 (dk_at dksX3_readsRapid_1 21 rfl rfl)
theorem dX3_readsRapid_48 : decode cX3_readsRapid 48 = .ok (.aload_n 0, 1) := dk_42 (dk_at dksX3_readsRapid_2 0 rfl rfl)
theorem dX3_readsRapid_49 : decode cX3_readsRapid 49 = .ok (.getfield 212, 3) := dk_180 0 212 (dk_at dksX3_readsRapid_2 1 rfl rfl)
theorem dX3_readsRapid_52 : decode cX3_readsRapid 52 = .ok (.ifCond .ne 9, 3) := dk_154 0 9 (dk_at dksX3_readsRapid_2 4 rfl rfl)
theorem dX3_readsRapid_55 : decode cX3_readsRapid 55 = .ok (.aload_n 0, 1) := dk_42 (dk_at dksX3_readsRapid_2 7 rfl rfl)
theorem dX3_readsRapid_56 : decode cX3_readsRapid 56 = .ok (.iconst 1, 1) := dk_4 (dk_at dksX3_readsRapid_2 8 rfl rfl)
theorem dX3_readsRapid_57 : decode cX3_readsRapid 57 = .ok (.iload_n 2, 1) := dk_28 (dk_at dksX3_readsRapid_2 9 rfl rfl)
theorem dX3_readsRapid_58 : decode cX3_readsRapid 58 = .ok (.invokevirtual 251, 3) := dk_182 0 251 (dk_at dksX3_readsRapid_2 10 rfl rfl)
theorem dX3_readsRapid_61 : decode cX3_readsRapid 61 = .ok (.iinc 4 1, 3) := dk_132 4 1 (dk_at dksX3_readsRapid_2 13 rfl rfl)
theorem dX3_readsRapid_64 : decode cX3_readsRapid 64 = .ok (.goto (-33), 3) := dk_167 255 223 (dk_at dksX3_readsRapid_2 16 rfl rfl)
theorem dX3_readsRapid_67 : decode cX3_readsRapid 67 = .ok (.aload_n 0, 1) := dk_42 (dk_at dksX3_readsRapid_2 19 rfl rfl)
theorem dX3_readsRapid_68 : decode cX3_readsRapid 68 = .ok (.getfield 94, 3) := dk_180 0 94 (dk_at dksX3_readsRapid_2 20 rfl rfl)
theorem dX3_readsRapid_71 : decode cX3_readsRapid 71 = .ok (.iload_n 1, 1) := dk_27 (dk_at dksX3_readsRapid_2 23 rfl rfl)
theorem dX3_readsRapid_72 : decode cX3_readsRapid 72 = .ok (.iload_n 3, 1) := dk_29 (dk_at dksX3_readsRapid_3 0 rfl rfl)
theorem dX3_readsRapid_73 : decode cX3_readsRapid 73 = .ok (.iastore, 1) := dk_79 (dk_at dksX3_readsRapid_3 1 rfl rfl)
theorem dX3_readsRapid_74 : decode cX3_readsRapid 74 = .ok (.aload_n 0, 1) := dk_42 (dk_at dksX3_readsRapid_3 2 rfl rfl)
theorem dX3_readsRapid_75 : decode cX3_readsRapid 75 = .ok (.getfield 97, 3) := dk_180 0 97 (dk_at dksX3_readsRapid_3 3 rfl rfl)
theorem dX3_readsRapid_78 : decode cX3_readsRapid 78 = .ok (.iload_n 1, 1) := dk_27 (dk_at dksX3_readsRapid_3 6 rfl rfl)
theorem dX3_readsRapid_79 : decode cX3_readsRapid 79 = .ok (.aload_n 0, 1) := dk_42 (dk_at dksX3_readsRapid_3 7 rfl rfl)
theorem dX3_readsRapid_80 : decode cX3_readsRapid 80 = .ok (.iconst 1, 1) := dk_4 (dk_at dksX3_readsRapid_3 8 rfl rfl)
theorem dX3_readsRapid_81 : decode cX3_readsRapid 81 = .ok (.bipush 9, 2) := dk_16 9 (dk_at dksX3_readsRapid_3 9 rfl rfl)
theorem dX3_readsRapid_83 : decode cX3_readsRapid 83 = .ok (.invokevirtual 320, 3) := dk_182 1 64 (dk_at dksX3_readsRapid_3 11 rfl rfl)
theorem dX3_readsRapid_86 : decode cX3_readsRapid 86 = .ok (.iastore, 1) := dk_79 (dk_at dksX3_readsRapid_3 14 rfl rfl)
theorem dX3_readsRapid_87 : decode cX3_readsRapid 87 = .ok (.aload_n 0, 1) := dk_42 (dk_at dksX3_readsRapid_3 15 rfl rfl)
theorem dX3_readsRapid_88 : decode cX3_readsRapid 88 = .ok (.getfield 64, 3) := dk_180 0 64 (dk_at dksX3_readsRapid_3 16 rfl rfl)
theorem dX3_readsRapid_91 : decode cX3_readsRapid 91 = .ok (.iconst 5, 1) := dk_8 (dk_at dksX3_readsRapid_3 19 rfl rfl)
theorem dX3_readsRapid_92 : decode cX3_readsRapid 92 = .ok (.dup2, 1) := dk_92 (dk_at dksX3_readsRapid_3 20 rfl rfl)
theorem dX3_readsRapid_93 : decode cX3_readsRapid 93 = .ok (.iaload, 1) := dk_46 (dk_at dksX3_readsRapid_3 21 rfl rfl)
theorem dX3_readsRapid_94 : decode cX3_readsRapid 94 = .ok (.iconst 1, 1) := dk_4 (dk_at dksX3_readsRapid_3 22 rfl rfl)
theorem dX3_readsRapid_95 : decode cX3_readsRapid 95 = .ok (.iadd, 1) := dk_96 (dk_at dksX3_readsRapid_3 23 rfl rfl)
theorem dX3_readsRapid_96 : decode cX3_readsRapid 96 = .ok (.iastore, 1) := dk_79 (dk_at dksX3_readsRapid_4 0 rfl rfl)
theorem dX3_readsRapid_97 : decode cX3_readsRapid 97 = .ok (.return_, 1) := dk_177 (dk_at dksX3_readsRapid_4 1 rfl rfl)
abbrev cX3_goesOn : ByteArray := prog_17_method_43_code
def yX3_goesOn : MethodName := ⟨RX3, "goesOn", "()Z"⟩
def dkwX3_goesOn_3 : List UInt8 := [181, 0, 215, 27, 172]
abbrev dktX3_goesOn_3 : List UInt8 := dkwX3_goesOn_3 ++ []
def dkwX3_goesOn_2 : List UInt8 := [42, 180, 0, 215, 42, 180, 0, 184, 162, 0, 7, 4, 167, 0, 4, 3, 60, 42, 89, 180, 0, 215, 4, 96]
abbrev dktX3_goesOn_2 : List UInt8 := dkwX3_goesOn_2 ++ dktX3_goesOn_3
def dkwX3_goesOn_1 : List UInt8 := [182, 0, 218, 16, 59, 159, 0, 12, 42, 3, 42, 180, 0, 215, 182, 0, 251, 42, 180, 0, 212, 154, 0, 18]
abbrev dktX3_goesOn_1 : List UInt8 := dkwX3_goesOn_1 ++ dktX3_goesOn_2
def dkwX3_goesOn_0 : List UInt8 := [42, 182, 0, 235, 42, 180, 0, 212, 154, 0, 32, 42, 180, 0, 215, 42, 180, 0, 184, 162, 0, 21, 42]
abbrev dktX3_goesOn_0 : List UInt8 := dkwX3_goesOn_0 ++ dktX3_goesOn_1
theorem dksX3_goesOn_0 : cX3_goesOn.data.toList.drop 0 = dktX3_goesOn_0 := by decide +kernel
theorem dksX3_goesOn_1 : cX3_goesOn.data.toList.drop 23 = dktX3_goesOn_1 := dk_seg dksX3_goesOn_0 23 rfl rfl
theorem dksX3_goesOn_2 : cX3_goesOn.data.toList.drop 47 = dktX3_goesOn_2 := dk_seg dksX3_goesOn_1 24 rfl rfl
theorem dksX3_goesOn_3 : cX3_goesOn.data.toList.drop 71 = dktX3_goesOn_3 := dk_seg dksX3_goesOn_2 24 rfl rfl
theorem dX3_goesOn_0 : decode cX3_goesOn 0 = .ok (.aload_n 0, 1) := dk_42 (dk_at dksX3_goesOn_0 0 rfl rfl)
theorem dX3_goesOn_1 : decode cX3_goesOn 1 = .ok (.invokevirtual 235, 3) := dk_182 0 235 (dk_at dksX3_goesOn_0 1 rfl rfl)
theorem dX3_goesOn_4 : decode cX3_goesOn 4 = .ok (.aload_n 0, 1) := dk_42 (dk_at dksX3_goesOn_0 4 rfl rfl)
theorem dX3_goesOn_5 : decode cX3_goesOn 5 = .ok (.getfield 212, 3) := dk_180 0 212 (dk_at dksX3_goesOn_0 5 rfl rfl)
theorem dX3_goesOn_8 : decode cX3_goesOn 8 = .ok (.ifCond .ne 32, 3) := dk_154 0 32 (dk_at dksX3_goesOn_0 8 rfl rfl)
theorem dX3_goesOn_11 : decode cX3_goesOn 11 = .ok (.aload_n 0, 1) := dk_42 (dk_at dksX3_goesOn_0 11 rfl rfl)
theorem dX3_goesOn_12 : decode cX3_goesOn 12 = .ok (.getfield 215, 3) := dk_180 0 215 (dk_at dksX3_goesOn_0 12 rfl rfl)
theorem dX3_goesOn_15 : decode cX3_goesOn 15 = .ok (.aload_n 0, 1) := dk_42 (dk_at dksX3_goesOn_0 15 rfl rfl)
theorem dX3_goesOn_16 : decode cX3_goesOn 16 = .ok (.getfield 184, 3) := dk_180 0 184 (dk_at dksX3_goesOn_0 16 rfl rfl)
theorem dX3_goesOn_19 : decode cX3_goesOn 19 = .ok (.if_icmp .ge 21, 3) := dk_162 0 21 (dk_at dksX3_goesOn_0 19 rfl rfl)
theorem dX3_goesOn_22 : decode cX3_goesOn 22 = .ok (.aload_n 0, 1) := dk_42 (dk_at dksX3_goesOn_0 22 rfl rfl)
theorem dX3_goesOn_23 : decode cX3_goesOn 23 = .ok (.invokevirtual 218, 3) := dk_182 0 218 (dk_at dksX3_goesOn_1 0 rfl rfl)
theorem dX3_goesOn_26 : decode cX3_goesOn 26 = .ok (.bipush 59, 2) := dk_16 59 (dk_at dksX3_goesOn_1 3 rfl rfl)
theorem dX3_goesOn_28 : decode cX3_goesOn 28 = .ok (.if_icmp .eq 12, 3) := dk_159 0 12 (dk_at dksX3_goesOn_1 5 rfl rfl)
theorem dX3_goesOn_31 : decode cX3_goesOn 31 = .ok (.aload_n 0, 1) := dk_42 (dk_at dksX3_goesOn_1 8 rfl rfl)
theorem dX3_goesOn_32 : decode cX3_goesOn 32 = .ok (.iconst 0, 1) := dk_3 (dk_at dksX3_goesOn_1 9 rfl rfl)
theorem dX3_goesOn_33 : decode cX3_goesOn 33 = .ok (.aload_n 0, 1) := dk_42 (dk_at dksX3_goesOn_1 10 rfl rfl)
theorem dX3_goesOn_34 : decode cX3_goesOn 34 = .ok (.getfield 215, 3) := dk_180 0 215 (dk_at dksX3_goesOn_1 11 rfl rfl)
theorem dX3_goesOn_37 : decode cX3_goesOn 37 = .ok (.invokevirtual 251, 3) := dk_182 0 251 (dk_at dksX3_goesOn_1 14 rfl rfl)
theorem dX3_goesOn_40 : decode cX3_goesOn 40 = .ok (.aload_n 0, 1) := dk_42 (dk_at dksX3_goesOn_1 17 rfl rfl)
theorem dX3_goesOn_41 : decode cX3_goesOn 41 = .ok (.getfield 212, 3) := dk_180 0 212 (dk_at dksX3_goesOn_1 18 rfl rfl)
theorem dX3_goesOn_44 : decode cX3_goesOn 44 = .ok (.ifCond .ne 18, 3) := dk_154 0 18 (dk_at dksX3_goesOn_1 21 rfl rfl)
theorem dX3_goesOn_47 : decode cX3_goesOn 47 = .ok (.aload_n 0, 1) := dk_42 (dk_at dksX3_goesOn_2 0 rfl rfl)
theorem dX3_goesOn_48 : decode cX3_goesOn 48 = .ok (.getfield 215, 3) := dk_180 0 215 (dk_at dksX3_goesOn_2 1 rfl rfl)
theorem dX3_goesOn_51 : decode cX3_goesOn 51 = .ok (.aload_n 0, 1) := dk_42 (dk_at dksX3_goesOn_2 4 rfl rfl)
theorem dX3_goesOn_52 : decode cX3_goesOn 52 = .ok (.getfield 184, 3) := dk_180 0 184 (dk_at dksX3_goesOn_2 5 rfl rfl)
theorem dX3_goesOn_55 : decode cX3_goesOn 55 = .ok (.if_icmp .ge 7, 3) := dk_162 0 7 (dk_at dksX3_goesOn_2 8 rfl rfl)
theorem dX3_goesOn_58 : decode cX3_goesOn 58 = .ok (.iconst 1, 1) := dk_4 (dk_at dksX3_goesOn_2 11 rfl rfl)
theorem dX3_goesOn_59 : decode cX3_goesOn 59 = .ok (.goto 4, 3) := dk_167 0 4 (dk_at dksX3_goesOn_2 12 rfl rfl)
theorem dX3_goesOn_62 : decode cX3_goesOn 62 = .ok (.iconst 0, 1) := dk_3 (dk_at dksX3_goesOn_2 15 rfl rfl)
theorem dX3_goesOn_63 : decode cX3_goesOn 63 = .ok (.istore_n 1, 1) := dk_60 (dk_at dksX3_goesOn_2 16 rfl rfl)
theorem dX3_goesOn_64 : decode cX3_goesOn 64 = .ok (.aload_n 0, 1) := dk_42 (dk_at dksX3_goesOn_2 17 rfl rfl)
theorem dX3_goesOn_65 : decode cX3_goesOn 65 = .ok (.dup, 1) := dk_89 (dk_at dksX3_goesOn_2 18 rfl rfl)
theorem dX3_goesOn_66 : decode cX3_goesOn 66 = .ok (.getfield 215, 3) := dk_180 0 215 (dk_at dksX3_goesOn_2 19 rfl rfl)
theorem dX3_goesOn_69 : decode cX3_goesOn 69 = .ok (.iconst 1, 1) := dk_4 (dk_at dksX3_goesOn_2 22 rfl rfl)
theorem dX3_goesOn_70 : decode cX3_goesOn 70 = .ok (.iadd, 1) := dk_96 (dk_at dksX3_goesOn_2 23 rfl rfl)
theorem dX3_goesOn_71 : decode cX3_goesOn 71 = .ok (.putfield 215, 3) := dk_181 0 215 (dk_at dksX3_goesOn_3 0 rfl rfl)
theorem dX3_goesOn_74 : decode cX3_goesOn 74 = .ok (.iload_n 1, 1) := dk_27 (dk_at dksX3_goesOn_3 3 rfl rfl)
theorem dX3_goesOn_75 : decode cX3_goesOn 75 = .ok (.ireturn, 1) := dk_172 (dk_at dksX3_goesOn_3 4 rfl rfl)
abbrev cX3_copies : ByteArray := prog_17_method_42_code
def yX3_copies : MethodName := ⟨RX3, "copies", "([I[I)V"⟩
def dkwX3_copies_0 : List UInt8 := [3, 61, 28, 42, 190, 162, 0, 15, 43, 28, 42, 28, 46, 79, 132, 2, 1, 167, 255, 241, 177]
abbrev dktX3_copies_0 : List UInt8 := dkwX3_copies_0 ++ []
theorem dksX3_copies_0 : cX3_copies.data.toList.drop 0 = dktX3_copies_0 := by decide +kernel
theorem dX3_copies_0 : decode cX3_copies 0 = .ok (.iconst 0, 1) := dk_3 (dk_at dksX3_copies_0 0 rfl rfl)
theorem dX3_copies_1 : decode cX3_copies 1 = .ok (.istore_n 2, 1) := dk_61 (dk_at dksX3_copies_0 1 rfl rfl)
theorem dX3_copies_2 : decode cX3_copies 2 = .ok (.iload_n 2, 1) := dk_28 (dk_at dksX3_copies_0 2 rfl rfl)
theorem dX3_copies_3 : decode cX3_copies 3 = .ok (.aload_n 0, 1) := dk_42 (dk_at dksX3_copies_0 3 rfl rfl)
theorem dX3_copies_4 : decode cX3_copies 4 = .ok (.arraylength, 1) := dk_190 (dk_at dksX3_copies_0 4 rfl rfl)
theorem dX3_copies_5 : decode cX3_copies 5 = .ok (.if_icmp .ge 15, 3) := dk_162 0 15 (dk_at dksX3_copies_0 5 rfl rfl)
theorem dX3_copies_8 : decode cX3_copies 8 = .ok (.aload_n 1, 1) := dk_43 (dk_at dksX3_copies_0 8 rfl rfl)
theorem dX3_copies_9 : decode cX3_copies 9 = .ok (.iload_n 2, 1) := dk_28 (dk_at dksX3_copies_0 9 rfl rfl)
theorem dX3_copies_10 : decode cX3_copies 10 = .ok (.aload_n 0, 1) := dk_42 (dk_at dksX3_copies_0 10 rfl rfl)
theorem dX3_copies_11 : decode cX3_copies 11 = .ok (.iload_n 2, 1) := dk_28 (dk_at dksX3_copies_0 11 rfl rfl)
theorem dX3_copies_12 : decode cX3_copies 12 = .ok (.iaload, 1) := dk_46 (dk_at dksX3_copies_0 12 rfl rfl)
theorem dX3_copies_13 : decode cX3_copies 13 = .ok (.iastore, 1) := dk_79 (dk_at dksX3_copies_0 13 rfl rfl)
theorem dX3_copies_14 : decode cX3_copies 14 = .ok (.iinc 2 1, 3) := dk_132 2 1 (dk_at dksX3_copies_0 14 rfl rfl)
theorem dX3_copies_17 : decode cX3_copies 17 = .ok (.goto (-15), 3) := dk_167 255 241 (dk_at dksX3_copies_0 17 rfl rfl)
theorem dX3_copies_20 : decode cX3_copies 20 = .ok (.return_, 1) := dk_177 (dk_at dksX3_copies_0 20 rfl rfl)
abbrev cX3_rule : ByteArray := prog_17_method_48_code
def yX3_rule : MethodName := ⟨RX3, "rule", "()I"⟩
def dkwX3_rule_4 : List UInt8 := [180, 0, 212, 100, 167, 0, 9, 42, 180, 1, 116, 4, 100, 172]
abbrev dktX3_rule_4 : List UInt8 := dkwX3_rule_4 ++ []
def dkwX3_rule_3 : List UInt8 := [154, 0, 7, 4, 167, 0, 4, 3, 96, 181, 1, 116, 42, 180, 0, 212, 158, 0, 13, 16, 254, 42]
abbrev dktX3_rule_3 : List UInt8 := dkwX3_rule_3 ++ dktX3_rule_4
def dkwX3_rule_2 : List UInt8 := [3, 181, 0, 184, 42, 180, 0, 114, 42, 180, 0, 242, 27, 79, 42, 89, 180, 1, 116, 42, 180, 0, 212]
abbrev dktX3_rule_2 : List UInt8 := dkwX3_rule_2 ++ dktX3_rule_3
def dkwX3_rule_1 : List UInt8 := [60, 4, 61, 28, 153, 0, 19, 42, 27, 182, 1, 119, 132, 1, 1, 42, 182, 1, 93, 61, 167, 255, 239, 42]
abbrev dktX3_rule_1 : List UInt8 := dkwX3_rule_1 ++ dktX3_rule_2
def dkwX3_rule_0 : List UInt8 := [42, 180, 1, 116, 16, 6, 160, 0, 5, 2, 172, 42, 42, 180, 1, 116, 181, 0, 242, 42, 182, 1, 87, 3]
abbrev dktX3_rule_0 : List UInt8 := dkwX3_rule_0 ++ dktX3_rule_1
theorem dksX3_rule_0 : cX3_rule.data.toList.drop 0 = dktX3_rule_0 := by decide +kernel
theorem dksX3_rule_1 : cX3_rule.data.toList.drop 24 = dktX3_rule_1 := dk_seg dksX3_rule_0 24 rfl rfl
theorem dksX3_rule_2 : cX3_rule.data.toList.drop 48 = dktX3_rule_2 := dk_seg dksX3_rule_1 24 rfl rfl
theorem dksX3_rule_3 : cX3_rule.data.toList.drop 71 = dktX3_rule_3 := dk_seg dksX3_rule_2 23 rfl rfl
theorem dksX3_rule_4 : cX3_rule.data.toList.drop 93 = dktX3_rule_4 := dk_seg dksX3_rule_3 22 rfl rfl
theorem dX3_rule_0 : decode cX3_rule 0 = .ok (.aload_n 0, 1) := dk_42 (dk_at dksX3_rule_0 0 rfl rfl)
theorem dX3_rule_1 : decode cX3_rule 1 = .ok (.getfield 372, 3) := dk_180 1 116 (dk_at dksX3_rule_0 1 rfl rfl)
theorem dX3_rule_4 : decode cX3_rule 4 = .ok (.bipush 6, 2) := dk_16 6 (dk_at dksX3_rule_0 4 rfl rfl)
theorem dX3_rule_6 : decode cX3_rule 6 = .ok (.if_icmp .ne 5, 3) := dk_160 0 5 (dk_at dksX3_rule_0 6 rfl rfl)
theorem dX3_rule_9 : decode cX3_rule 9 = .ok (.iconst (-1), 1) := dk_2 (dk_at dksX3_rule_0 9 rfl rfl)
theorem dX3_rule_10 : decode cX3_rule 10 = .ok (.ireturn, 1) := dk_172 (dk_at dksX3_rule_0 10 rfl rfl)
theorem dX3_rule_11 : decode cX3_rule 11 = .ok (.aload_n 0, 1) := dk_42 (dk_at dksX3_rule_0 11 rfl rfl)
theorem dX3_rule_12 : decode cX3_rule 12 = .ok (.aload_n 0, 1) := dk_42 (dk_at dksX3_rule_0 12 rfl rfl)
theorem dX3_rule_13 : decode cX3_rule 13 = .ok (.getfield 372, 3) := dk_180 1 116 (dk_at dksX3_rule_0 13 rfl rfl)
theorem dX3_rule_16 : decode cX3_rule 16 = .ok (.putfield 242, 3) := dk_181 0 242 (dk_at dksX3_rule_0 16 rfl rfl)
theorem dX3_rule_19 : decode cX3_rule 19 = .ok (.aload_n 0, 1) := dk_42 (dk_at dksX3_rule_0 19 rfl rfl)
theorem dX3_rule_20 : decode cX3_rule 20 = .ok (.invokevirtual 343, 3) := dk_182 1 87 (dk_at dksX3_rule_0 20 rfl rfl)
theorem dX3_rule_23 : decode cX3_rule 23 = .ok (.iconst 0, 1) := dk_3 (dk_at dksX3_rule_0 23 rfl rfl)
theorem dX3_rule_24 : decode cX3_rule 24 = .ok (.istore_n 1, 1) := dk_60 (dk_at dksX3_rule_1 0 rfl rfl)
theorem dX3_rule_25 : decode cX3_rule 25 = .ok (.iconst 1, 1) := dk_4 (dk_at dksX3_rule_1 1 rfl rfl)
theorem dX3_rule_26 : decode cX3_rule 26 = .ok (.istore_n 2, 1) := dk_61 (dk_at dksX3_rule_1 2 rfl rfl)
theorem dX3_rule_27 : decode cX3_rule 27 = .ok (.iload_n 2, 1) := dk_28 (dk_at dksX3_rule_1 3 rfl rfl)
theorem dX3_rule_28 : decode cX3_rule 28 = .ok (.ifCond .eq 19, 3) := dk_153 0 19 (dk_at dksX3_rule_1 4 rfl rfl)
theorem dX3_rule_31 : decode cX3_rule 31 = .ok (.aload_n 0, 1) := dk_42 (dk_at dksX3_rule_1 7 rfl rfl)
theorem dX3_rule_32 : decode cX3_rule 32 = .ok (.iload_n 1, 1) := dk_27 (dk_at dksX3_rule_1 8 rfl rfl)
theorem dX3_rule_33 : decode cX3_rule 33 = .ok (.invokevirtual 375, 3) := dk_182 1 119 (dk_at dksX3_rule_1 9 rfl rfl)
theorem dX3_rule_36 : decode cX3_rule 36 = .ok (.iinc 1 1, 3) := dk_132 1 1 (dk_at dksX3_rule_1 12 rfl rfl)
theorem dX3_rule_39 : decode cX3_rule 39 = .ok (.aload_n 0, 1) := dk_42 (dk_at dksX3_rule_1 15 rfl rfl)
theorem dX3_rule_40 : decode cX3_rule 40 = .ok (.invokevirtual 349, 3) := dk_182 1 93 (dk_at dksX3_rule_1 16 rfl rfl)
theorem dX3_rule_43 : decode cX3_rule 43 = .ok (.istore_n 2, 1) := dk_61 (dk_at dksX3_rule_1 19 rfl rfl)
theorem dX3_rule_44 : decode cX3_rule 44 = .ok (.goto (-17), 3) := dk_167 255 239 (dk_at dksX3_rule_1 20 rfl rfl)
theorem dX3_rule_47 : decode cX3_rule 47 = .ok (.aload_n 0, 1) := dk_42 (dk_at dksX3_rule_1 23 rfl rfl)
theorem dX3_rule_48 : decode cX3_rule 48 = .ok (.iconst 0, 1) := dk_3 (dk_at dksX3_rule_2 0 rfl rfl)
theorem dX3_rule_49 : decode cX3_rule 49 = .ok (.putfield 184, 3) := dk_181 0 184 (dk_at dksX3_rule_2 1 rfl rfl)
theorem dX3_rule_52 : decode cX3_rule 52 = .ok (.aload_n 0, 1) := dk_42 (dk_at dksX3_rule_2 4 rfl rfl)
theorem dX3_rule_53 : decode cX3_rule 53 = .ok (.getfield 114, 3) := dk_180 0 114 (dk_at dksX3_rule_2 5 rfl rfl)
theorem dX3_rule_56 : decode cX3_rule 56 = .ok (.aload_n 0, 1) := dk_42 (dk_at dksX3_rule_2 8 rfl rfl)
theorem dX3_rule_57 : decode cX3_rule 57 = .ok (.getfield 242, 3) := dk_180 0 242 (dk_at dksX3_rule_2 9 rfl rfl)
theorem dX3_rule_60 : decode cX3_rule 60 = .ok (.iload_n 1, 1) := dk_27 (dk_at dksX3_rule_2 12 rfl rfl)
theorem dX3_rule_61 : decode cX3_rule 61 = .ok (.iastore, 1) := dk_79 (dk_at dksX3_rule_2 13 rfl rfl)
theorem dX3_rule_62 : decode cX3_rule 62 = .ok (.aload_n 0, 1) := dk_42 (dk_at dksX3_rule_2 14 rfl rfl)
theorem dX3_rule_63 : decode cX3_rule 63 = .ok (.dup, 1) := dk_89 (dk_at dksX3_rule_2 15 rfl rfl)
theorem dX3_rule_64 : decode cX3_rule 64 = .ok (.getfield 372, 3) := dk_180 1 116 (dk_at dksX3_rule_2 16 rfl rfl)
theorem dX3_rule_67 : decode cX3_rule 67 = .ok (.aload_n 0, 1) := dk_42 (dk_at dksX3_rule_2 19 rfl rfl)
theorem dX3_rule_68 : decode cX3_rule 68 = .ok (.getfield 212, 3) := dk_180 0 212 (dk_at dksX3_rule_2 20 rfl rfl)
theorem dX3_rule_71 : decode cX3_rule 71 = .ok (.ifCond .ne 7, 3) := dk_154 0 7 (dk_at dksX3_rule_3 0 rfl rfl)
theorem dX3_rule_74 : decode cX3_rule 74 = .ok (.iconst 1, 1) := dk_4 (dk_at dksX3_rule_3 3 rfl rfl)
theorem dX3_rule_75 : decode cX3_rule 75 = .ok (.goto 4, 3) := dk_167 0 4 (dk_at dksX3_rule_3 4 rfl rfl)
theorem dX3_rule_78 : decode cX3_rule 78 = .ok (.iconst 0, 1) := dk_3 (dk_at dksX3_rule_3 7 rfl rfl)
theorem dX3_rule_79 : decode cX3_rule 79 = .ok (.iadd, 1) := dk_96 (dk_at dksX3_rule_3 8 rfl rfl)
theorem dX3_rule_80 : decode cX3_rule 80 = .ok (.putfield 372, 3) := dk_181 1 116 (dk_at dksX3_rule_3 9 rfl rfl)
theorem dX3_rule_83 : decode cX3_rule 83 = .ok (.aload_n 0, 1) := dk_42 (dk_at dksX3_rule_3 12 rfl rfl)
theorem dX3_rule_84 : decode cX3_rule 84 = .ok (.getfield 212, 3) := dk_180 0 212 (dk_at dksX3_rule_3 13 rfl rfl)
theorem dX3_rule_87 : decode cX3_rule 87 = .ok (.ifCond .le 13, 3) := dk_158 0 13 (dk_at dksX3_rule_3 16 rfl rfl)
theorem dX3_rule_90 : decode cX3_rule 90 = .ok (.bipush (-2), 2) := dk_16 254 (dk_at dksX3_rule_3 19 rfl rfl)
theorem dX3_rule_92 : decode cX3_rule 92 = .ok (.aload_n 0, 1) := dk_42 (dk_at dksX3_rule_3 21 rfl rfl)
theorem dX3_rule_93 : decode cX3_rule 93 = .ok (.getfield 212, 3) := dk_180 0 212 (dk_at dksX3_rule_4 0 rfl rfl)
theorem dX3_rule_96 : decode cX3_rule 96 = .ok (.isub, 1) := dk_100 (dk_at dksX3_rule_4 3 rfl rfl)
theorem dX3_rule_97 : decode cX3_rule 97 = .ok (.goto 9, 3) := dk_167 0 9 (dk_at dksX3_rule_4 4 rfl rfl)
theorem dX3_rule_100 : decode cX3_rule 100 = .ok (.aload_n 0, 1) := dk_42 (dk_at dksX3_rule_4 7 rfl rfl)
theorem dX3_rule_101 : decode cX3_rule 101 = .ok (.getfield 372, 3) := dk_180 1 116 (dk_at dksX3_rule_4 8 rfl rfl)
theorem dX3_rule_104 : decode cX3_rule 104 = .ok (.iconst 1, 1) := dk_4 (dk_at dksX3_rule_4 11 rfl rfl)
theorem dX3_rule_105 : decode cX3_rule 105 = .ok (.isub, 1) := dk_100 (dk_at dksX3_rule_4 12 rfl rfl)
theorem dX3_rule_106 : decode cX3_rule 106 = .ok (.ireturn, 1) := dk_172 (dk_at dksX3_rule_4 13 rfl rfl)
abbrev cX3_ruleClause : ByteArray := prog_17_method_47_code
def yX3_ruleClause : MethodName := ⟨RX3, "ruleClause", "(I)V"⟩
def dkwX3_ruleClause_4 : List UInt8 := [182, 1, 110, 153, 0, 7, 42, 182, 1, 113, 42, 180, 0, 123, 29, 42, 180, 0, 245, 79, 177]
abbrev dktX3_ruleClause_4 : List UInt8 := dkwX3_ruleClause_4 ++ []
def dkwX3_ruleClause_3 : List UInt8 := [182, 1, 24, 42, 180, 0, 120, 29, 42, 180, 0, 245, 79, 42, 180, 0, 212, 154, 0, 17, 42, 19, 1, 108]
abbrev dktX3_ruleClause_3 : List UInt8 := dkwX3_ruleClause_3 ++ dktX3_ruleClause_4
def dkwX3_ruleClause_2 : List UInt8 := [181, 0, 215, 16, 12, 42, 180, 0, 242, 104, 27, 96, 62, 42, 180, 0, 117, 29, 42, 180, 0, 245, 79, 42]
abbrev dktX3_ruleClause_2 : List UInt8 := dkwX3_ruleClause_2 ++ dktX3_ruleClause_3
def dkwX3_ruleClause_1 : List UInt8 := [182, 0, 251, 177, 27, 16, 12, 160, 0, 10, 42, 7, 28, 182, 0, 251, 177, 42, 89, 180, 0, 215, 6, 96]
abbrev dktX3_ruleClause_1 : List UInt8 := dkwX3_ruleClause_1 ++ dktX3_ruleClause_2
def dkwX3_ruleClause_0 : List UInt8 := [42, 182, 0, 235, 42, 180, 0, 215, 61, 42, 19, 1, 106, 182, 0, 238, 154, 0, 10, 42, 3, 28]
abbrev dktX3_ruleClause_0 : List UInt8 := dkwX3_ruleClause_0 ++ dktX3_ruleClause_1
theorem dksX3_ruleClause_0 : cX3_ruleClause.data.toList.drop 0 = dktX3_ruleClause_0 := by decide +kernel
theorem dksX3_ruleClause_1 : cX3_ruleClause.data.toList.drop 22 = dktX3_ruleClause_1 := dk_seg dksX3_ruleClause_0 22 rfl rfl
theorem dksX3_ruleClause_2 : cX3_ruleClause.data.toList.drop 46 = dktX3_ruleClause_2 := dk_seg dksX3_ruleClause_1 24 rfl rfl
theorem dksX3_ruleClause_3 : cX3_ruleClause.data.toList.drop 70 = dktX3_ruleClause_3 := dk_seg dksX3_ruleClause_2 24 rfl rfl
theorem dksX3_ruleClause_4 : cX3_ruleClause.data.toList.drop 94 = dktX3_ruleClause_4 := dk_seg dksX3_ruleClause_3 24 rfl rfl
theorem dX3_ruleClause_0 : decode cX3_ruleClause 0 = .ok (.aload_n 0, 1) := dk_42 (dk_at dksX3_ruleClause_0 0 rfl rfl)
theorem dX3_ruleClause_1 : decode cX3_ruleClause 1 = .ok (.invokevirtual 235, 3) := dk_182 0 235 (dk_at dksX3_ruleClause_0 1 rfl rfl)
theorem dX3_ruleClause_4 : decode cX3_ruleClause 4 = .ok (.aload_n 0, 1) := dk_42 (dk_at dksX3_ruleClause_0 4 rfl rfl)
theorem dX3_ruleClause_5 : decode cX3_ruleClause 5 = .ok (.getfield 215, 3) := dk_180 0 215 (dk_at dksX3_ruleClause_0 5 rfl rfl)
theorem dX3_ruleClause_8 : decode cX3_ruleClause 8 = .ok (.istore_n 2, 1) := dk_61 (dk_at dksX3_ruleClause_0 8 rfl rfl)
theorem dX3_ruleClause_9 : decode cX3_ruleClause 9 = .ok (.aload_n 0, 1) := dk_42 (dk_at dksX3_ruleClause_0 9 rfl rfl)
theorem dX3_ruleClause_10 : decode cX3_ruleClause 10 = .ok (.ldc_w 362, 3) := dk_19 1 106 (dk_at dksX3_ruleClause_0 10 rfl rfl)
theorem dX3_ruleClause_13 : decode cX3_ruleClause 13 = .ok (.invokevirtual 238, 3) := dk_182 0 238 (dk_at dksX3_ruleClause_0 13 rfl rfl)
theorem dX3_ruleClause_16 : decode cX3_ruleClause 16 = .ok (.ifCond .ne 10, 3) := dk_154 0 10 (dk_at dksX3_ruleClause_0 16 rfl rfl)
theorem dX3_ruleClause_19 : decode cX3_ruleClause 19 = .ok (.aload_n 0, 1) := dk_42 (dk_at dksX3_ruleClause_0 19 rfl rfl)
theorem dX3_ruleClause_20 : decode cX3_ruleClause 20 = .ok (.iconst 0, 1) := dk_3 (dk_at dksX3_ruleClause_0 20 rfl rfl)
theorem dX3_ruleClause_21 : decode cX3_ruleClause 21 = .ok (.iload_n 2, 1) := dk_28 (dk_at dksX3_ruleClause_0 21 rfl rfl)
theorem dX3_ruleClause_22 : decode cX3_ruleClause 22 = .ok (.invokevirtual 251, 3) := dk_182 0 251 (dk_at dksX3_ruleClause_1 0 rfl rfl)
theorem dX3_ruleClause_25 : decode cX3_ruleClause 25 = .ok (.return_, 1) := dk_177 (dk_at dksX3_ruleClause_1 3 rfl rfl)
theorem dX3_ruleClause_26 : decode cX3_ruleClause 26 = .ok (.iload_n 1, 1) := dk_27 (dk_at dksX3_ruleClause_1 4 rfl rfl)
theorem dX3_ruleClause_27 : decode cX3_ruleClause 27 = .ok (.bipush 12, 2) := dk_16 12 (dk_at dksX3_ruleClause_1 5 rfl rfl)
theorem dX3_ruleClause_29 : decode cX3_ruleClause 29 = .ok (.if_icmp .ne 10, 3) := dk_160 0 10 (dk_at dksX3_ruleClause_1 7 rfl rfl)
theorem dX3_ruleClause_32 : decode cX3_ruleClause 32 = .ok (.aload_n 0, 1) := dk_42 (dk_at dksX3_ruleClause_1 10 rfl rfl)
theorem dX3_ruleClause_33 : decode cX3_ruleClause 33 = .ok (.iconst 4, 1) := dk_7 (dk_at dksX3_ruleClause_1 11 rfl rfl)
theorem dX3_ruleClause_34 : decode cX3_ruleClause 34 = .ok (.iload_n 2, 1) := dk_28 (dk_at dksX3_ruleClause_1 12 rfl rfl)
theorem dX3_ruleClause_35 : decode cX3_ruleClause 35 = .ok (.invokevirtual 251, 3) := dk_182 0 251 (dk_at dksX3_ruleClause_1 13 rfl rfl)
theorem dX3_ruleClause_38 : decode cX3_ruleClause 38 = .ok (.return_, 1) := dk_177 (dk_at dksX3_ruleClause_1 16 rfl rfl)
theorem dX3_ruleClause_39 : decode cX3_ruleClause 39 = .ok (.aload_n 0, 1) := dk_42 (dk_at dksX3_ruleClause_1 17 rfl rfl)
theorem dX3_ruleClause_40 : decode cX3_ruleClause 40 = .ok (.dup, 1) := dk_89 (dk_at dksX3_ruleClause_1 18 rfl rfl)
theorem dX3_ruleClause_41 : decode cX3_ruleClause 41 = .ok (.getfield 215, 3) := dk_180 0 215 (dk_at dksX3_ruleClause_1 19 rfl rfl)
theorem dX3_ruleClause_44 : decode cX3_ruleClause 44 = .ok (.iconst 3, 1) := dk_6 (dk_at dksX3_ruleClause_1 22 rfl rfl)
theorem dX3_ruleClause_45 : decode cX3_ruleClause 45 = .ok (.iadd, 1) := dk_96 (dk_at dksX3_ruleClause_1 23 rfl rfl)
theorem dX3_ruleClause_46 : decode cX3_ruleClause 46 = .ok (.putfield 215, 3) := dk_181 0 215 (dk_at dksX3_ruleClause_2 0 rfl rfl)
theorem dX3_ruleClause_49 : decode cX3_ruleClause 49 = .ok (.bipush 12, 2) := dk_16 12 (dk_at dksX3_ruleClause_2 3 rfl rfl)
theorem dX3_ruleClause_51 : decode cX3_ruleClause 51 = .ok (.aload_n 0, 1) := dk_42 (dk_at dksX3_ruleClause_2 5 rfl rfl)
theorem dX3_ruleClause_52 : decode cX3_ruleClause 52 = .ok (.getfield 242, 3) := dk_180 0 242 (dk_at dksX3_ruleClause_2 6 rfl rfl)
theorem dX3_ruleClause_55 : decode cX3_ruleClause 55 = .ok (.imul, 1) := dk_104 (dk_at dksX3_ruleClause_2 9 rfl rfl)
theorem dX3_ruleClause_56 : decode cX3_ruleClause 56 = .ok (.iload_n 1, 1) := dk_27 (dk_at dksX3_ruleClause_2 10 rfl rfl)
theorem dX3_ruleClause_57 : decode cX3_ruleClause 57 = .ok (.iadd, 1) := dk_96 (dk_at dksX3_ruleClause_2 11 rfl rfl)
theorem dX3_ruleClause_58 : decode cX3_ruleClause 58 = .ok (.istore_n 3, 1) := dk_62 (dk_at dksX3_ruleClause_2 12 rfl rfl)
theorem dX3_ruleClause_59 : decode cX3_ruleClause 59 = .ok (.aload_n 0, 1) := dk_42 (dk_at dksX3_ruleClause_2 13 rfl rfl)
theorem dX3_ruleClause_60 : decode cX3_ruleClause 60 = .ok (.getfield 117, 3) := dk_180 0 117 (dk_at dksX3_ruleClause_2 14 rfl rfl)
theorem dX3_ruleClause_63 : decode cX3_ruleClause 63 = .ok (.iload_n 3, 1) := dk_29 (dk_at dksX3_ruleClause_2 17 rfl rfl)
theorem dX3_ruleClause_64 : decode cX3_ruleClause 64 = .ok (.aload_n 0, 1) := dk_42 (dk_at dksX3_ruleClause_2 18 rfl rfl)
theorem dX3_ruleClause_65 : decode cX3_ruleClause 65 = .ok (.getfield 245, 3) := dk_180 0 245 (dk_at dksX3_ruleClause_2 19 rfl rfl)
theorem dX3_ruleClause_68 : decode cX3_ruleClause 68 = .ok (.iastore, 1) := dk_79 (dk_at dksX3_ruleClause_2 22 rfl rfl)
theorem dX3_ruleClause_69 : decode cX3_ruleClause 69 = .ok (.aload_n 0, 1) := dk_42 (dk_at dksX3_ruleClause_2 23 rfl rfl)
theorem dX3_ruleClause_70 : decode cX3_ruleClause 70 = .ok (.invokevirtual 280, 3) := dk_182 1 24 (dk_at dksX3_ruleClause_3 0 rfl rfl)
theorem dX3_ruleClause_73 : decode cX3_ruleClause 73 = .ok (.aload_n 0, 1) := dk_42 (dk_at dksX3_ruleClause_3 3 rfl rfl)
theorem dX3_ruleClause_74 : decode cX3_ruleClause 74 = .ok (.getfield 120, 3) := dk_180 0 120 (dk_at dksX3_ruleClause_3 4 rfl rfl)
theorem dX3_ruleClause_77 : decode cX3_ruleClause 77 = .ok (.iload_n 3, 1) := dk_29 (dk_at dksX3_ruleClause_3 7 rfl rfl)
theorem dX3_ruleClause_78 : decode cX3_ruleClause 78 = .ok (.aload_n 0, 1) := dk_42 (dk_at dksX3_ruleClause_3 8 rfl rfl)
theorem dX3_ruleClause_79 : decode cX3_ruleClause 79 = .ok (.getfield 245, 3) := dk_180 0 245 (dk_at dksX3_ruleClause_3 9 rfl rfl)
theorem dX3_ruleClause_82 : decode cX3_ruleClause 82 = .ok (.iastore, 1) := dk_79 (dk_at dksX3_ruleClause_3 12 rfl rfl)
theorem dX3_ruleClause_83 : decode cX3_ruleClause 83 = .ok (.aload_n 0, 1) := dk_42 (dk_at dksX3_ruleClause_3 13 rfl rfl)
theorem dX3_ruleClause_84 : decode cX3_ruleClause 84 = .ok (.getfield 212, 3) := dk_180 0 212 (dk_at dksX3_ruleClause_3 14 rfl rfl)
theorem dX3_ruleClause_87 : decode cX3_ruleClause 87 = .ok (.ifCond .ne 17, 3) := dk_154 0 17 (dk_at dksX3_ruleClause_3 17 rfl rfl)
theorem dX3_ruleClause_90 : decode cX3_ruleClause 90 = .ok (.aload_n 0, 1) := dk_42 (dk_at dksX3_ruleClause_3 20 rfl rfl)
theorem dX3_ruleClause_91 : decode cX3_ruleClause 91 = .ok (.ldc_w 364, 3) := dk_19 1 108 (dk_at dksX3_ruleClause_3 21 rfl rfl)
theorem dX3_ruleClause_94 : decode cX3_ruleClause 94 = .ok (.invokevirtual 366, 3) := dk_182 1 110 (dk_at dksX3_ruleClause_4 0 rfl rfl)
theorem dX3_ruleClause_97 : decode cX3_ruleClause 97 = .ok (.ifCond .eq 7, 3) := dk_153 0 7 (dk_at dksX3_ruleClause_4 3 rfl rfl)
theorem dX3_ruleClause_100 : decode cX3_ruleClause 100 = .ok (.aload_n 0, 1) := dk_42 (dk_at dksX3_ruleClause_4 6 rfl rfl)
theorem dX3_ruleClause_101 : decode cX3_ruleClause 101 = .ok (.invokevirtual 369, 3) := dk_182 1 113 (dk_at dksX3_ruleClause_4 7 rfl rfl)
theorem dX3_ruleClause_104 : decode cX3_ruleClause 104 = .ok (.aload_n 0, 1) := dk_42 (dk_at dksX3_ruleClause_4 10 rfl rfl)
theorem dX3_ruleClause_105 : decode cX3_ruleClause 105 = .ok (.getfield 123, 3) := dk_180 0 123 (dk_at dksX3_ruleClause_4 11 rfl rfl)
theorem dX3_ruleClause_108 : decode cX3_ruleClause 108 = .ok (.iload_n 3, 1) := dk_29 (dk_at dksX3_ruleClause_4 14 rfl rfl)
theorem dX3_ruleClause_109 : decode cX3_ruleClause 109 = .ok (.aload_n 0, 1) := dk_42 (dk_at dksX3_ruleClause_4 15 rfl rfl)
theorem dX3_ruleClause_110 : decode cX3_ruleClause 110 = .ok (.getfield 245, 3) := dk_180 0 245 (dk_at dksX3_ruleClause_4 16 rfl rfl)
theorem dX3_ruleClause_113 : decode cX3_ruleClause 113 = .ok (.iastore, 1) := dk_79 (dk_at dksX3_ruleClause_4 19 rfl rfl)
theorem dX3_ruleClause_114 : decode cX3_ruleClause 114 = .ok (.return_, 1) := dk_177 (dk_at dksX3_ruleClause_4 20 rfl rfl)
abbrev cX3_sum : ByteArray := prog_17_method_27_code
def yX3_sum : MethodName := ⟨RX3, "sum", "()V"⟩
def dkwX3_sum_2 : List UInt8 := [180, 0, 215, 4, 96, 181, 0, 215, 42, 182, 1, 21, 42, 27, 3, 182, 1, 11, 167, 255, 196, 177]
abbrev dktX3_sum_2 : List UInt8 := dkwX3_sum_2 ++ []
def dkwX3_sum_1 : List UInt8 := [16, 45, 160, 0, 41, 42, 182, 0, 218, 16, 43, 160, 0, 7, 5, 167, 0, 4, 6, 60, 42, 89]
abbrev dktX3_sum_1 : List UInt8 := dkwX3_sum_1 ++ dktX3_sum_2
def dkwX3_sum_0 : List UInt8 := [42, 182, 1, 21, 42, 180, 0, 212, 154, 0, 59, 42, 182, 0, 218, 16, 43, 159, 0, 12, 42, 182, 0, 218]
abbrev dktX3_sum_0 : List UInt8 := dkwX3_sum_0 ++ dktX3_sum_1
theorem dksX3_sum_0 : cX3_sum.data.toList.drop 0 = dktX3_sum_0 := by decide +kernel
theorem dksX3_sum_1 : cX3_sum.data.toList.drop 24 = dktX3_sum_1 := dk_seg dksX3_sum_0 24 rfl rfl
theorem dksX3_sum_2 : cX3_sum.data.toList.drop 46 = dktX3_sum_2 := dk_seg dksX3_sum_1 22 rfl rfl
theorem dX3_sum_0 : decode cX3_sum 0 = .ok (.aload_n 0, 1) := dk_42 (dk_at dksX3_sum_0 0 rfl rfl)
theorem dX3_sum_1 : decode cX3_sum 1 = .ok (.invokevirtual 277, 3) := dk_182 1 21 (dk_at dksX3_sum_0 1 rfl rfl)
theorem dX3_sum_4 : decode cX3_sum 4 = .ok (.aload_n 0, 1) := dk_42 (dk_at dksX3_sum_0 4 rfl rfl)
theorem dX3_sum_5 : decode cX3_sum 5 = .ok (.getfield 212, 3) := dk_180 0 212 (dk_at dksX3_sum_0 5 rfl rfl)
theorem dX3_sum_8 : decode cX3_sum 8 = .ok (.ifCond .ne 59, 3) := dk_154 0 59 (dk_at dksX3_sum_0 8 rfl rfl)
theorem dX3_sum_11 : decode cX3_sum 11 = .ok (.aload_n 0, 1) := dk_42 (dk_at dksX3_sum_0 11 rfl rfl)
theorem dX3_sum_12 : decode cX3_sum 12 = .ok (.invokevirtual 218, 3) := dk_182 0 218 (dk_at dksX3_sum_0 12 rfl rfl)
theorem dX3_sum_15 : decode cX3_sum 15 = .ok (.bipush 43, 2) := dk_16 43 (dk_at dksX3_sum_0 15 rfl rfl)
theorem dX3_sum_17 : decode cX3_sum 17 = .ok (.if_icmp .eq 12, 3) := dk_159 0 12 (dk_at dksX3_sum_0 17 rfl rfl)
theorem dX3_sum_20 : decode cX3_sum 20 = .ok (.aload_n 0, 1) := dk_42 (dk_at dksX3_sum_0 20 rfl rfl)
theorem dX3_sum_21 : decode cX3_sum 21 = .ok (.invokevirtual 218, 3) := dk_182 0 218 (dk_at dksX3_sum_0 21 rfl rfl)
theorem dX3_sum_24 : decode cX3_sum 24 = .ok (.bipush 45, 2) := dk_16 45 (dk_at dksX3_sum_1 0 rfl rfl)
theorem dX3_sum_26 : decode cX3_sum 26 = .ok (.if_icmp .ne 41, 3) := dk_160 0 41 (dk_at dksX3_sum_1 2 rfl rfl)
theorem dX3_sum_29 : decode cX3_sum 29 = .ok (.aload_n 0, 1) := dk_42 (dk_at dksX3_sum_1 5 rfl rfl)
theorem dX3_sum_30 : decode cX3_sum 30 = .ok (.invokevirtual 218, 3) := dk_182 0 218 (dk_at dksX3_sum_1 6 rfl rfl)
theorem dX3_sum_33 : decode cX3_sum 33 = .ok (.bipush 43, 2) := dk_16 43 (dk_at dksX3_sum_1 9 rfl rfl)
theorem dX3_sum_35 : decode cX3_sum 35 = .ok (.if_icmp .ne 7, 3) := dk_160 0 7 (dk_at dksX3_sum_1 11 rfl rfl)
theorem dX3_sum_38 : decode cX3_sum 38 = .ok (.iconst 2, 1) := dk_5 (dk_at dksX3_sum_1 14 rfl rfl)
theorem dX3_sum_39 : decode cX3_sum 39 = .ok (.goto 4, 3) := dk_167 0 4 (dk_at dksX3_sum_1 15 rfl rfl)
theorem dX3_sum_42 : decode cX3_sum 42 = .ok (.iconst 3, 1) := dk_6 (dk_at dksX3_sum_1 18 rfl rfl)
theorem dX3_sum_43 : decode cX3_sum 43 = .ok (.istore_n 1, 1) := dk_60 (dk_at dksX3_sum_1 19 rfl rfl)
theorem dX3_sum_44 : decode cX3_sum 44 = .ok (.aload_n 0, 1) := dk_42 (dk_at dksX3_sum_1 20 rfl rfl)
theorem dX3_sum_45 : decode cX3_sum 45 = .ok (.dup, 1) := dk_89 (dk_at dksX3_sum_1 21 rfl rfl)
theorem dX3_sum_46 : decode cX3_sum 46 = .ok (.getfield 215, 3) := dk_180 0 215 (dk_at dksX3_sum_2 0 rfl rfl)
theorem dX3_sum_49 : decode cX3_sum 49 = .ok (.iconst 1, 1) := dk_4 (dk_at dksX3_sum_2 3 rfl rfl)
theorem dX3_sum_50 : decode cX3_sum 50 = .ok (.iadd, 1) := dk_96 (dk_at dksX3_sum_2 4 rfl rfl)
theorem dX3_sum_51 : decode cX3_sum 51 = .ok (.putfield 215, 3) := dk_181 0 215 (dk_at dksX3_sum_2 5 rfl rfl)
theorem dX3_sum_54 : decode cX3_sum 54 = .ok (.aload_n 0, 1) := dk_42 (dk_at dksX3_sum_2 8 rfl rfl)
theorem dX3_sum_55 : decode cX3_sum 55 = .ok (.invokevirtual 277, 3) := dk_182 1 21 (dk_at dksX3_sum_2 9 rfl rfl)
theorem dX3_sum_58 : decode cX3_sum 58 = .ok (.aload_n 0, 1) := dk_42 (dk_at dksX3_sum_2 12 rfl rfl)
theorem dX3_sum_59 : decode cX3_sum 59 = .ok (.iload_n 1, 1) := dk_27 (dk_at dksX3_sum_2 13 rfl rfl)
theorem dX3_sum_60 : decode cX3_sum 60 = .ok (.iconst 0, 1) := dk_3 (dk_at dksX3_sum_2 14 rfl rfl)
theorem dX3_sum_61 : decode cX3_sum 61 = .ok (.invokevirtual 267, 3) := dk_182 1 11 (dk_at dksX3_sum_2 15 rfl rfl)
theorem dX3_sum_64 : decode cX3_sum 64 = .ok (.goto (-60), 3) := dk_167 255 196 (dk_at dksX3_sum_2 18 rfl rfl)
theorem dX3_sum_67 : decode cX3_sum 67 = .ok (.return_, 1) := dk_177 (dk_at dksX3_sum_2 21 rfl rfl)
abbrev cX3_term : ByteArray := prog_17_method_26_code
def yX3_term : MethodName := ⟨RX3, "term", "()V"⟩
def dkwX3_term_4 : List UInt8 := [182, 0, 235, 167, 255, 167, 177]
abbrev dktX3_term_4 : List UInt8 := dkwX3_term_4 ++ []
def dkwX3_term_3 : List UInt8 := [60, 42, 89, 180, 0, 215, 4, 96, 181, 0, 215, 42, 182, 1, 18, 42, 27, 3, 182, 1, 11, 42]
abbrev dktX3_term_3 : List UInt8 := dkwX3_term_3 ++ dktX3_term_4
def dkwX3_term_2 : List UInt8 := [160, 0, 8, 16, 13, 167, 0, 19, 42, 182, 0, 218, 16, 47, 160, 0, 8, 16, 14, 167, 0, 5, 16, 15]
abbrev dktX3_term_2 : List UInt8 := dkwX3_term_2 ++ dktX3_term_3
def dkwX3_term_1 : List UInt8 := [42, 182, 0, 218, 16, 47, 159, 0, 12, 42, 182, 0, 218, 16, 37, 160, 0, 61, 42, 182, 0, 218, 16, 42]
abbrev dktX3_term_1 : List UInt8 := dkwX3_term_1 ++ dktX3_term_2
def dkwX3_term_0 : List UInt8 := [42, 182, 1, 18, 42, 182, 0, 235, 42, 180, 0, 212, 154, 0, 88, 42, 182, 0, 218, 16, 42, 159, 0, 21]
abbrev dktX3_term_0 : List UInt8 := dkwX3_term_0 ++ dktX3_term_1
theorem dksX3_term_0 : cX3_term.data.toList.drop 0 = dktX3_term_0 := by decide +kernel
theorem dksX3_term_1 : cX3_term.data.toList.drop 24 = dktX3_term_1 := dk_seg dksX3_term_0 24 rfl rfl
theorem dksX3_term_2 : cX3_term.data.toList.drop 48 = dktX3_term_2 := dk_seg dksX3_term_1 24 rfl rfl
theorem dksX3_term_3 : cX3_term.data.toList.drop 72 = dktX3_term_3 := dk_seg dksX3_term_2 24 rfl rfl
theorem dksX3_term_4 : cX3_term.data.toList.drop 94 = dktX3_term_4 := dk_seg dksX3_term_3 22 rfl rfl
theorem dX3_term_0 : decode cX3_term 0 = .ok (.aload_n 0, 1) := dk_42 (dk_at dksX3_term_0 0 rfl rfl)
theorem dX3_term_1 : decode cX3_term 1 = .ok (.invokevirtual 274, 3) := dk_182 1 18 (dk_at dksX3_term_0 1 rfl rfl)
theorem dX3_term_4 : decode cX3_term 4 = .ok (.aload_n 0, 1) := dk_42 (dk_at dksX3_term_0 4 rfl rfl)
theorem dX3_term_5 : decode cX3_term 5 = .ok (.invokevirtual 235, 3) := dk_182 0 235 (dk_at dksX3_term_0 5 rfl rfl)
theorem dX3_term_8 : decode cX3_term 8 = .ok (.aload_n 0, 1) := dk_42 (dk_at dksX3_term_0 8 rfl rfl)
theorem dX3_term_9 : decode cX3_term 9 = .ok (.getfield 212, 3) := dk_180 0 212 (dk_at dksX3_term_0 9 rfl rfl)
theorem dX3_term_12 : decode cX3_term 12 = .ok (.ifCond .ne 88, 3) := dk_154 0 88 (dk_at dksX3_term_0 12 rfl rfl)
theorem dX3_term_15 : decode cX3_term 15 = .ok (.aload_n 0, 1) := dk_42 (dk_at dksX3_term_0 15 rfl rfl)
theorem dX3_term_16 : decode cX3_term 16 = .ok (.invokevirtual 218, 3) := dk_182 0 218 (dk_at dksX3_term_0 16 rfl rfl)
theorem dX3_term_19 : decode cX3_term 19 = .ok (.bipush 42, 2) := dk_16 42 (dk_at dksX3_term_0 19 rfl rfl)
theorem dX3_term_21 : decode cX3_term 21 = .ok (.if_icmp .eq 21, 3) := dk_159 0 21 (dk_at dksX3_term_0 21 rfl rfl)
theorem dX3_term_24 : decode cX3_term 24 = .ok (.aload_n 0, 1) := dk_42 (dk_at dksX3_term_1 0 rfl rfl)
theorem dX3_term_25 : decode cX3_term 25 = .ok (.invokevirtual 218, 3) := dk_182 0 218 (dk_at dksX3_term_1 1 rfl rfl)
theorem dX3_term_28 : decode cX3_term 28 = .ok (.bipush 47, 2) := dk_16 47 (dk_at dksX3_term_1 4 rfl rfl)
theorem dX3_term_30 : decode cX3_term 30 = .ok (.if_icmp .eq 12, 3) := dk_159 0 12 (dk_at dksX3_term_1 6 rfl rfl)
theorem dX3_term_33 : decode cX3_term 33 = .ok (.aload_n 0, 1) := dk_42 (dk_at dksX3_term_1 9 rfl rfl)
theorem dX3_term_34 : decode cX3_term 34 = .ok (.invokevirtual 218, 3) := dk_182 0 218 (dk_at dksX3_term_1 10 rfl rfl)
theorem dX3_term_37 : decode cX3_term 37 = .ok (.bipush 37, 2) := dk_16 37 (dk_at dksX3_term_1 13 rfl rfl)
theorem dX3_term_39 : decode cX3_term 39 = .ok (.if_icmp .ne 61, 3) := dk_160 0 61 (dk_at dksX3_term_1 15 rfl rfl)
theorem dX3_term_42 : decode cX3_term 42 = .ok (.aload_n 0, 1) := dk_42 (dk_at dksX3_term_1 18 rfl rfl)
theorem dX3_term_43 : decode cX3_term 43 = .ok (.invokevirtual 218, 3) := dk_182 0 218 (dk_at dksX3_term_1 19 rfl rfl)
theorem dX3_term_46 : decode cX3_term 46 = .ok (.bipush 42, 2) := dk_16 42 (dk_at dksX3_term_1 22 rfl rfl)
theorem dX3_term_48 : decode cX3_term 48 = .ok (.if_icmp .ne 8, 3) := dk_160 0 8 (dk_at dksX3_term_2 0 rfl rfl)
theorem dX3_term_51 : decode cX3_term 51 = .ok (.bipush 13, 2) := dk_16 13 (dk_at dksX3_term_2 3 rfl rfl)
theorem dX3_term_53 : decode cX3_term 53 = .ok (.goto 19, 3) := dk_167 0 19 (dk_at dksX3_term_2 5 rfl rfl)
theorem dX3_term_56 : decode cX3_term 56 = .ok (.aload_n 0, 1) := dk_42 (dk_at dksX3_term_2 8 rfl rfl)
theorem dX3_term_57 : decode cX3_term 57 = .ok (.invokevirtual 218, 3) := dk_182 0 218 (dk_at dksX3_term_2 9 rfl rfl)
theorem dX3_term_60 : decode cX3_term 60 = .ok (.bipush 47, 2) := dk_16 47 (dk_at dksX3_term_2 12 rfl rfl)
theorem dX3_term_62 : decode cX3_term 62 = .ok (.if_icmp .ne 8, 3) := dk_160 0 8 (dk_at dksX3_term_2 14 rfl rfl)
theorem dX3_term_65 : decode cX3_term 65 = .ok (.bipush 14, 2) := dk_16 14 (dk_at dksX3_term_2 17 rfl rfl)
theorem dX3_term_67 : decode cX3_term 67 = .ok (.goto 5, 3) := dk_167 0 5 (dk_at dksX3_term_2 19 rfl rfl)
theorem dX3_term_70 : decode cX3_term 70 = .ok (.bipush 15, 2) := dk_16 15 (dk_at dksX3_term_2 22 rfl rfl)
theorem dX3_term_72 : decode cX3_term 72 = .ok (.istore_n 1, 1) := dk_60 (dk_at dksX3_term_3 0 rfl rfl)
theorem dX3_term_73 : decode cX3_term 73 = .ok (.aload_n 0, 1) := dk_42 (dk_at dksX3_term_3 1 rfl rfl)
theorem dX3_term_74 : decode cX3_term 74 = .ok (.dup, 1) := dk_89 (dk_at dksX3_term_3 2 rfl rfl)
theorem dX3_term_75 : decode cX3_term 75 = .ok (.getfield 215, 3) := dk_180 0 215 (dk_at dksX3_term_3 3 rfl rfl)
theorem dX3_term_78 : decode cX3_term 78 = .ok (.iconst 1, 1) := dk_4 (dk_at dksX3_term_3 6 rfl rfl)
theorem dX3_term_79 : decode cX3_term 79 = .ok (.iadd, 1) := dk_96 (dk_at dksX3_term_3 7 rfl rfl)
theorem dX3_term_80 : decode cX3_term 80 = .ok (.putfield 215, 3) := dk_181 0 215 (dk_at dksX3_term_3 8 rfl rfl)
theorem dX3_term_83 : decode cX3_term 83 = .ok (.aload_n 0, 1) := dk_42 (dk_at dksX3_term_3 11 rfl rfl)
theorem dX3_term_84 : decode cX3_term 84 = .ok (.invokevirtual 274, 3) := dk_182 1 18 (dk_at dksX3_term_3 12 rfl rfl)
theorem dX3_term_87 : decode cX3_term 87 = .ok (.aload_n 0, 1) := dk_42 (dk_at dksX3_term_3 15 rfl rfl)
theorem dX3_term_88 : decode cX3_term 88 = .ok (.iload_n 1, 1) := dk_27 (dk_at dksX3_term_3 16 rfl rfl)
theorem dX3_term_89 : decode cX3_term 89 = .ok (.iconst 0, 1) := dk_3 (dk_at dksX3_term_3 17 rfl rfl)
theorem dX3_term_90 : decode cX3_term 90 = .ok (.invokevirtual 267, 3) := dk_182 1 11 (dk_at dksX3_term_3 18 rfl rfl)
theorem dX3_term_93 : decode cX3_term 93 = .ok (.aload_n 0, 1) := dk_42 (dk_at dksX3_term_3 21 rfl rfl)
theorem dX3_term_94 : decode cX3_term 94 = .ok (.invokevirtual 235, 3) := dk_182 0 235 (dk_at dksX3_term_4 0 rfl rfl)
theorem dX3_term_97 : decode cX3_term 97 = .ok (.goto (-89), 3) := dk_167 255 167 (dk_at dksX3_term_4 3 rfl rfl)
theorem dX3_term_100 : decode cX3_term 100 = .ok (.return_, 1) := dk_177 (dk_at dksX3_term_4 6 rfl rfl)
abbrev cX3_value : ByteArray := prog_17_method_25_code
def yX3_value : MethodName := ⟨RX3, "value", "()V"⟩
def dkwX3_value_4 : List UInt8 := [181, 0, 215, 42, 4, 28, 182, 1, 11, 177]
abbrev dktX3_value_4 : List UInt8 := dkwX3_value_4 ++ []
def dkwX3_value_3 : List UInt8 := [3, 27, 182, 0, 251, 177, 42, 27, 182, 1, 8, 42, 89, 180, 0, 215, 28, 184, 1, 14, 182, 0, 226, 96]
abbrev dktX3_value_3 : List UInt8 := dkwX3_value_3 ++ dktX3_value_4
def dkwX3_value_2 : List UInt8 := [184, 1, 14, 182, 0, 238, 154, 0, 9, 132, 2, 1, 167, 255, 234, 28, 42, 180, 0, 100, 160, 0, 10, 42]
abbrev dktX3_value_2 : List UInt8 := dkwX3_value_2 ++ dktX3_value_3
def dkwX3_value_1 : List UInt8 := [42, 27, 182, 1, 8, 42, 3, 28, 182, 1, 11, 177, 3, 61, 28, 42, 180, 0, 100, 162, 0, 20, 42, 28]
abbrev dktX3_value_1 : List UInt8 := dkwX3_value_1 ++ dktX3_value_2
def dkwX3_value_0 : List UInt8 := [42, 182, 0, 235, 42, 180, 0, 215, 60, 42, 182, 0, 255, 153, 0, 23, 42, 19, 1, 3, 182, 1, 4, 61]
abbrev dktX3_value_0 : List UInt8 := dkwX3_value_0 ++ dktX3_value_1
theorem dksX3_value_0 : cX3_value.data.toList.drop 0 = dktX3_value_0 := by decide +kernel
theorem dksX3_value_1 : cX3_value.data.toList.drop 24 = dktX3_value_1 := dk_seg dksX3_value_0 24 rfl rfl
theorem dksX3_value_2 : cX3_value.data.toList.drop 48 = dktX3_value_2 := dk_seg dksX3_value_1 24 rfl rfl
theorem dksX3_value_3 : cX3_value.data.toList.drop 72 = dktX3_value_3 := dk_seg dksX3_value_2 24 rfl rfl
theorem dksX3_value_4 : cX3_value.data.toList.drop 96 = dktX3_value_4 := dk_seg dksX3_value_3 24 rfl rfl
theorem dX3_value_0 : decode cX3_value 0 = .ok (.aload_n 0, 1) := dk_42 (dk_at dksX3_value_0 0 rfl rfl)
theorem dX3_value_1 : decode cX3_value 1 = .ok (.invokevirtual 235, 3) := dk_182 0 235 (dk_at dksX3_value_0 1 rfl rfl)
theorem dX3_value_4 : decode cX3_value 4 = .ok (.aload_n 0, 1) := dk_42 (dk_at dksX3_value_0 4 rfl rfl)
theorem dX3_value_5 : decode cX3_value 5 = .ok (.getfield 215, 3) := dk_180 0 215 (dk_at dksX3_value_0 5 rfl rfl)
theorem dX3_value_8 : decode cX3_value 8 = .ok (.istore_n 1, 1) := dk_60 (dk_at dksX3_value_0 8 rfl rfl)
theorem dX3_value_9 : decode cX3_value 9 = .ok (.aload_n 0, 1) := dk_42 (dk_at dksX3_value_0 9 rfl rfl)
theorem dX3_value_10 : decode cX3_value 10 = .ok (.invokevirtual 255, 3) := dk_182 0 255 (dk_at dksX3_value_0 10 rfl rfl)
theorem dX3_value_13 : decode cX3_value 13 = .ok (.ifCond .eq 23, 3) := dk_153 0 23 (dk_at dksX3_value_0 13 rfl rfl)
theorem dX3_value_16 : decode cX3_value 16 = .ok (.aload_n 0, 1) := dk_42 (dk_at dksX3_value_0 16 rfl rfl)
theorem dX3_value_17 : decode cX3_value 17 = .ok (.ldc_w 259, 3) := dk_19 1 3 (dk_at dksX3_value_0 17 rfl rfl)
theorem dX3_value_20 : decode cX3_value 20 = .ok (.invokevirtual 260, 3) := dk_182 1 4 (dk_at dksX3_value_0 20 rfl rfl)
theorem dX3_value_23 : decode cX3_value 23 = .ok (.istore_n 2, 1) := dk_61 (dk_at dksX3_value_0 23 rfl rfl)
theorem dX3_value_24 : decode cX3_value 24 = .ok (.aload_n 0, 1) := dk_42 (dk_at dksX3_value_1 0 rfl rfl)
theorem dX3_value_25 : decode cX3_value 25 = .ok (.iload_n 1, 1) := dk_27 (dk_at dksX3_value_1 1 rfl rfl)
theorem dX3_value_26 : decode cX3_value 26 = .ok (.invokevirtual 264, 3) := dk_182 1 8 (dk_at dksX3_value_1 2 rfl rfl)
theorem dX3_value_29 : decode cX3_value 29 = .ok (.aload_n 0, 1) := dk_42 (dk_at dksX3_value_1 5 rfl rfl)
theorem dX3_value_30 : decode cX3_value 30 = .ok (.iconst 0, 1) := dk_3 (dk_at dksX3_value_1 6 rfl rfl)
theorem dX3_value_31 : decode cX3_value 31 = .ok (.iload_n 2, 1) := dk_28 (dk_at dksX3_value_1 7 rfl rfl)
theorem dX3_value_32 : decode cX3_value 32 = .ok (.invokevirtual 267, 3) := dk_182 1 11 (dk_at dksX3_value_1 8 rfl rfl)
theorem dX3_value_35 : decode cX3_value 35 = .ok (.return_, 1) := dk_177 (dk_at dksX3_value_1 11 rfl rfl)
theorem dX3_value_36 : decode cX3_value 36 = .ok (.iconst 0, 1) := dk_3 (dk_at dksX3_value_1 12 rfl rfl)
theorem dX3_value_37 : decode cX3_value 37 = .ok (.istore_n 2, 1) := dk_61 (dk_at dksX3_value_1 13 rfl rfl)
theorem dX3_value_38 : decode cX3_value 38 = .ok (.iload_n 2, 1) := dk_28 (dk_at dksX3_value_1 14 rfl rfl)
theorem dX3_value_39 : decode cX3_value 39 = .ok (.aload_n 0, 1) := dk_42 (dk_at dksX3_value_1 15 rfl rfl)
theorem dX3_value_40 : decode cX3_value 40 = .ok (.getfield 100, 3) := dk_180 0 100 (dk_at dksX3_value_1 16 rfl rfl)
theorem dX3_value_43 : decode cX3_value 43 = .ok (.if_icmp .ge 20, 3) := dk_162 0 20 (dk_at dksX3_value_1 19 rfl rfl)
theorem dX3_value_46 : decode cX3_value 46 = .ok (.aload_n 0, 1) := dk_42 (dk_at dksX3_value_1 22 rfl rfl)
theorem dX3_value_47 : decode cX3_value 47 = .ok (.iload_n 2, 1) := dk_28 (dk_at dksX3_value_1 23 rfl rfl)
theorem dX3_value_48 : decode cX3_value 48 = .ok (.invokestatic 270, 3) := dk_184 1 14 (dk_at dksX3_value_2 0 rfl rfl)
theorem dX3_value_51 : decode cX3_value 51 = .ok (.invokevirtual 238, 3) := dk_182 0 238 (dk_at dksX3_value_2 3 rfl rfl)
theorem dX3_value_54 : decode cX3_value 54 = .ok (.ifCond .ne 9, 3) := dk_154 0 9 (dk_at dksX3_value_2 6 rfl rfl)
theorem dX3_value_57 : decode cX3_value 57 = .ok (.iinc 2 1, 3) := dk_132 2 1 (dk_at dksX3_value_2 9 rfl rfl)
theorem dX3_value_60 : decode cX3_value 60 = .ok (.goto (-22), 3) := dk_167 255 234 (dk_at dksX3_value_2 12 rfl rfl)
theorem dX3_value_63 : decode cX3_value 63 = .ok (.iload_n 2, 1) := dk_28 (dk_at dksX3_value_2 15 rfl rfl)
theorem dX3_value_64 : decode cX3_value 64 = .ok (.aload_n 0, 1) := dk_42 (dk_at dksX3_value_2 16 rfl rfl)
theorem dX3_value_65 : decode cX3_value 65 = .ok (.getfield 100, 3) := dk_180 0 100 (dk_at dksX3_value_2 17 rfl rfl)
theorem dX3_value_68 : decode cX3_value 68 = .ok (.if_icmp .ne 10, 3) := dk_160 0 10 (dk_at dksX3_value_2 20 rfl rfl)
theorem dX3_value_71 : decode cX3_value 71 = .ok (.aload_n 0, 1) := dk_42 (dk_at dksX3_value_2 23 rfl rfl)
theorem dX3_value_72 : decode cX3_value 72 = .ok (.iconst 0, 1) := dk_3 (dk_at dksX3_value_3 0 rfl rfl)
theorem dX3_value_73 : decode cX3_value 73 = .ok (.iload_n 1, 1) := dk_27 (dk_at dksX3_value_3 1 rfl rfl)
theorem dX3_value_74 : decode cX3_value 74 = .ok (.invokevirtual 251, 3) := dk_182 0 251 (dk_at dksX3_value_3 2 rfl rfl)
theorem dX3_value_77 : decode cX3_value 77 = .ok (.return_, 1) := dk_177 (dk_at dksX3_value_3 5 rfl rfl)
theorem dX3_value_78 : decode cX3_value 78 = .ok (.aload_n 0, 1) := dk_42 (dk_at dksX3_value_3 6 rfl rfl)
theorem dX3_value_79 : decode cX3_value 79 = .ok (.iload_n 1, 1) := dk_27 (dk_at dksX3_value_3 7 rfl rfl)
theorem dX3_value_80 : decode cX3_value 80 = .ok (.invokevirtual 264, 3) := dk_182 1 8 (dk_at dksX3_value_3 8 rfl rfl)
theorem dX3_value_83 : decode cX3_value 83 = .ok (.aload_n 0, 1) := dk_42 (dk_at dksX3_value_3 11 rfl rfl)
theorem dX3_value_84 : decode cX3_value 84 = .ok (.dup, 1) := dk_89 (dk_at dksX3_value_3 12 rfl rfl)
theorem dX3_value_85 : decode cX3_value 85 = .ok (.getfield 215, 3) := dk_180 0 215 (dk_at dksX3_value_3 13 rfl rfl)
theorem dX3_value_88 : decode cX3_value 88 = .ok (.iload_n 2, 1) := dk_28 (dk_at dksX3_value_3 16 rfl rfl)
theorem dX3_value_89 : decode cX3_value 89 = .ok (.invokestatic 270, 3) := dk_184 1 14 (dk_at dksX3_value_3 17 rfl rfl)
theorem dX3_value_92 : decode cX3_value 92 = .ok (.invokevirtual 226, 3) := dk_182 0 226 (dk_at dksX3_value_3 20 rfl rfl)
theorem dX3_value_95 : decode cX3_value 95 = .ok (.iadd, 1) := dk_96 (dk_at dksX3_value_3 23 rfl rfl)
theorem dX3_value_96 : decode cX3_value 96 = .ok (.putfield 215, 3) := dk_181 0 215 (dk_at dksX3_value_4 0 rfl rfl)
theorem dX3_value_99 : decode cX3_value 99 = .ok (.aload_n 0, 1) := dk_42 (dk_at dksX3_value_4 3 rfl rfl)
theorem dX3_value_100 : decode cX3_value 100 = .ok (.iconst 1, 1) := dk_4 (dk_at dksX3_value_4 4 rfl rfl)
theorem dX3_value_101 : decode cX3_value 101 = .ok (.iload_n 2, 1) := dk_28 (dk_at dksX3_value_4 5 rfl rfl)
theorem dX3_value_102 : decode cX3_value 102 = .ok (.invokevirtual 267, 3) := dk_182 1 11 (dk_at dksX3_value_4 6 rfl rfl)
theorem dX3_value_105 : decode cX3_value 105 = .ok (.return_, 1) := dk_177 (dk_at dksX3_value_4 9 rfl rfl)
abbrev cX3_isCounted : ByteArray := prog_17_method_23_code
def yX3_isCounted : MethodName := ⟨RX3, "isCounted", "(I)V"⟩
def dkwX3_isCounted_1 : List UInt8 := [181, 0, 248, 177]
abbrev dktX3_isCounted_1 : List UInt8 := dkwX3_isCounted_1 ++ []
def dkwX3_isCounted_0 : List UInt8 := [42, 180, 0, 248, 16, 60, 160, 0, 9, 42, 6, 27, 182, 0, 251, 42, 89, 180, 0, 248, 4, 96]
abbrev dktX3_isCounted_0 : List UInt8 := dkwX3_isCounted_0 ++ dktX3_isCounted_1
theorem dksX3_isCounted_0 : cX3_isCounted.data.toList.drop 0 = dktX3_isCounted_0 := by decide +kernel
theorem dksX3_isCounted_1 : cX3_isCounted.data.toList.drop 22 = dktX3_isCounted_1 := dk_seg dksX3_isCounted_0 22 rfl rfl
theorem dX3_isCounted_0 : decode cX3_isCounted 0 = .ok (.aload_n 0, 1) := dk_42 (dk_at dksX3_isCounted_0 0 rfl rfl)
theorem dX3_isCounted_1 : decode cX3_isCounted 1 = .ok (.getfield 248, 3) := dk_180 0 248 (dk_at dksX3_isCounted_0 1 rfl rfl)
theorem dX3_isCounted_4 : decode cX3_isCounted 4 = .ok (.bipush 60, 2) := dk_16 60 (dk_at dksX3_isCounted_0 4 rfl rfl)
theorem dX3_isCounted_6 : decode cX3_isCounted 6 = .ok (.if_icmp .ne 9, 3) := dk_160 0 9 (dk_at dksX3_isCounted_0 6 rfl rfl)
theorem dX3_isCounted_9 : decode cX3_isCounted 9 = .ok (.aload_n 0, 1) := dk_42 (dk_at dksX3_isCounted_0 9 rfl rfl)
theorem dX3_isCounted_10 : decode cX3_isCounted 10 = .ok (.iconst 3, 1) := dk_6 (dk_at dksX3_isCounted_0 10 rfl rfl)
theorem dX3_isCounted_11 : decode cX3_isCounted 11 = .ok (.iload_n 1, 1) := dk_27 (dk_at dksX3_isCounted_0 11 rfl rfl)
theorem dX3_isCounted_12 : decode cX3_isCounted 12 = .ok (.invokevirtual 251, 3) := dk_182 0 251 (dk_at dksX3_isCounted_0 12 rfl rfl)
theorem dX3_isCounted_15 : decode cX3_isCounted 15 = .ok (.aload_n 0, 1) := dk_42 (dk_at dksX3_isCounted_0 15 rfl rfl)
theorem dX3_isCounted_16 : decode cX3_isCounted 16 = .ok (.dup, 1) := dk_89 (dk_at dksX3_isCounted_0 16 rfl rfl)
theorem dX3_isCounted_17 : decode cX3_isCounted 17 = .ok (.getfield 248, 3) := dk_180 0 248 (dk_at dksX3_isCounted_0 17 rfl rfl)
theorem dX3_isCounted_20 : decode cX3_isCounted 20 = .ok (.iconst 1, 1) := dk_4 (dk_at dksX3_isCounted_0 20 rfl rfl)
theorem dX3_isCounted_21 : decode cX3_isCounted 21 = .ok (.iadd, 1) := dk_96 (dk_at dksX3_isCounted_0 21 rfl rfl)
theorem dX3_isCounted_22 : decode cX3_isCounted 22 = .ok (.putfield 248, 3) := dk_181 0 248 (dk_at dksX3_isCounted_1 0 rfl rfl)
theorem dX3_isCounted_25 : decode cX3_isCounted 25 = .ok (.return_, 1) := dk_177 (dk_at dksX3_isCounted_1 3 rfl rfl)
abbrev cX3_entry : ByteArray := prog_17_method_22_code
def yX3_entry : MethodName := ⟨RX3, "entry", "(II)V"⟩
def dkwX3_entry_2 : List UInt8 := [180, 0, 245, 4, 96, 181, 0, 245, 177]
abbrev dktX3_entry_2 : List UInt8 := dkwX3_entry_2 ++ []
def dkwX3_entry_1 : List UInt8 := [27, 79, 42, 180, 0, 111, 17, 1, 44, 42, 180, 0, 242, 104, 42, 180, 0, 245, 96, 28, 79, 42, 89]
abbrev dktX3_entry_1 : List UInt8 := dkwX3_entry_1 ++ dktX3_entry_2
def dkwX3_entry_0 : List UInt8 := [42, 180, 0, 212, 154, 0, 51, 42, 180, 0, 108, 17, 1, 44, 42, 180, 0, 242, 104, 42, 180, 0, 245, 96]
abbrev dktX3_entry_0 : List UInt8 := dkwX3_entry_0 ++ dktX3_entry_1
theorem dksX3_entry_0 : cX3_entry.data.toList.drop 0 = dktX3_entry_0 := by decide +kernel
theorem dksX3_entry_1 : cX3_entry.data.toList.drop 24 = dktX3_entry_1 := dk_seg dksX3_entry_0 24 rfl rfl
theorem dksX3_entry_2 : cX3_entry.data.toList.drop 47 = dktX3_entry_2 := dk_seg dksX3_entry_1 23 rfl rfl
theorem dX3_entry_0 : decode cX3_entry 0 = .ok (.aload_n 0, 1) := dk_42 (dk_at dksX3_entry_0 0 rfl rfl)
theorem dX3_entry_1 : decode cX3_entry 1 = .ok (.getfield 212, 3) := dk_180 0 212 (dk_at dksX3_entry_0 1 rfl rfl)
theorem dX3_entry_4 : decode cX3_entry 4 = .ok (.ifCond .ne 51, 3) := dk_154 0 51 (dk_at dksX3_entry_0 4 rfl rfl)
theorem dX3_entry_7 : decode cX3_entry 7 = .ok (.aload_n 0, 1) := dk_42 (dk_at dksX3_entry_0 7 rfl rfl)
theorem dX3_entry_8 : decode cX3_entry 8 = .ok (.getfield 108, 3) := dk_180 0 108 (dk_at dksX3_entry_0 8 rfl rfl)
theorem dX3_entry_11 : decode cX3_entry 11 = .ok (.sipush 300, 3) := dk_17 1 44 (dk_at dksX3_entry_0 11 rfl rfl)
theorem dX3_entry_14 : decode cX3_entry 14 = .ok (.aload_n 0, 1) := dk_42 (dk_at dksX3_entry_0 14 rfl rfl)
theorem dX3_entry_15 : decode cX3_entry 15 = .ok (.getfield 242, 3) := dk_180 0 242 (dk_at dksX3_entry_0 15 rfl rfl)
theorem dX3_entry_18 : decode cX3_entry 18 = .ok (.imul, 1) := dk_104 (dk_at dksX3_entry_0 18 rfl rfl)
theorem dX3_entry_19 : decode cX3_entry 19 = .ok (.aload_n 0, 1) := dk_42 (dk_at dksX3_entry_0 19 rfl rfl)
theorem dX3_entry_20 : decode cX3_entry 20 = .ok (.getfield 245, 3) := dk_180 0 245 (dk_at dksX3_entry_0 20 rfl rfl)
theorem dX3_entry_23 : decode cX3_entry 23 = .ok (.iadd, 1) := dk_96 (dk_at dksX3_entry_0 23 rfl rfl)
theorem dX3_entry_24 : decode cX3_entry 24 = .ok (.iload_n 1, 1) := dk_27 (dk_at dksX3_entry_1 0 rfl rfl)
theorem dX3_entry_25 : decode cX3_entry 25 = .ok (.iastore, 1) := dk_79 (dk_at dksX3_entry_1 1 rfl rfl)
theorem dX3_entry_26 : decode cX3_entry 26 = .ok (.aload_n 0, 1) := dk_42 (dk_at dksX3_entry_1 2 rfl rfl)
theorem dX3_entry_27 : decode cX3_entry 27 = .ok (.getfield 111, 3) := dk_180 0 111 (dk_at dksX3_entry_1 3 rfl rfl)
theorem dX3_entry_30 : decode cX3_entry 30 = .ok (.sipush 300, 3) := dk_17 1 44 (dk_at dksX3_entry_1 6 rfl rfl)
theorem dX3_entry_33 : decode cX3_entry 33 = .ok (.aload_n 0, 1) := dk_42 (dk_at dksX3_entry_1 9 rfl rfl)
theorem dX3_entry_34 : decode cX3_entry 34 = .ok (.getfield 242, 3) := dk_180 0 242 (dk_at dksX3_entry_1 10 rfl rfl)
theorem dX3_entry_37 : decode cX3_entry 37 = .ok (.imul, 1) := dk_104 (dk_at dksX3_entry_1 13 rfl rfl)
theorem dX3_entry_38 : decode cX3_entry 38 = .ok (.aload_n 0, 1) := dk_42 (dk_at dksX3_entry_1 14 rfl rfl)
theorem dX3_entry_39 : decode cX3_entry 39 = .ok (.getfield 245, 3) := dk_180 0 245 (dk_at dksX3_entry_1 15 rfl rfl)
theorem dX3_entry_42 : decode cX3_entry 42 = .ok (.iadd, 1) := dk_96 (dk_at dksX3_entry_1 18 rfl rfl)
theorem dX3_entry_43 : decode cX3_entry 43 = .ok (.iload_n 2, 1) := dk_28 (dk_at dksX3_entry_1 19 rfl rfl)
theorem dX3_entry_44 : decode cX3_entry 44 = .ok (.iastore, 1) := dk_79 (dk_at dksX3_entry_1 20 rfl rfl)
theorem dX3_entry_45 : decode cX3_entry 45 = .ok (.aload_n 0, 1) := dk_42 (dk_at dksX3_entry_1 21 rfl rfl)
theorem dX3_entry_46 : decode cX3_entry 46 = .ok (.dup, 1) := dk_89 (dk_at dksX3_entry_1 22 rfl rfl)
theorem dX3_entry_47 : decode cX3_entry 47 = .ok (.getfield 245, 3) := dk_180 0 245 (dk_at dksX3_entry_2 0 rfl rfl)
theorem dX3_entry_50 : decode cX3_entry 50 = .ok (.iconst 1, 1) := dk_4 (dk_at dksX3_entry_2 3 rfl rfl)
theorem dX3_entry_51 : decode cX3_entry 51 = .ok (.iadd, 1) := dk_96 (dk_at dksX3_entry_2 4 rfl rfl)
theorem dX3_entry_52 : decode cX3_entry 52 = .ok (.putfield 245, 3) := dk_181 0 245 (dk_at dksX3_entry_2 5 rfl rfl)
theorem dX3_entry_55 : decode cX3_entry 55 = .ok (.return_, 1) := dk_177 (dk_at dksX3_entry_2 8 rfl rfl)
abbrev cX3_wordOf : ByteArray := prog_17_method_15_code
def yX3_wordOf : MethodName := ⟨RX3, "wordOf", "(I)Ljava/lang/String;"⟩
def dkwX3_wordOf_3 : List UInt8 := [18, 205, 176, 18, 207, 176, 18, 209, 176, 18, 210, 176]
abbrev dktX3_wordOf_3 : List UInt8 := dkwX3_wordOf_3 ++ []
def dkwX3_wordOf_2 : List UInt8 := [18, 191, 176, 18, 193, 176, 18, 195, 176, 18, 197, 176, 18, 198, 176, 18, 199, 176, 18, 201, 176, 18, 203, 176]
abbrev dktX3_wordOf_2 : List UInt8 := dkwX3_wordOf_2 ++ dktX3_wordOf_3
def dkwX3_wordOf_1 : List UInt8 := [170, 0, 0, 0, 0, 0, 92, 0, 0, 0, 0, 0, 0, 0, 10, 0, 0, 0, 59, 0, 0, 0, 62, 0, 0, 0, 65, 0, 0, 0, 68, 0, 0, 0, 71, 0, 0, 0, 74, 0, 0, 0, 77, 0, 0, 0, 80, 0, 0, 0, 83, 0, 0, 0, 86, 0, 0, 0, 89]
abbrev dktX3_wordOf_1 : List UInt8 := dkwX3_wordOf_1 ++ dktX3_wordOf_2
def dkwX3_wordOf_0 : List UInt8 := [26]
abbrev dktX3_wordOf_0 : List UInt8 := dkwX3_wordOf_0 ++ dktX3_wordOf_1
theorem dksX3_wordOf_0 : cX3_wordOf.data.toList.drop 0 = dktX3_wordOf_0 := by decide +kernel
theorem dksX3_wordOf_1 : cX3_wordOf.data.toList.drop 1 = dktX3_wordOf_1 := dk_seg dksX3_wordOf_0 1 rfl rfl
theorem dksX3_wordOf_2 : cX3_wordOf.data.toList.drop 60 = dktX3_wordOf_2 := dk_seg dksX3_wordOf_1 59 rfl rfl
theorem dksX3_wordOf_3 : cX3_wordOf.data.toList.drop 84 = dktX3_wordOf_3 := dk_seg dksX3_wordOf_2 24 rfl rfl
theorem dX3_wordOf_0 : decode cX3_wordOf 0 = .ok (.iload_n 0, 1) := dk_26 (dk_at dksX3_wordOf_0 0 rfl rfl)
theorem dX3_wordOf_1 : decode cX3_wordOf 1 = .ok (.tableswitch 92 0 10 #[59, 62, 65, 68, 71, 74, 77, 80, 83, 86, 89], 59) := by decide +kernel
theorem dX3_wordOf_60 : decode cX3_wordOf 60 = .ok (.ldc 191, 2) := dk_18 191 (dk_at dksX3_wordOf_2 0 rfl rfl)
theorem dX3_wordOf_62 : decode cX3_wordOf 62 = .ok (.areturn, 1) := dk_176 (dk_at dksX3_wordOf_2 2 rfl rfl)
theorem dX3_wordOf_63 : decode cX3_wordOf 63 = .ok (.ldc 193, 2) := dk_18 193 (dk_at dksX3_wordOf_2 3 rfl rfl)
theorem dX3_wordOf_65 : decode cX3_wordOf 65 = .ok (.areturn, 1) := dk_176 (dk_at dksX3_wordOf_2 5 rfl rfl)
theorem dX3_wordOf_66 : decode cX3_wordOf 66 = .ok (.ldc 195, 2) := dk_18 195 (dk_at dksX3_wordOf_2 6 rfl rfl)
theorem dX3_wordOf_68 : decode cX3_wordOf 68 = .ok (.areturn, 1) := dk_176 (dk_at dksX3_wordOf_2 8 rfl rfl)
theorem dX3_wordOf_69 : decode cX3_wordOf 69 = .ok (.ldc 197, 2) := dk_18 197 (dk_at dksX3_wordOf_2 9 rfl rfl)
theorem dX3_wordOf_71 : decode cX3_wordOf 71 = .ok (.areturn, 1) := dk_176 (dk_at dksX3_wordOf_2 11 rfl rfl)
theorem dX3_wordOf_72 : decode cX3_wordOf 72 = .ok (.ldc 198, 2) := dk_18 198 (dk_at dksX3_wordOf_2 12 rfl rfl)
theorem dX3_wordOf_74 : decode cX3_wordOf 74 = .ok (.areturn, 1) := dk_176 (dk_at dksX3_wordOf_2 14 rfl rfl)
theorem dX3_wordOf_75 : decode cX3_wordOf 75 = .ok (.ldc 199, 2) := dk_18 199 (dk_at dksX3_wordOf_2 15 rfl rfl)
theorem dX3_wordOf_77 : decode cX3_wordOf 77 = .ok (.areturn, 1) := dk_176 (dk_at dksX3_wordOf_2 17 rfl rfl)
theorem dX3_wordOf_78 : decode cX3_wordOf 78 = .ok (.ldc 201, 2) := dk_18 201 (dk_at dksX3_wordOf_2 18 rfl rfl)
theorem dX3_wordOf_80 : decode cX3_wordOf 80 = .ok (.areturn, 1) := dk_176 (dk_at dksX3_wordOf_2 20 rfl rfl)
theorem dX3_wordOf_81 : decode cX3_wordOf 81 = .ok (.ldc 203, 2) := dk_18 203 (dk_at dksX3_wordOf_2 21 rfl rfl)
theorem dX3_wordOf_83 : decode cX3_wordOf 83 = .ok (.areturn, 1) := dk_176 (dk_at dksX3_wordOf_2 23 rfl rfl)
theorem dX3_wordOf_84 : decode cX3_wordOf 84 = .ok (.ldc 205, 2) := dk_18 205 (dk_at dksX3_wordOf_3 0 rfl rfl)
theorem dX3_wordOf_86 : decode cX3_wordOf 86 = .ok (.areturn, 1) := dk_176 (dk_at dksX3_wordOf_3 2 rfl rfl)
theorem dX3_wordOf_87 : decode cX3_wordOf 87 = .ok (.ldc 207, 2) := dk_18 207 (dk_at dksX3_wordOf_3 3 rfl rfl)
theorem dX3_wordOf_89 : decode cX3_wordOf 89 = .ok (.areturn, 1) := dk_176 (dk_at dksX3_wordOf_3 5 rfl rfl)
theorem dX3_wordOf_90 : decode cX3_wordOf 90 = .ok (.ldc 209, 2) := dk_18 209 (dk_at dksX3_wordOf_3 6 rfl rfl)
theorem dX3_wordOf_92 : decode cX3_wordOf 92 = .ok (.areturn, 1) := dk_176 (dk_at dksX3_wordOf_3 8 rfl rfl)
theorem dX3_wordOf_93 : decode cX3_wordOf 93 = .ok (.ldc 210, 2) := dk_18 210 (dk_at dksX3_wordOf_3 9 rfl rfl)
theorem dX3_wordOf_95 : decode cX3_wordOf 95 = .ok (.areturn, 1) := dk_176 (dk_at dksX3_wordOf_3 11 rfl rfl)
abbrev cX3_takes : ByteArray := prog_17_method_21_code
def yX3_takes : MethodName := ⟨RX3, "takes", "(Ljava/lang/String;)Z"⟩
def dkwX3_takes_1 : List UInt8 := [167, 0, 4, 3, 96, 181, 0, 215, 28, 172]
abbrev dktX3_takes_1 : List UInt8 := dkwX3_takes_1 ++ []
def dkwX3_takes_0 : List UInt8 := [42, 182, 0, 235, 42, 43, 182, 0, 238, 61, 42, 89, 180, 0, 215, 28, 153, 0, 10, 43, 182, 0, 226]
abbrev dktX3_takes_0 : List UInt8 := dkwX3_takes_0 ++ dktX3_takes_1
theorem dksX3_takes_0 : cX3_takes.data.toList.drop 0 = dktX3_takes_0 := by decide +kernel
theorem dksX3_takes_1 : cX3_takes.data.toList.drop 23 = dktX3_takes_1 := dk_seg dksX3_takes_0 23 rfl rfl
theorem dX3_takes_0 : decode cX3_takes 0 = .ok (.aload_n 0, 1) := dk_42 (dk_at dksX3_takes_0 0 rfl rfl)
theorem dX3_takes_1 : decode cX3_takes 1 = .ok (.invokevirtual 235, 3) := dk_182 0 235 (dk_at dksX3_takes_0 1 rfl rfl)
theorem dX3_takes_4 : decode cX3_takes 4 = .ok (.aload_n 0, 1) := dk_42 (dk_at dksX3_takes_0 4 rfl rfl)
theorem dX3_takes_5 : decode cX3_takes 5 = .ok (.aload_n 1, 1) := dk_43 (dk_at dksX3_takes_0 5 rfl rfl)
theorem dX3_takes_6 : decode cX3_takes 6 = .ok (.invokevirtual 238, 3) := dk_182 0 238 (dk_at dksX3_takes_0 6 rfl rfl)
theorem dX3_takes_9 : decode cX3_takes 9 = .ok (.istore_n 2, 1) := dk_61 (dk_at dksX3_takes_0 9 rfl rfl)
theorem dX3_takes_10 : decode cX3_takes 10 = .ok (.aload_n 0, 1) := dk_42 (dk_at dksX3_takes_0 10 rfl rfl)
theorem dX3_takes_11 : decode cX3_takes 11 = .ok (.dup, 1) := dk_89 (dk_at dksX3_takes_0 11 rfl rfl)
theorem dX3_takes_12 : decode cX3_takes 12 = .ok (.getfield 215, 3) := dk_180 0 215 (dk_at dksX3_takes_0 12 rfl rfl)
theorem dX3_takes_15 : decode cX3_takes 15 = .ok (.iload_n 2, 1) := dk_28 (dk_at dksX3_takes_0 15 rfl rfl)
theorem dX3_takes_16 : decode cX3_takes 16 = .ok (.ifCond .eq 10, 3) := dk_153 0 10 (dk_at dksX3_takes_0 16 rfl rfl)
theorem dX3_takes_19 : decode cX3_takes 19 = .ok (.aload_n 1, 1) := dk_43 (dk_at dksX3_takes_0 19 rfl rfl)
theorem dX3_takes_20 : decode cX3_takes 20 = .ok (.invokevirtual 226, 3) := dk_182 0 226 (dk_at dksX3_takes_0 20 rfl rfl)
theorem dX3_takes_23 : decode cX3_takes 23 = .ok (.goto 4, 3) := dk_167 0 4 (dk_at dksX3_takes_1 0 rfl rfl)
theorem dX3_takes_26 : decode cX3_takes 26 = .ok (.iconst 0, 1) := dk_3 (dk_at dksX3_takes_1 3 rfl rfl)
theorem dX3_takes_27 : decode cX3_takes 27 = .ok (.iadd, 1) := dk_96 (dk_at dksX3_takes_1 4 rfl rfl)
theorem dX3_takes_28 : decode cX3_takes 28 = .ok (.putfield 215, 3) := dk_181 0 215 (dk_at dksX3_takes_1 5 rfl rfl)
theorem dX3_takes_31 : decode cX3_takes 31 = .ok (.iload_n 2, 1) := dk_28 (dk_at dksX3_takes_1 8 rfl rfl)
theorem dX3_takes_32 : decode cX3_takes 32 = .ok (.ireturn, 1) := dk_172 (dk_at dksX3_takes_1 9 rfl rfl)
abbrev cX3_test : ByteArray := prog_17_method_33_code
def yX3_test : MethodName := ⟨RX3, "test", "()V"⟩
def dkwX3_test_8 : List UInt8 := [4, 100, 181, 1, 30, 167, 0, 5, 3, 61, 167, 255, 66, 177]
abbrev dktX3_test_8 : List UInt8 := dkwX3_test_8 ++ []
def dkwX3_test_7 : List UInt8 := [89, 180, 0, 215, 4, 96, 181, 0, 215, 42, 89, 180, 1, 27, 4, 100, 181, 1, 27, 42, 89, 180, 1, 30]
abbrev dktX3_test_7 : List UInt8 := dkwX3_test_7 ++ dktX3_test_8
def dkwX3_test_6 : List UInt8 := [16, 12, 160, 0, 54, 42, 182, 0, 218, 16, 93, 159, 0, 12, 42, 3, 42, 180, 0, 215, 182, 0, 251, 42]
abbrev dktX3_test_6 : List UInt8 := dkwX3_test_6 ++ dktX3_test_7
def dkwX3_test_5 : List UInt8 := [167, 0, 4, 5, 96, 181, 0, 215, 4, 60, 167, 0, 71, 42, 16, 11, 182, 1, 47, 42, 182, 1, 33]
abbrev dktX3_test_5 : List UInt8 := dkwX3_test_5 ++ dktX3_test_6
def dkwX3_test_4 : List UInt8 := [29, 153, 0, 8, 16, 10, 167, 0, 5, 16, 11, 182, 1, 38, 42, 89, 180, 0, 215, 29, 153, 0, 7, 6]
abbrev dktX3_test_4 : List UInt8 := dkwX3_test_4 ++ dktX3_test_5
def dkwX3_test_3 : List UInt8 := [182, 1, 47, 29, 154, 0, 8, 21, 4, 153, 0, 52, 21, 4, 153, 0, 9, 42, 16, 11, 182, 1, 47, 42]
abbrev dktX3_test_3 : List UInt8 := dkwX3_test_3 ++ dktX3_test_4
def dkwX3_test_2 : List UInt8 := [182, 0, 235, 42, 19, 1, 50, 182, 0, 238, 62, 42, 19, 1, 52, 182, 0, 238, 54, 4, 42, 16, 10]
abbrev dktX3_test_2 : List UInt8 := dkwX3_test_2 ++ dktX3_test_3
def dkwX3_test_1 : List UInt8 := [42, 182, 1, 44, 154, 0, 7, 4, 167, 0, 4, 3, 60, 167, 255, 228, 42, 16, 9, 182, 1, 47, 42]
abbrev dktX3_test_1 : List UInt8 := dkwX3_test_1 ++ dktX3_test_2
def dkwX3_test_0 : List UInt8 := [42, 3, 181, 1, 27, 4, 60, 4, 61, 28, 153, 0, 192, 42, 180, 0, 212, 154, 0, 185, 27, 153, 0, 19]
abbrev dktX3_test_0 : List UInt8 := dkwX3_test_0 ++ dktX3_test_1
theorem dksX3_test_0 : cX3_test.data.toList.drop 0 = dktX3_test_0 := by decide +kernel
theorem dksX3_test_1 : cX3_test.data.toList.drop 24 = dktX3_test_1 := dk_seg dksX3_test_0 24 rfl rfl
theorem dksX3_test_2 : cX3_test.data.toList.drop 47 = dktX3_test_2 := dk_seg dksX3_test_1 23 rfl rfl
theorem dksX3_test_3 : cX3_test.data.toList.drop 70 = dktX3_test_3 := dk_seg dksX3_test_2 23 rfl rfl
theorem dksX3_test_4 : cX3_test.data.toList.drop 94 = dktX3_test_4 := dk_seg dksX3_test_3 24 rfl rfl
theorem dksX3_test_5 : cX3_test.data.toList.drop 118 = dktX3_test_5 := dk_seg dksX3_test_4 24 rfl rfl
theorem dksX3_test_6 : cX3_test.data.toList.drop 141 = dktX3_test_6 := dk_seg dksX3_test_5 23 rfl rfl
theorem dksX3_test_7 : cX3_test.data.toList.drop 165 = dktX3_test_7 := dk_seg dksX3_test_6 24 rfl rfl
theorem dksX3_test_8 : cX3_test.data.toList.drop 189 = dktX3_test_8 := dk_seg dksX3_test_7 24 rfl rfl
theorem dX3_test_0 : decode cX3_test 0 = .ok (.aload_n 0, 1) := dk_42 (dk_at dksX3_test_0 0 rfl rfl)
theorem dX3_test_1 : decode cX3_test 1 = .ok (.iconst 0, 1) := dk_3 (dk_at dksX3_test_0 1 rfl rfl)
theorem dX3_test_2 : decode cX3_test 2 = .ok (.putfield 283, 3) := dk_181 1 27 (dk_at dksX3_test_0 2 rfl rfl)
theorem dX3_test_5 : decode cX3_test 5 = .ok (.iconst 1, 1) := dk_4 (dk_at dksX3_test_0 5 rfl rfl)
theorem dX3_test_6 : decode cX3_test 6 = .ok (.istore_n 1, 1) := dk_60 (dk_at dksX3_test_0 6 rfl rfl)
theorem dX3_test_7 : decode cX3_test 7 = .ok (.iconst 1, 1) := dk_4 (dk_at dksX3_test_0 7 rfl rfl)
theorem dX3_test_8 : decode cX3_test 8 = .ok (.istore_n 2, 1) := dk_61 (dk_at dksX3_test_0 8 rfl rfl)
theorem dX3_test_9 : decode cX3_test 9 = .ok (.iload_n 2, 1) := dk_28 (dk_at dksX3_test_0 9 rfl rfl)
theorem dX3_test_10 : decode cX3_test 10 = .ok (.ifCond .eq 192, 3) := dk_153 0 192 (dk_at dksX3_test_0 10 rfl rfl)
theorem dX3_test_13 : decode cX3_test 13 = .ok (.aload_n 0, 1) := dk_42 (dk_at dksX3_test_0 13 rfl rfl)
theorem dX3_test_14 : decode cX3_test 14 = .ok (.getfield 212, 3) := dk_180 0 212 (dk_at dksX3_test_0 14 rfl rfl)
theorem dX3_test_17 : decode cX3_test 17 = .ok (.ifCond .ne 185, 3) := dk_154 0 185 (dk_at dksX3_test_0 17 rfl rfl)
theorem dX3_test_20 : decode cX3_test 20 = .ok (.iload_n 1, 1) := dk_27 (dk_at dksX3_test_0 20 rfl rfl)
theorem dX3_test_21 : decode cX3_test 21 = .ok (.ifCond .eq 19, 3) := dk_153 0 19 (dk_at dksX3_test_0 21 rfl rfl)
theorem dX3_test_24 : decode cX3_test 24 = .ok (.aload_n 0, 1) := dk_42 (dk_at dksX3_test_1 0 rfl rfl)
theorem dX3_test_25 : decode cX3_test 25 = .ok (.invokevirtual 300, 3) := dk_182 1 44 (dk_at dksX3_test_1 1 rfl rfl)
theorem dX3_test_28 : decode cX3_test 28 = .ok (.ifCond .ne 7, 3) := dk_154 0 7 (dk_at dksX3_test_1 4 rfl rfl)
theorem dX3_test_31 : decode cX3_test 31 = .ok (.iconst 1, 1) := dk_4 (dk_at dksX3_test_1 7 rfl rfl)
theorem dX3_test_32 : decode cX3_test 32 = .ok (.goto 4, 3) := dk_167 0 4 (dk_at dksX3_test_1 8 rfl rfl)
theorem dX3_test_35 : decode cX3_test 35 = .ok (.iconst 0, 1) := dk_3 (dk_at dksX3_test_1 11 rfl rfl)
theorem dX3_test_36 : decode cX3_test 36 = .ok (.istore_n 1, 1) := dk_60 (dk_at dksX3_test_1 12 rfl rfl)
theorem dX3_test_37 : decode cX3_test 37 = .ok (.goto (-28), 3) := dk_167 255 228 (dk_at dksX3_test_1 13 rfl rfl)
theorem dX3_test_40 : decode cX3_test 40 = .ok (.aload_n 0, 1) := dk_42 (dk_at dksX3_test_1 16 rfl rfl)
theorem dX3_test_41 : decode cX3_test 41 = .ok (.bipush 9, 2) := dk_16 9 (dk_at dksX3_test_1 17 rfl rfl)
theorem dX3_test_43 : decode cX3_test 43 = .ok (.invokevirtual 303, 3) := dk_182 1 47 (dk_at dksX3_test_1 19 rfl rfl)
theorem dX3_test_46 : decode cX3_test 46 = .ok (.aload_n 0, 1) := dk_42 (dk_at dksX3_test_1 22 rfl rfl)
theorem dX3_test_47 : decode cX3_test 47 = .ok (.invokevirtual 235, 3) := dk_182 0 235 (dk_at dksX3_test_2 0 rfl rfl)
theorem dX3_test_50 : decode cX3_test 50 = .ok (.aload_n 0, 1) := dk_42 (dk_at dksX3_test_2 3 rfl rfl)
theorem dX3_test_51 : decode cX3_test 51 = .ok (.ldc_w 306, 3) := dk_19 1 50 (dk_at dksX3_test_2 4 rfl rfl)
theorem dX3_test_54 : decode cX3_test 54 = .ok (.invokevirtual 238, 3) := dk_182 0 238 (dk_at dksX3_test_2 7 rfl rfl)
theorem dX3_test_57 : decode cX3_test 57 = .ok (.istore_n 3, 1) := dk_62 (dk_at dksX3_test_2 10 rfl rfl)
theorem dX3_test_58 : decode cX3_test 58 = .ok (.aload_n 0, 1) := dk_42 (dk_at dksX3_test_2 11 rfl rfl)
theorem dX3_test_59 : decode cX3_test 59 = .ok (.ldc_w 308, 3) := dk_19 1 52 (dk_at dksX3_test_2 12 rfl rfl)
theorem dX3_test_62 : decode cX3_test 62 = .ok (.invokevirtual 238, 3) := dk_182 0 238 (dk_at dksX3_test_2 15 rfl rfl)
theorem dX3_test_65 : decode cX3_test 65 = .ok (.istore 4, 2) := dk_54 4 (dk_at dksX3_test_2 18 rfl rfl)
theorem dX3_test_67 : decode cX3_test 67 = .ok (.aload_n 0, 1) := dk_42 (dk_at dksX3_test_2 20 rfl rfl)
theorem dX3_test_68 : decode cX3_test 68 = .ok (.bipush 10, 2) := dk_16 10 (dk_at dksX3_test_2 21 rfl rfl)
theorem dX3_test_70 : decode cX3_test 70 = .ok (.invokevirtual 303, 3) := dk_182 1 47 (dk_at dksX3_test_3 0 rfl rfl)
theorem dX3_test_73 : decode cX3_test 73 = .ok (.iload_n 3, 1) := dk_29 (dk_at dksX3_test_3 3 rfl rfl)
theorem dX3_test_74 : decode cX3_test 74 = .ok (.ifCond .ne 8, 3) := dk_154 0 8 (dk_at dksX3_test_3 4 rfl rfl)
theorem dX3_test_77 : decode cX3_test 77 = .ok (.iload 4, 2) := dk_21 4 (dk_at dksX3_test_3 7 rfl rfl)
theorem dX3_test_79 : decode cX3_test 79 = .ok (.ifCond .eq 52, 3) := dk_153 0 52 (dk_at dksX3_test_3 9 rfl rfl)
theorem dX3_test_82 : decode cX3_test 82 = .ok (.iload 4, 2) := dk_21 4 (dk_at dksX3_test_3 12 rfl rfl)
theorem dX3_test_84 : decode cX3_test 84 = .ok (.ifCond .eq 9, 3) := dk_153 0 9 (dk_at dksX3_test_3 14 rfl rfl)
theorem dX3_test_87 : decode cX3_test 87 = .ok (.aload_n 0, 1) := dk_42 (dk_at dksX3_test_3 17 rfl rfl)
theorem dX3_test_88 : decode cX3_test 88 = .ok (.bipush 11, 2) := dk_16 11 (dk_at dksX3_test_3 18 rfl rfl)
theorem dX3_test_90 : decode cX3_test 90 = .ok (.invokevirtual 303, 3) := dk_182 1 47 (dk_at dksX3_test_3 20 rfl rfl)
theorem dX3_test_93 : decode cX3_test 93 = .ok (.aload_n 0, 1) := dk_42 (dk_at dksX3_test_3 23 rfl rfl)
theorem dX3_test_94 : decode cX3_test 94 = .ok (.iload_n 3, 1) := dk_29 (dk_at dksX3_test_4 0 rfl rfl)
theorem dX3_test_95 : decode cX3_test 95 = .ok (.ifCond .eq 8, 3) := dk_153 0 8 (dk_at dksX3_test_4 1 rfl rfl)
theorem dX3_test_98 : decode cX3_test 98 = .ok (.bipush 10, 2) := dk_16 10 (dk_at dksX3_test_4 4 rfl rfl)
theorem dX3_test_100 : decode cX3_test 100 = .ok (.goto 5, 3) := dk_167 0 5 (dk_at dksX3_test_4 6 rfl rfl)
theorem dX3_test_103 : decode cX3_test 103 = .ok (.bipush 11, 2) := dk_16 11 (dk_at dksX3_test_4 9 rfl rfl)
theorem dX3_test_105 : decode cX3_test 105 = .ok (.invokevirtual 294, 3) := dk_182 1 38 (dk_at dksX3_test_4 11 rfl rfl)
theorem dX3_test_108 : decode cX3_test 108 = .ok (.aload_n 0, 1) := dk_42 (dk_at dksX3_test_4 14 rfl rfl)
theorem dX3_test_109 : decode cX3_test 109 = .ok (.dup, 1) := dk_89 (dk_at dksX3_test_4 15 rfl rfl)
theorem dX3_test_110 : decode cX3_test 110 = .ok (.getfield 215, 3) := dk_180 0 215 (dk_at dksX3_test_4 16 rfl rfl)
theorem dX3_test_113 : decode cX3_test 113 = .ok (.iload_n 3, 1) := dk_29 (dk_at dksX3_test_4 19 rfl rfl)
theorem dX3_test_114 : decode cX3_test 114 = .ok (.ifCond .eq 7, 3) := dk_153 0 7 (dk_at dksX3_test_4 20 rfl rfl)
theorem dX3_test_117 : decode cX3_test 117 = .ok (.iconst 3, 1) := dk_6 (dk_at dksX3_test_4 23 rfl rfl)
theorem dX3_test_118 : decode cX3_test 118 = .ok (.goto 4, 3) := dk_167 0 4 (dk_at dksX3_test_5 0 rfl rfl)
theorem dX3_test_121 : decode cX3_test 121 = .ok (.iconst 2, 1) := dk_5 (dk_at dksX3_test_5 3 rfl rfl)
theorem dX3_test_122 : decode cX3_test 122 = .ok (.iadd, 1) := dk_96 (dk_at dksX3_test_5 4 rfl rfl)
theorem dX3_test_123 : decode cX3_test 123 = .ok (.putfield 215, 3) := dk_181 0 215 (dk_at dksX3_test_5 5 rfl rfl)
theorem dX3_test_126 : decode cX3_test 126 = .ok (.iconst 1, 1) := dk_4 (dk_at dksX3_test_5 8 rfl rfl)
theorem dX3_test_127 : decode cX3_test 127 = .ok (.istore_n 1, 1) := dk_60 (dk_at dksX3_test_5 9 rfl rfl)
theorem dX3_test_128 : decode cX3_test 128 = .ok (.goto 71, 3) := dk_167 0 71 (dk_at dksX3_test_5 10 rfl rfl)
theorem dX3_test_131 : decode cX3_test 131 = .ok (.aload_n 0, 1) := dk_42 (dk_at dksX3_test_5 13 rfl rfl)
theorem dX3_test_132 : decode cX3_test 132 = .ok (.bipush 11, 2) := dk_16 11 (dk_at dksX3_test_5 14 rfl rfl)
theorem dX3_test_134 : decode cX3_test 134 = .ok (.invokevirtual 303, 3) := dk_182 1 47 (dk_at dksX3_test_5 16 rfl rfl)
theorem dX3_test_137 : decode cX3_test 137 = .ok (.aload_n 0, 1) := dk_42 (dk_at dksX3_test_5 19 rfl rfl)
theorem dX3_test_138 : decode cX3_test 138 = .ok (.invokevirtual 289, 3) := dk_182 1 33 (dk_at dksX3_test_5 20 rfl rfl)
theorem dX3_test_141 : decode cX3_test 141 = .ok (.bipush 12, 2) := dk_16 12 (dk_at dksX3_test_6 0 rfl rfl)
theorem dX3_test_143 : decode cX3_test 143 = .ok (.if_icmp .ne 54, 3) := dk_160 0 54 (dk_at dksX3_test_6 2 rfl rfl)
theorem dX3_test_146 : decode cX3_test 146 = .ok (.aload_n 0, 1) := dk_42 (dk_at dksX3_test_6 5 rfl rfl)
theorem dX3_test_147 : decode cX3_test 147 = .ok (.invokevirtual 218, 3) := dk_182 0 218 (dk_at dksX3_test_6 6 rfl rfl)
theorem dX3_test_150 : decode cX3_test 150 = .ok (.bipush 93, 2) := dk_16 93 (dk_at dksX3_test_6 9 rfl rfl)
theorem dX3_test_152 : decode cX3_test 152 = .ok (.if_icmp .eq 12, 3) := dk_159 0 12 (dk_at dksX3_test_6 11 rfl rfl)
theorem dX3_test_155 : decode cX3_test 155 = .ok (.aload_n 0, 1) := dk_42 (dk_at dksX3_test_6 14 rfl rfl)
theorem dX3_test_156 : decode cX3_test 156 = .ok (.iconst 0, 1) := dk_3 (dk_at dksX3_test_6 15 rfl rfl)
theorem dX3_test_157 : decode cX3_test 157 = .ok (.aload_n 0, 1) := dk_42 (dk_at dksX3_test_6 16 rfl rfl)
theorem dX3_test_158 : decode cX3_test 158 = .ok (.getfield 215, 3) := dk_180 0 215 (dk_at dksX3_test_6 17 rfl rfl)
theorem dX3_test_161 : decode cX3_test 161 = .ok (.invokevirtual 251, 3) := dk_182 0 251 (dk_at dksX3_test_6 20 rfl rfl)
theorem dX3_test_164 : decode cX3_test 164 = .ok (.aload_n 0, 1) := dk_42 (dk_at dksX3_test_6 23 rfl rfl)
theorem dX3_test_165 : decode cX3_test 165 = .ok (.dup, 1) := dk_89 (dk_at dksX3_test_7 0 rfl rfl)
theorem dX3_test_166 : decode cX3_test 166 = .ok (.getfield 215, 3) := dk_180 0 215 (dk_at dksX3_test_7 1 rfl rfl)
theorem dX3_test_169 : decode cX3_test 169 = .ok (.iconst 1, 1) := dk_4 (dk_at dksX3_test_7 4 rfl rfl)
theorem dX3_test_170 : decode cX3_test 170 = .ok (.iadd, 1) := dk_96 (dk_at dksX3_test_7 5 rfl rfl)
theorem dX3_test_171 : decode cX3_test 171 = .ok (.putfield 215, 3) := dk_181 0 215 (dk_at dksX3_test_7 6 rfl rfl)
theorem dX3_test_174 : decode cX3_test 174 = .ok (.aload_n 0, 1) := dk_42 (dk_at dksX3_test_7 9 rfl rfl)
theorem dX3_test_175 : decode cX3_test 175 = .ok (.dup, 1) := dk_89 (dk_at dksX3_test_7 10 rfl rfl)
theorem dX3_test_176 : decode cX3_test 176 = .ok (.getfield 283, 3) := dk_180 1 27 (dk_at dksX3_test_7 11 rfl rfl)
theorem dX3_test_179 : decode cX3_test 179 = .ok (.iconst 1, 1) := dk_4 (dk_at dksX3_test_7 14 rfl rfl)
theorem dX3_test_180 : decode cX3_test 180 = .ok (.isub, 1) := dk_100 (dk_at dksX3_test_7 15 rfl rfl)
theorem dX3_test_181 : decode cX3_test 181 = .ok (.putfield 283, 3) := dk_181 1 27 (dk_at dksX3_test_7 16 rfl rfl)
theorem dX3_test_184 : decode cX3_test 184 = .ok (.aload_n 0, 1) := dk_42 (dk_at dksX3_test_7 19 rfl rfl)
theorem dX3_test_185 : decode cX3_test 185 = .ok (.dup, 1) := dk_89 (dk_at dksX3_test_7 20 rfl rfl)
theorem dX3_test_186 : decode cX3_test 186 = .ok (.getfield 286, 3) := dk_180 1 30 (dk_at dksX3_test_7 21 rfl rfl)
theorem dX3_test_189 : decode cX3_test 189 = .ok (.iconst 1, 1) := dk_4 (dk_at dksX3_test_8 0 rfl rfl)
theorem dX3_test_190 : decode cX3_test 190 = .ok (.isub, 1) := dk_100 (dk_at dksX3_test_8 1 rfl rfl)
theorem dX3_test_191 : decode cX3_test 191 = .ok (.putfield 286, 3) := dk_181 1 30 (dk_at dksX3_test_8 2 rfl rfl)
theorem dX3_test_194 : decode cX3_test 194 = .ok (.goto 5, 3) := dk_167 0 5 (dk_at dksX3_test_8 5 rfl rfl)
theorem dX3_test_197 : decode cX3_test 197 = .ok (.iconst 0, 1) := dk_3 (dk_at dksX3_test_8 8 rfl rfl)
theorem dX3_test_198 : decode cX3_test 198 = .ok (.istore_n 2, 1) := dk_61 (dk_at dksX3_test_8 9 rfl rfl)
theorem dX3_test_199 : decode cX3_test 199 = .ok (.goto (-190), 3) := dk_167 255 66 (dk_at dksX3_test_8 10 rfl rfl)
theorem dX3_test_202 : decode cX3_test 202 = .ok (.return_, 1) := dk_177 (dk_at dksX3_test_8 13 rfl rfl)
abbrev cX3_fact : ByteArray := prog_17_method_32_code
def yX3_fact : MethodName := ⟨RX3, "fact", "()Z"⟩
def dkwX3_fact_2 : List UInt8 := [182, 1, 38, 42, 89, 180, 0, 215, 4, 96, 181, 0, 215, 3, 172, 42, 182, 1, 41, 4, 172]
abbrev dktX3_fact_2 : List UInt8 := dkwX3_fact_2 ++ []
def dkwX3_fact_1 : List UInt8 := [180, 0, 215, 6, 96, 181, 0, 215, 3, 172, 42, 182, 0, 218, 16, 91, 160, 0, 21, 42, 16, 12]
abbrev dktX3_fact_1 : List UInt8 := dkwX3_fact_1 ++ dktX3_fact_2
def dkwX3_fact_0 : List UInt8 := [42, 182, 0, 235, 42, 19, 1, 36, 182, 0, 238, 153, 0, 21, 42, 16, 9, 182, 1, 38, 42, 89]
abbrev dktX3_fact_0 : List UInt8 := dkwX3_fact_0 ++ dktX3_fact_1
theorem dksX3_fact_0 : cX3_fact.data.toList.drop 0 = dktX3_fact_0 := by decide +kernel
theorem dksX3_fact_1 : cX3_fact.data.toList.drop 22 = dktX3_fact_1 := dk_seg dksX3_fact_0 22 rfl rfl
theorem dksX3_fact_2 : cX3_fact.data.toList.drop 44 = dktX3_fact_2 := dk_seg dksX3_fact_1 22 rfl rfl
theorem dX3_fact_0 : decode cX3_fact 0 = .ok (.aload_n 0, 1) := dk_42 (dk_at dksX3_fact_0 0 rfl rfl)
theorem dX3_fact_1 : decode cX3_fact 1 = .ok (.invokevirtual 235, 3) := dk_182 0 235 (dk_at dksX3_fact_0 1 rfl rfl)
theorem dX3_fact_4 : decode cX3_fact 4 = .ok (.aload_n 0, 1) := dk_42 (dk_at dksX3_fact_0 4 rfl rfl)
theorem dX3_fact_5 : decode cX3_fact 5 = .ok (.ldc_w 292, 3) := dk_19 1 36 (dk_at dksX3_fact_0 5 rfl rfl)
theorem dX3_fact_8 : decode cX3_fact 8 = .ok (.invokevirtual 238, 3) := dk_182 0 238 (dk_at dksX3_fact_0 8 rfl rfl)
theorem dX3_fact_11 : decode cX3_fact 11 = .ok (.ifCond .eq 21, 3) := dk_153 0 21 (dk_at dksX3_fact_0 11 rfl rfl)
theorem dX3_fact_14 : decode cX3_fact 14 = .ok (.aload_n 0, 1) := dk_42 (dk_at dksX3_fact_0 14 rfl rfl)
theorem dX3_fact_15 : decode cX3_fact 15 = .ok (.bipush 9, 2) := dk_16 9 (dk_at dksX3_fact_0 15 rfl rfl)
theorem dX3_fact_17 : decode cX3_fact 17 = .ok (.invokevirtual 294, 3) := dk_182 1 38 (dk_at dksX3_fact_0 17 rfl rfl)
theorem dX3_fact_20 : decode cX3_fact 20 = .ok (.aload_n 0, 1) := dk_42 (dk_at dksX3_fact_0 20 rfl rfl)
theorem dX3_fact_21 : decode cX3_fact 21 = .ok (.dup, 1) := dk_89 (dk_at dksX3_fact_0 21 rfl rfl)
theorem dX3_fact_22 : decode cX3_fact 22 = .ok (.getfield 215, 3) := dk_180 0 215 (dk_at dksX3_fact_1 0 rfl rfl)
theorem dX3_fact_25 : decode cX3_fact 25 = .ok (.iconst 3, 1) := dk_6 (dk_at dksX3_fact_1 3 rfl rfl)
theorem dX3_fact_26 : decode cX3_fact 26 = .ok (.iadd, 1) := dk_96 (dk_at dksX3_fact_1 4 rfl rfl)
theorem dX3_fact_27 : decode cX3_fact 27 = .ok (.putfield 215, 3) := dk_181 0 215 (dk_at dksX3_fact_1 5 rfl rfl)
theorem dX3_fact_30 : decode cX3_fact 30 = .ok (.iconst 0, 1) := dk_3 (dk_at dksX3_fact_1 8 rfl rfl)
theorem dX3_fact_31 : decode cX3_fact 31 = .ok (.ireturn, 1) := dk_172 (dk_at dksX3_fact_1 9 rfl rfl)
theorem dX3_fact_32 : decode cX3_fact 32 = .ok (.aload_n 0, 1) := dk_42 (dk_at dksX3_fact_1 10 rfl rfl)
theorem dX3_fact_33 : decode cX3_fact 33 = .ok (.invokevirtual 218, 3) := dk_182 0 218 (dk_at dksX3_fact_1 11 rfl rfl)
theorem dX3_fact_36 : decode cX3_fact 36 = .ok (.bipush 91, 2) := dk_16 91 (dk_at dksX3_fact_1 14 rfl rfl)
theorem dX3_fact_38 : decode cX3_fact 38 = .ok (.if_icmp .ne 21, 3) := dk_160 0 21 (dk_at dksX3_fact_1 16 rfl rfl)
theorem dX3_fact_41 : decode cX3_fact 41 = .ok (.aload_n 0, 1) := dk_42 (dk_at dksX3_fact_1 19 rfl rfl)
theorem dX3_fact_42 : decode cX3_fact 42 = .ok (.bipush 12, 2) := dk_16 12 (dk_at dksX3_fact_1 20 rfl rfl)
theorem dX3_fact_44 : decode cX3_fact 44 = .ok (.invokevirtual 294, 3) := dk_182 1 38 (dk_at dksX3_fact_2 0 rfl rfl)
theorem dX3_fact_47 : decode cX3_fact 47 = .ok (.aload_n 0, 1) := dk_42 (dk_at dksX3_fact_2 3 rfl rfl)
theorem dX3_fact_48 : decode cX3_fact 48 = .ok (.dup, 1) := dk_89 (dk_at dksX3_fact_2 4 rfl rfl)
theorem dX3_fact_49 : decode cX3_fact 49 = .ok (.getfield 215, 3) := dk_180 0 215 (dk_at dksX3_fact_2 5 rfl rfl)
theorem dX3_fact_52 : decode cX3_fact 52 = .ok (.iconst 1, 1) := dk_4 (dk_at dksX3_fact_2 8 rfl rfl)
theorem dX3_fact_53 : decode cX3_fact 53 = .ok (.iadd, 1) := dk_96 (dk_at dksX3_fact_2 9 rfl rfl)
theorem dX3_fact_54 : decode cX3_fact 54 = .ok (.putfield 215, 3) := dk_181 0 215 (dk_at dksX3_fact_2 10 rfl rfl)
theorem dX3_fact_57 : decode cX3_fact 57 = .ok (.iconst 0, 1) := dk_3 (dk_at dksX3_fact_2 13 rfl rfl)
theorem dX3_fact_58 : decode cX3_fact 58 = .ok (.ireturn, 1) := dk_172 (dk_at dksX3_fact_2 14 rfl rfl)
theorem dX3_fact_59 : decode cX3_fact 59 = .ok (.aload_n 0, 1) := dk_42 (dk_at dksX3_fact_2 15 rfl rfl)
theorem dX3_fact_60 : decode cX3_fact 60 = .ok (.invokevirtual 297, 3) := dk_182 1 41 (dk_at dksX3_fact_2 16 rfl rfl)
theorem dX3_fact_63 : decode cX3_fact 63 = .ok (.iconst 1, 1) := dk_4 (dk_at dksX3_fact_2 19 rfl rfl)
theorem dX3_fact_64 : decode cX3_fact 64 = .ok (.ireturn, 1) := dk_172 (dk_at dksX3_fact_2 20 rfl rfl)
abbrev cX3_opens : ByteArray := prog_17_method_30_code
def yX3_opens : MethodName := ⟨RX3, "opens", "(I)V"⟩
def dkwX3_opens_2 : List UInt8 := [27, 79, 42, 89, 180, 1, 27, 4, 96, 181, 1, 27, 177]
abbrev dktX3_opens_2 : List UInt8 := dkwX3_opens_2 ++ []
def dkwX3_opens_1 : List UInt8 := [180, 0, 215, 182, 0, 251, 42, 89, 180, 1, 30, 4, 96, 181, 1, 30, 42, 180, 0, 126, 42, 180, 1, 27]
abbrev dktX3_opens_1 : List UInt8 := dkwX3_opens_1 ++ dktX3_opens_2
def dkwX3_opens_0 : List UInt8 := [27, 16, 9, 159, 0, 9, 27, 16, 12, 160, 0, 31, 42, 180, 1, 30, 16, 10, 160, 0, 12, 42, 5, 42]
abbrev dktX3_opens_0 : List UInt8 := dkwX3_opens_0 ++ dktX3_opens_1
theorem dksX3_opens_0 : cX3_opens.data.toList.drop 0 = dktX3_opens_0 := by decide +kernel
theorem dksX3_opens_1 : cX3_opens.data.toList.drop 24 = dktX3_opens_1 := dk_seg dksX3_opens_0 24 rfl rfl
theorem dksX3_opens_2 : cX3_opens.data.toList.drop 48 = dktX3_opens_2 := dk_seg dksX3_opens_1 24 rfl rfl
theorem dX3_opens_0 : decode cX3_opens 0 = .ok (.iload_n 1, 1) := dk_27 (dk_at dksX3_opens_0 0 rfl rfl)
theorem dX3_opens_1 : decode cX3_opens 1 = .ok (.bipush 9, 2) := dk_16 9 (dk_at dksX3_opens_0 1 rfl rfl)
theorem dX3_opens_3 : decode cX3_opens 3 = .ok (.if_icmp .eq 9, 3) := dk_159 0 9 (dk_at dksX3_opens_0 3 rfl rfl)
theorem dX3_opens_6 : decode cX3_opens 6 = .ok (.iload_n 1, 1) := dk_27 (dk_at dksX3_opens_0 6 rfl rfl)
theorem dX3_opens_7 : decode cX3_opens 7 = .ok (.bipush 12, 2) := dk_16 12 (dk_at dksX3_opens_0 7 rfl rfl)
theorem dX3_opens_9 : decode cX3_opens 9 = .ok (.if_icmp .ne 31, 3) := dk_160 0 31 (dk_at dksX3_opens_0 9 rfl rfl)
theorem dX3_opens_12 : decode cX3_opens 12 = .ok (.aload_n 0, 1) := dk_42 (dk_at dksX3_opens_0 12 rfl rfl)
theorem dX3_opens_13 : decode cX3_opens 13 = .ok (.getfield 286, 3) := dk_180 1 30 (dk_at dksX3_opens_0 13 rfl rfl)
theorem dX3_opens_16 : decode cX3_opens 16 = .ok (.bipush 10, 2) := dk_16 10 (dk_at dksX3_opens_0 16 rfl rfl)
theorem dX3_opens_18 : decode cX3_opens 18 = .ok (.if_icmp .ne 12, 3) := dk_160 0 12 (dk_at dksX3_opens_0 18 rfl rfl)
theorem dX3_opens_21 : decode cX3_opens 21 = .ok (.aload_n 0, 1) := dk_42 (dk_at dksX3_opens_0 21 rfl rfl)
theorem dX3_opens_22 : decode cX3_opens 22 = .ok (.iconst 2, 1) := dk_5 (dk_at dksX3_opens_0 22 rfl rfl)
theorem dX3_opens_23 : decode cX3_opens 23 = .ok (.aload_n 0, 1) := dk_42 (dk_at dksX3_opens_0 23 rfl rfl)
theorem dX3_opens_24 : decode cX3_opens 24 = .ok (.getfield 215, 3) := dk_180 0 215 (dk_at dksX3_opens_1 0 rfl rfl)
theorem dX3_opens_27 : decode cX3_opens 27 = .ok (.invokevirtual 251, 3) := dk_182 0 251 (dk_at dksX3_opens_1 3 rfl rfl)
theorem dX3_opens_30 : decode cX3_opens 30 = .ok (.aload_n 0, 1) := dk_42 (dk_at dksX3_opens_1 6 rfl rfl)
theorem dX3_opens_31 : decode cX3_opens 31 = .ok (.dup, 1) := dk_89 (dk_at dksX3_opens_1 7 rfl rfl)
theorem dX3_opens_32 : decode cX3_opens 32 = .ok (.getfield 286, 3) := dk_180 1 30 (dk_at dksX3_opens_1 8 rfl rfl)
theorem dX3_opens_35 : decode cX3_opens 35 = .ok (.iconst 1, 1) := dk_4 (dk_at dksX3_opens_1 11 rfl rfl)
theorem dX3_opens_36 : decode cX3_opens 36 = .ok (.iadd, 1) := dk_96 (dk_at dksX3_opens_1 12 rfl rfl)
theorem dX3_opens_37 : decode cX3_opens 37 = .ok (.putfield 286, 3) := dk_181 1 30 (dk_at dksX3_opens_1 13 rfl rfl)
theorem dX3_opens_40 : decode cX3_opens 40 = .ok (.aload_n 0, 1) := dk_42 (dk_at dksX3_opens_1 16 rfl rfl)
theorem dX3_opens_41 : decode cX3_opens 41 = .ok (.getfield 126, 3) := dk_180 0 126 (dk_at dksX3_opens_1 17 rfl rfl)
theorem dX3_opens_44 : decode cX3_opens 44 = .ok (.aload_n 0, 1) := dk_42 (dk_at dksX3_opens_1 20 rfl rfl)
theorem dX3_opens_45 : decode cX3_opens 45 = .ok (.getfield 283, 3) := dk_180 1 27 (dk_at dksX3_opens_1 21 rfl rfl)
theorem dX3_opens_48 : decode cX3_opens 48 = .ok (.iload_n 1, 1) := dk_27 (dk_at dksX3_opens_2 0 rfl rfl)
theorem dX3_opens_49 : decode cX3_opens 49 = .ok (.iastore, 1) := dk_79 (dk_at dksX3_opens_2 1 rfl rfl)
theorem dX3_opens_50 : decode cX3_opens 50 = .ok (.aload_n 0, 1) := dk_42 (dk_at dksX3_opens_2 2 rfl rfl)
theorem dX3_opens_51 : decode cX3_opens 51 = .ok (.dup, 1) := dk_89 (dk_at dksX3_opens_2 3 rfl rfl)
theorem dX3_opens_52 : decode cX3_opens 52 = .ok (.getfield 283, 3) := dk_180 1 27 (dk_at dksX3_opens_2 4 rfl rfl)
theorem dX3_opens_55 : decode cX3_opens 55 = .ok (.iconst 1, 1) := dk_4 (dk_at dksX3_opens_2 7 rfl rfl)
theorem dX3_opens_56 : decode cX3_opens 56 = .ok (.iadd, 1) := dk_96 (dk_at dksX3_opens_2 8 rfl rfl)
theorem dX3_opens_57 : decode cX3_opens 57 = .ok (.putfield 283, 3) := dk_181 1 27 (dk_at dksX3_opens_2 9 rfl rfl)
theorem dX3_opens_60 : decode cX3_opens 60 = .ok (.return_, 1) := dk_177 (dk_at dksX3_opens_2 12 rfl rfl)
abbrev cX3_compared : ByteArray := prog_17_method_28_code
def yX3_compared : MethodName := ⟨RX3, "compared", "()V"⟩
def dkwX3_compared_6 : List UInt8 := [182, 1, 11, 177]
abbrev dktX3_compared_6 : List UInt8 := dkwX3_compared_6 ++ []
def dkwX3_compared_5 : List UInt8 := [153, 0, 7, 8, 167, 0, 18, 7, 167, 0, 14, 28, 153, 0, 8, 16, 7, 167, 0, 5, 16, 8, 3]
abbrev dktX3_compared_5 : List UInt8 := dkwX3_compared_5 ++ dktX3_compared_6
def dkwX3_compared_4 : List UInt8 := [182, 1, 24, 42, 27, 16, 61, 160, 0, 8, 16, 6, 167, 0, 32, 27, 16, 60, 160, 0, 15, 28]
abbrev dktX3_compared_4 : List UInt8 := dkwX3_compared_4 ++ dktX3_compared_5
def dkwX3_compared_3 : List UInt8 := [167, 0, 4, 3, 61, 42, 89, 180, 0, 215, 28, 153, 0, 7, 4, 167, 0, 4, 3, 96, 181, 0, 215, 42]
abbrev dktX3_compared_3 : List UInt8 := dkwX3_compared_3 ++ dktX3_compared_4
def dkwX3_compared_2 : List UInt8 := [180, 0, 215, 4, 96, 181, 0, 215, 27, 16, 61, 159, 0, 16, 42, 182, 0, 218, 16, 61, 160, 0, 7, 4]
abbrev dktX3_compared_2 : List UInt8 := dkwX3_compared_2 ++ dktX3_compared_3
def dkwX3_compared_1 : List UInt8 := [159, 0, 13, 42, 3, 42, 180, 0, 215, 182, 0, 251, 177, 42, 42, 180, 0, 215, 182, 1, 8, 42, 89]
abbrev dktX3_compared_1 : List UInt8 := dkwX3_compared_1 ++ dktX3_compared_2
def dkwX3_compared_0 : List UInt8 := [42, 182, 1, 24, 42, 182, 0, 218, 60, 27, 16, 60, 159, 0, 25, 27, 16, 61, 159, 0, 19, 27, 16, 62]
abbrev dktX3_compared_0 : List UInt8 := dkwX3_compared_0 ++ dktX3_compared_1
theorem dksX3_compared_0 : cX3_compared.data.toList.drop 0 = dktX3_compared_0 := by decide +kernel
theorem dksX3_compared_1 : cX3_compared.data.toList.drop 24 = dktX3_compared_1 := dk_seg dksX3_compared_0 24 rfl rfl
theorem dksX3_compared_2 : cX3_compared.data.toList.drop 47 = dktX3_compared_2 := dk_seg dksX3_compared_1 23 rfl rfl
theorem dksX3_compared_3 : cX3_compared.data.toList.drop 71 = dktX3_compared_3 := dk_seg dksX3_compared_2 24 rfl rfl
theorem dksX3_compared_4 : cX3_compared.data.toList.drop 95 = dktX3_compared_4 := dk_seg dksX3_compared_3 24 rfl rfl
theorem dksX3_compared_5 : cX3_compared.data.toList.drop 117 = dktX3_compared_5 := dk_seg dksX3_compared_4 22 rfl rfl
theorem dksX3_compared_6 : cX3_compared.data.toList.drop 140 = dktX3_compared_6 := dk_seg dksX3_compared_5 23 rfl rfl
theorem dX3_compared_0 : decode cX3_compared 0 = .ok (.aload_n 0, 1) := dk_42 (dk_at dksX3_compared_0 0 rfl rfl)
theorem dX3_compared_1 : decode cX3_compared 1 = .ok (.invokevirtual 280, 3) := dk_182 1 24 (dk_at dksX3_compared_0 1 rfl rfl)
theorem dX3_compared_4 : decode cX3_compared 4 = .ok (.aload_n 0, 1) := dk_42 (dk_at dksX3_compared_0 4 rfl rfl)
theorem dX3_compared_5 : decode cX3_compared 5 = .ok (.invokevirtual 218, 3) := dk_182 0 218 (dk_at dksX3_compared_0 5 rfl rfl)
theorem dX3_compared_8 : decode cX3_compared 8 = .ok (.istore_n 1, 1) := dk_60 (dk_at dksX3_compared_0 8 rfl rfl)
theorem dX3_compared_9 : decode cX3_compared 9 = .ok (.iload_n 1, 1) := dk_27 (dk_at dksX3_compared_0 9 rfl rfl)
theorem dX3_compared_10 : decode cX3_compared 10 = .ok (.bipush 60, 2) := dk_16 60 (dk_at dksX3_compared_0 10 rfl rfl)
theorem dX3_compared_12 : decode cX3_compared 12 = .ok (.if_icmp .eq 25, 3) := dk_159 0 25 (dk_at dksX3_compared_0 12 rfl rfl)
theorem dX3_compared_15 : decode cX3_compared 15 = .ok (.iload_n 1, 1) := dk_27 (dk_at dksX3_compared_0 15 rfl rfl)
theorem dX3_compared_16 : decode cX3_compared 16 = .ok (.bipush 61, 2) := dk_16 61 (dk_at dksX3_compared_0 16 rfl rfl)
theorem dX3_compared_18 : decode cX3_compared 18 = .ok (.if_icmp .eq 19, 3) := dk_159 0 19 (dk_at dksX3_compared_0 18 rfl rfl)
theorem dX3_compared_21 : decode cX3_compared 21 = .ok (.iload_n 1, 1) := dk_27 (dk_at dksX3_compared_0 21 rfl rfl)
theorem dX3_compared_22 : decode cX3_compared 22 = .ok (.bipush 62, 2) := dk_16 62 (dk_at dksX3_compared_0 22 rfl rfl)
theorem dX3_compared_24 : decode cX3_compared 24 = .ok (.if_icmp .eq 13, 3) := dk_159 0 13 (dk_at dksX3_compared_1 0 rfl rfl)
theorem dX3_compared_27 : decode cX3_compared 27 = .ok (.aload_n 0, 1) := dk_42 (dk_at dksX3_compared_1 3 rfl rfl)
theorem dX3_compared_28 : decode cX3_compared 28 = .ok (.iconst 0, 1) := dk_3 (dk_at dksX3_compared_1 4 rfl rfl)
theorem dX3_compared_29 : decode cX3_compared 29 = .ok (.aload_n 0, 1) := dk_42 (dk_at dksX3_compared_1 5 rfl rfl)
theorem dX3_compared_30 : decode cX3_compared 30 = .ok (.getfield 215, 3) := dk_180 0 215 (dk_at dksX3_compared_1 6 rfl rfl)
theorem dX3_compared_33 : decode cX3_compared 33 = .ok (.invokevirtual 251, 3) := dk_182 0 251 (dk_at dksX3_compared_1 9 rfl rfl)
theorem dX3_compared_36 : decode cX3_compared 36 = .ok (.return_, 1) := dk_177 (dk_at dksX3_compared_1 12 rfl rfl)
theorem dX3_compared_37 : decode cX3_compared 37 = .ok (.aload_n 0, 1) := dk_42 (dk_at dksX3_compared_1 13 rfl rfl)
theorem dX3_compared_38 : decode cX3_compared 38 = .ok (.aload_n 0, 1) := dk_42 (dk_at dksX3_compared_1 14 rfl rfl)
theorem dX3_compared_39 : decode cX3_compared 39 = .ok (.getfield 215, 3) := dk_180 0 215 (dk_at dksX3_compared_1 15 rfl rfl)
theorem dX3_compared_42 : decode cX3_compared 42 = .ok (.invokevirtual 264, 3) := dk_182 1 8 (dk_at dksX3_compared_1 18 rfl rfl)
theorem dX3_compared_45 : decode cX3_compared 45 = .ok (.aload_n 0, 1) := dk_42 (dk_at dksX3_compared_1 21 rfl rfl)
theorem dX3_compared_46 : decode cX3_compared 46 = .ok (.dup, 1) := dk_89 (dk_at dksX3_compared_1 22 rfl rfl)
theorem dX3_compared_47 : decode cX3_compared 47 = .ok (.getfield 215, 3) := dk_180 0 215 (dk_at dksX3_compared_2 0 rfl rfl)
theorem dX3_compared_50 : decode cX3_compared 50 = .ok (.iconst 1, 1) := dk_4 (dk_at dksX3_compared_2 3 rfl rfl)
theorem dX3_compared_51 : decode cX3_compared 51 = .ok (.iadd, 1) := dk_96 (dk_at dksX3_compared_2 4 rfl rfl)
theorem dX3_compared_52 : decode cX3_compared 52 = .ok (.putfield 215, 3) := dk_181 0 215 (dk_at dksX3_compared_2 5 rfl rfl)
theorem dX3_compared_55 : decode cX3_compared 55 = .ok (.iload_n 1, 1) := dk_27 (dk_at dksX3_compared_2 8 rfl rfl)
theorem dX3_compared_56 : decode cX3_compared 56 = .ok (.bipush 61, 2) := dk_16 61 (dk_at dksX3_compared_2 9 rfl rfl)
theorem dX3_compared_58 : decode cX3_compared 58 = .ok (.if_icmp .eq 16, 3) := dk_159 0 16 (dk_at dksX3_compared_2 11 rfl rfl)
theorem dX3_compared_61 : decode cX3_compared 61 = .ok (.aload_n 0, 1) := dk_42 (dk_at dksX3_compared_2 14 rfl rfl)
theorem dX3_compared_62 : decode cX3_compared 62 = .ok (.invokevirtual 218, 3) := dk_182 0 218 (dk_at dksX3_compared_2 15 rfl rfl)
theorem dX3_compared_65 : decode cX3_compared 65 = .ok (.bipush 61, 2) := dk_16 61 (dk_at dksX3_compared_2 18 rfl rfl)
theorem dX3_compared_67 : decode cX3_compared 67 = .ok (.if_icmp .ne 7, 3) := dk_160 0 7 (dk_at dksX3_compared_2 20 rfl rfl)
theorem dX3_compared_70 : decode cX3_compared 70 = .ok (.iconst 1, 1) := dk_4 (dk_at dksX3_compared_2 23 rfl rfl)
theorem dX3_compared_71 : decode cX3_compared 71 = .ok (.goto 4, 3) := dk_167 0 4 (dk_at dksX3_compared_3 0 rfl rfl)
theorem dX3_compared_74 : decode cX3_compared 74 = .ok (.iconst 0, 1) := dk_3 (dk_at dksX3_compared_3 3 rfl rfl)
theorem dX3_compared_75 : decode cX3_compared 75 = .ok (.istore_n 2, 1) := dk_61 (dk_at dksX3_compared_3 4 rfl rfl)
theorem dX3_compared_76 : decode cX3_compared 76 = .ok (.aload_n 0, 1) := dk_42 (dk_at dksX3_compared_3 5 rfl rfl)
theorem dX3_compared_77 : decode cX3_compared 77 = .ok (.dup, 1) := dk_89 (dk_at dksX3_compared_3 6 rfl rfl)
theorem dX3_compared_78 : decode cX3_compared 78 = .ok (.getfield 215, 3) := dk_180 0 215 (dk_at dksX3_compared_3 7 rfl rfl)
theorem dX3_compared_81 : decode cX3_compared 81 = .ok (.iload_n 2, 1) := dk_28 (dk_at dksX3_compared_3 10 rfl rfl)
theorem dX3_compared_82 : decode cX3_compared 82 = .ok (.ifCond .eq 7, 3) := dk_153 0 7 (dk_at dksX3_compared_3 11 rfl rfl)
theorem dX3_compared_85 : decode cX3_compared 85 = .ok (.iconst 1, 1) := dk_4 (dk_at dksX3_compared_3 14 rfl rfl)
theorem dX3_compared_86 : decode cX3_compared 86 = .ok (.goto 4, 3) := dk_167 0 4 (dk_at dksX3_compared_3 15 rfl rfl)
theorem dX3_compared_89 : decode cX3_compared 89 = .ok (.iconst 0, 1) := dk_3 (dk_at dksX3_compared_3 18 rfl rfl)
theorem dX3_compared_90 : decode cX3_compared 90 = .ok (.iadd, 1) := dk_96 (dk_at dksX3_compared_3 19 rfl rfl)
theorem dX3_compared_91 : decode cX3_compared 91 = .ok (.putfield 215, 3) := dk_181 0 215 (dk_at dksX3_compared_3 20 rfl rfl)
theorem dX3_compared_94 : decode cX3_compared 94 = .ok (.aload_n 0, 1) := dk_42 (dk_at dksX3_compared_3 23 rfl rfl)
theorem dX3_compared_95 : decode cX3_compared 95 = .ok (.invokevirtual 280, 3) := dk_182 1 24 (dk_at dksX3_compared_4 0 rfl rfl)
theorem dX3_compared_98 : decode cX3_compared 98 = .ok (.aload_n 0, 1) := dk_42 (dk_at dksX3_compared_4 3 rfl rfl)
theorem dX3_compared_99 : decode cX3_compared 99 = .ok (.iload_n 1, 1) := dk_27 (dk_at dksX3_compared_4 4 rfl rfl)
theorem dX3_compared_100 : decode cX3_compared 100 = .ok (.bipush 61, 2) := dk_16 61 (dk_at dksX3_compared_4 5 rfl rfl)
theorem dX3_compared_102 : decode cX3_compared 102 = .ok (.if_icmp .ne 8, 3) := dk_160 0 8 (dk_at dksX3_compared_4 7 rfl rfl)
theorem dX3_compared_105 : decode cX3_compared 105 = .ok (.bipush 6, 2) := dk_16 6 (dk_at dksX3_compared_4 10 rfl rfl)
theorem dX3_compared_107 : decode cX3_compared 107 = .ok (.goto 32, 3) := dk_167 0 32 (dk_at dksX3_compared_4 12 rfl rfl)
theorem dX3_compared_110 : decode cX3_compared 110 = .ok (.iload_n 1, 1) := dk_27 (dk_at dksX3_compared_4 15 rfl rfl)
theorem dX3_compared_111 : decode cX3_compared 111 = .ok (.bipush 60, 2) := dk_16 60 (dk_at dksX3_compared_4 16 rfl rfl)
theorem dX3_compared_113 : decode cX3_compared 113 = .ok (.if_icmp .ne 15, 3) := dk_160 0 15 (dk_at dksX3_compared_4 18 rfl rfl)
theorem dX3_compared_116 : decode cX3_compared 116 = .ok (.iload_n 2, 1) := dk_28 (dk_at dksX3_compared_4 21 rfl rfl)
theorem dX3_compared_117 : decode cX3_compared 117 = .ok (.ifCond .eq 7, 3) := dk_153 0 7 (dk_at dksX3_compared_5 0 rfl rfl)
theorem dX3_compared_120 : decode cX3_compared 120 = .ok (.iconst 5, 1) := dk_8 (dk_at dksX3_compared_5 3 rfl rfl)
theorem dX3_compared_121 : decode cX3_compared 121 = .ok (.goto 18, 3) := dk_167 0 18 (dk_at dksX3_compared_5 4 rfl rfl)
theorem dX3_compared_124 : decode cX3_compared 124 = .ok (.iconst 4, 1) := dk_7 (dk_at dksX3_compared_5 7 rfl rfl)
theorem dX3_compared_125 : decode cX3_compared 125 = .ok (.goto 14, 3) := dk_167 0 14 (dk_at dksX3_compared_5 8 rfl rfl)
theorem dX3_compared_128 : decode cX3_compared 128 = .ok (.iload_n 2, 1) := dk_28 (dk_at dksX3_compared_5 11 rfl rfl)
theorem dX3_compared_129 : decode cX3_compared 129 = .ok (.ifCond .eq 8, 3) := dk_153 0 8 (dk_at dksX3_compared_5 12 rfl rfl)
theorem dX3_compared_132 : decode cX3_compared 132 = .ok (.bipush 7, 2) := dk_16 7 (dk_at dksX3_compared_5 15 rfl rfl)
theorem dX3_compared_134 : decode cX3_compared 134 = .ok (.goto 5, 3) := dk_167 0 5 (dk_at dksX3_compared_5 17 rfl rfl)
theorem dX3_compared_137 : decode cX3_compared 137 = .ok (.bipush 8, 2) := dk_16 8 (dk_at dksX3_compared_5 20 rfl rfl)
theorem dX3_compared_139 : decode cX3_compared 139 = .ok (.iconst 0, 1) := dk_3 (dk_at dksX3_compared_5 22 rfl rfl)
theorem dX3_compared_140 : decode cX3_compared 140 = .ok (.invokevirtual 267, 3) := dk_182 1 11 (dk_at dksX3_compared_6 0 rfl rfl)
theorem dX3_compared_143 : decode cX3_compared 143 = .ok (.return_, 1) := dk_177 (dk_at dksX3_compared_6 3 rfl rfl)
abbrev cX3_answers : ByteArray := prog_17_method_31_code
def yX3_answers : MethodName := ⟨RX3, "answers", "(I)V"⟩
def dkwX3_answers_2 : List UInt8 := [100, 181, 1, 30, 167, 255, 205, 177]
abbrev dktX3_answers_2 : List UInt8 := dkwX3_answers_2 ++ []
def dkwX3_answers_1 : List UInt8 := [180, 1, 27, 4, 100, 181, 1, 27, 42, 89, 180, 1, 30, 27, 16, 9, 160, 0, 7, 4, 167, 0, 4, 3]
abbrev dktX3_answers_1 : List UInt8 := dkwX3_answers_1 ++ dktX3_answers_2
def dkwX3_answers_0 : List UInt8 := [42, 182, 1, 33, 27, 160, 0, 49, 42, 180, 0, 212, 154, 0, 42, 42, 27, 3, 182, 1, 11, 42, 89]
abbrev dktX3_answers_0 : List UInt8 := dkwX3_answers_0 ++ dktX3_answers_1
theorem dksX3_answers_0 : cX3_answers.data.toList.drop 0 = dktX3_answers_0 := by decide +kernel
theorem dksX3_answers_1 : cX3_answers.data.toList.drop 23 = dktX3_answers_1 := dk_seg dksX3_answers_0 23 rfl rfl
theorem dksX3_answers_2 : cX3_answers.data.toList.drop 47 = dktX3_answers_2 := dk_seg dksX3_answers_1 24 rfl rfl
theorem dX3_answers_0 : decode cX3_answers 0 = .ok (.aload_n 0, 1) := dk_42 (dk_at dksX3_answers_0 0 rfl rfl)
theorem dX3_answers_1 : decode cX3_answers 1 = .ok (.invokevirtual 289, 3) := dk_182 1 33 (dk_at dksX3_answers_0 1 rfl rfl)
theorem dX3_answers_4 : decode cX3_answers 4 = .ok (.iload_n 1, 1) := dk_27 (dk_at dksX3_answers_0 4 rfl rfl)
theorem dX3_answers_5 : decode cX3_answers 5 = .ok (.if_icmp .ne 49, 3) := dk_160 0 49 (dk_at dksX3_answers_0 5 rfl rfl)
theorem dX3_answers_8 : decode cX3_answers 8 = .ok (.aload_n 0, 1) := dk_42 (dk_at dksX3_answers_0 8 rfl rfl)
theorem dX3_answers_9 : decode cX3_answers 9 = .ok (.getfield 212, 3) := dk_180 0 212 (dk_at dksX3_answers_0 9 rfl rfl)
theorem dX3_answers_12 : decode cX3_answers 12 = .ok (.ifCond .ne 42, 3) := dk_154 0 42 (dk_at dksX3_answers_0 12 rfl rfl)
theorem dX3_answers_15 : decode cX3_answers 15 = .ok (.aload_n 0, 1) := dk_42 (dk_at dksX3_answers_0 15 rfl rfl)
theorem dX3_answers_16 : decode cX3_answers 16 = .ok (.iload_n 1, 1) := dk_27 (dk_at dksX3_answers_0 16 rfl rfl)
theorem dX3_answers_17 : decode cX3_answers 17 = .ok (.iconst 0, 1) := dk_3 (dk_at dksX3_answers_0 17 rfl rfl)
theorem dX3_answers_18 : decode cX3_answers 18 = .ok (.invokevirtual 267, 3) := dk_182 1 11 (dk_at dksX3_answers_0 18 rfl rfl)
theorem dX3_answers_21 : decode cX3_answers 21 = .ok (.aload_n 0, 1) := dk_42 (dk_at dksX3_answers_0 21 rfl rfl)
theorem dX3_answers_22 : decode cX3_answers 22 = .ok (.dup, 1) := dk_89 (dk_at dksX3_answers_0 22 rfl rfl)
theorem dX3_answers_23 : decode cX3_answers 23 = .ok (.getfield 283, 3) := dk_180 1 27 (dk_at dksX3_answers_1 0 rfl rfl)
theorem dX3_answers_26 : decode cX3_answers 26 = .ok (.iconst 1, 1) := dk_4 (dk_at dksX3_answers_1 3 rfl rfl)
theorem dX3_answers_27 : decode cX3_answers 27 = .ok (.isub, 1) := dk_100 (dk_at dksX3_answers_1 4 rfl rfl)
theorem dX3_answers_28 : decode cX3_answers 28 = .ok (.putfield 283, 3) := dk_181 1 27 (dk_at dksX3_answers_1 5 rfl rfl)
theorem dX3_answers_31 : decode cX3_answers 31 = .ok (.aload_n 0, 1) := dk_42 (dk_at dksX3_answers_1 8 rfl rfl)
theorem dX3_answers_32 : decode cX3_answers 32 = .ok (.dup, 1) := dk_89 (dk_at dksX3_answers_1 9 rfl rfl)
theorem dX3_answers_33 : decode cX3_answers 33 = .ok (.getfield 286, 3) := dk_180 1 30 (dk_at dksX3_answers_1 10 rfl rfl)
theorem dX3_answers_36 : decode cX3_answers 36 = .ok (.iload_n 1, 1) := dk_27 (dk_at dksX3_answers_1 13 rfl rfl)
theorem dX3_answers_37 : decode cX3_answers 37 = .ok (.bipush 9, 2) := dk_16 9 (dk_at dksX3_answers_1 14 rfl rfl)
theorem dX3_answers_39 : decode cX3_answers 39 = .ok (.if_icmp .ne 7, 3) := dk_160 0 7 (dk_at dksX3_answers_1 16 rfl rfl)
theorem dX3_answers_42 : decode cX3_answers 42 = .ok (.iconst 1, 1) := dk_4 (dk_at dksX3_answers_1 19 rfl rfl)
theorem dX3_answers_43 : decode cX3_answers 43 = .ok (.goto 4, 3) := dk_167 0 4 (dk_at dksX3_answers_1 20 rfl rfl)
theorem dX3_answers_46 : decode cX3_answers 46 = .ok (.iconst 0, 1) := dk_3 (dk_at dksX3_answers_1 23 rfl rfl)
theorem dX3_answers_47 : decode cX3_answers 47 = .ok (.isub, 1) := dk_100 (dk_at dksX3_answers_2 0 rfl rfl)
theorem dX3_answers_48 : decode cX3_answers 48 = .ok (.putfield 286, 3) := dk_181 1 30 (dk_at dksX3_answers_2 1 rfl rfl)
theorem dX3_answers_51 : decode cX3_answers 51 = .ok (.goto (-51), 3) := dk_167 255 205 (dk_at dksX3_answers_2 4 rfl rfl)
theorem dX3_answers_54 : decode cX3_answers 54 = .ok (.return_, 1) := dk_177 (dk_at dksX3_answers_2 7 rfl rfl)
abbrev cX3_top : ByteArray := prog_17_method_29_code
def yX3_top : MethodName := ⟨RX3, "top", "()I"⟩
def dkwX3_top_0 : List UInt8 := [42, 180, 1, 27, 154, 0, 7, 2, 167, 0, 14, 42, 180, 0, 126, 42, 180, 1, 27, 4, 100, 46, 172]
abbrev dktX3_top_0 : List UInt8 := dkwX3_top_0 ++ []
theorem dksX3_top_0 : cX3_top.data.toList.drop 0 = dktX3_top_0 := by decide +kernel
theorem dX3_top_0 : decode cX3_top 0 = .ok (.aload_n 0, 1) := dk_42 (dk_at dksX3_top_0 0 rfl rfl)
theorem dX3_top_1 : decode cX3_top 1 = .ok (.getfield 283, 3) := dk_180 1 27 (dk_at dksX3_top_0 1 rfl rfl)
theorem dX3_top_4 : decode cX3_top 4 = .ok (.ifCond .ne 7, 3) := dk_154 0 7 (dk_at dksX3_top_0 4 rfl rfl)
theorem dX3_top_7 : decode cX3_top 7 = .ok (.iconst (-1), 1) := dk_2 (dk_at dksX3_top_0 7 rfl rfl)
theorem dX3_top_8 : decode cX3_top 8 = .ok (.goto 14, 3) := dk_167 0 14 (dk_at dksX3_top_0 8 rfl rfl)
theorem dX3_top_11 : decode cX3_top 11 = .ok (.aload_n 0, 1) := dk_42 (dk_at dksX3_top_0 11 rfl rfl)
theorem dX3_top_12 : decode cX3_top 12 = .ok (.getfield 126, 3) := dk_180 0 126 (dk_at dksX3_top_0 12 rfl rfl)
theorem dX3_top_15 : decode cX3_top 15 = .ok (.aload_n 0, 1) := dk_42 (dk_at dksX3_top_0 15 rfl rfl)
theorem dX3_top_16 : decode cX3_top 16 = .ok (.getfield 283, 3) := dk_180 1 27 (dk_at dksX3_top_0 16 rfl rfl)
theorem dX3_top_19 : decode cX3_top 19 = .ok (.iconst 1, 1) := dk_4 (dk_at dksX3_top_0 19 rfl rfl)
theorem dX3_top_20 : decode cX3_top 20 = .ok (.isub, 1) := dk_100 (dk_at dksX3_top_0 20 rfl rfl)
theorem dX3_top_21 : decode cX3_top 21 = .ok (.iaload, 1) := dk_46 (dk_at dksX3_top_0 21 rfl rfl)
theorem dX3_top_22 : decode cX3_top 22 = .ok (.ireturn, 1) := dk_172 (dk_at dksX3_top_0 22 rfl rfl)
abbrev cX3_owner : ByteArray := prog_17_method_65_code
def yX3_owner : MethodName := ⟨RX3, "owner", "(II)I"⟩
def dkwX3_owner_3 : List UInt8 := [182, 1, 140, 182, 1, 147, 62, 29, 154, 0, 7, 2, 167, 0, 7, 29, 184, 1, 165, 172, 2, 172]
abbrev dktX3_owner_3 : List UInt8 := dkwX3_owner_3 ++ []
def dkwX3_owner_2 : List UInt8 := [42, 180, 0, 13, 27, 46, 172, 42, 180, 0, 16, 27, 46, 172, 42, 180, 0, 19, 27, 46, 172, 42, 27, 42]
abbrev dktX3_owner_2 : List UInt8 := dkwX3_owner_2 ++ dktX3_owner_3
def dkwX3_owner_1 : List UInt8 := [170, 0, 0, 0, 73, 0, 0, 0, 0, 0, 0, 0, 3, 0, 0, 0, 29, 0, 0, 0, 36, 0, 0, 0, 43, 0, 0, 0, 50]
abbrev dktX3_owner_1 : List UInt8 := dkwX3_owner_1 ++ dktX3_owner_2
def dkwX3_owner_0 : List UInt8 := [42, 27, 182, 1, 162, 154, 0, 5, 2, 172, 28]
abbrev dktX3_owner_0 : List UInt8 := dkwX3_owner_0 ++ dktX3_owner_1
theorem dksX3_owner_0 : cX3_owner.data.toList.drop 0 = dktX3_owner_0 := by decide +kernel
theorem dksX3_owner_1 : cX3_owner.data.toList.drop 11 = dktX3_owner_1 := dk_seg dksX3_owner_0 11 rfl rfl
theorem dksX3_owner_2 : cX3_owner.data.toList.drop 40 = dktX3_owner_2 := dk_seg dksX3_owner_1 29 rfl rfl
theorem dksX3_owner_3 : cX3_owner.data.toList.drop 64 = dktX3_owner_3 := dk_seg dksX3_owner_2 24 rfl rfl
theorem dX3_owner_0 : decode cX3_owner 0 = .ok (.aload_n 0, 1) := dk_42 (dk_at dksX3_owner_0 0 rfl rfl)
theorem dX3_owner_1 : decode cX3_owner 1 = .ok (.iload_n 1, 1) := dk_27 (dk_at dksX3_owner_0 1 rfl rfl)
theorem dX3_owner_2 : decode cX3_owner 2 = .ok (.invokevirtual 418, 3) := dk_182 1 162 (dk_at dksX3_owner_0 2 rfl rfl)
theorem dX3_owner_5 : decode cX3_owner 5 = .ok (.ifCond .ne 5, 3) := dk_154 0 5 (dk_at dksX3_owner_0 5 rfl rfl)
theorem dX3_owner_8 : decode cX3_owner 8 = .ok (.iconst (-1), 1) := dk_2 (dk_at dksX3_owner_0 8 rfl rfl)
theorem dX3_owner_9 : decode cX3_owner 9 = .ok (.ireturn, 1) := dk_172 (dk_at dksX3_owner_0 9 rfl rfl)
theorem dX3_owner_10 : decode cX3_owner 10 = .ok (.iload_n 2, 1) := dk_28 (dk_at dksX3_owner_0 10 rfl rfl)
theorem dX3_owner_11 : decode cX3_owner 11 = .ok (.tableswitch 73 0 3 #[29, 36, 43, 50], 29) := by decide +kernel
theorem dX3_owner_40 : decode cX3_owner 40 = .ok (.aload_n 0, 1) := dk_42 (dk_at dksX3_owner_2 0 rfl rfl)
theorem dX3_owner_41 : decode cX3_owner 41 = .ok (.getfield 13, 3) := dk_180 0 13 (dk_at dksX3_owner_2 1 rfl rfl)
theorem dX3_owner_44 : decode cX3_owner 44 = .ok (.iload_n 1, 1) := dk_27 (dk_at dksX3_owner_2 4 rfl rfl)
theorem dX3_owner_45 : decode cX3_owner 45 = .ok (.iaload, 1) := dk_46 (dk_at dksX3_owner_2 5 rfl rfl)
theorem dX3_owner_46 : decode cX3_owner 46 = .ok (.ireturn, 1) := dk_172 (dk_at dksX3_owner_2 6 rfl rfl)
theorem dX3_owner_47 : decode cX3_owner 47 = .ok (.aload_n 0, 1) := dk_42 (dk_at dksX3_owner_2 7 rfl rfl)
theorem dX3_owner_48 : decode cX3_owner 48 = .ok (.getfield 16, 3) := dk_180 0 16 (dk_at dksX3_owner_2 8 rfl rfl)
theorem dX3_owner_51 : decode cX3_owner 51 = .ok (.iload_n 1, 1) := dk_27 (dk_at dksX3_owner_2 11 rfl rfl)
theorem dX3_owner_52 : decode cX3_owner 52 = .ok (.iaload, 1) := dk_46 (dk_at dksX3_owner_2 12 rfl rfl)
theorem dX3_owner_53 : decode cX3_owner 53 = .ok (.ireturn, 1) := dk_172 (dk_at dksX3_owner_2 13 rfl rfl)
theorem dX3_owner_54 : decode cX3_owner 54 = .ok (.aload_n 0, 1) := dk_42 (dk_at dksX3_owner_2 14 rfl rfl)
theorem dX3_owner_55 : decode cX3_owner 55 = .ok (.getfield 19, 3) := dk_180 0 19 (dk_at dksX3_owner_2 15 rfl rfl)
theorem dX3_owner_58 : decode cX3_owner 58 = .ok (.iload_n 1, 1) := dk_27 (dk_at dksX3_owner_2 18 rfl rfl)
theorem dX3_owner_59 : decode cX3_owner 59 = .ok (.iaload, 1) := dk_46 (dk_at dksX3_owner_2 19 rfl rfl)
theorem dX3_owner_60 : decode cX3_owner 60 = .ok (.ireturn, 1) := dk_172 (dk_at dksX3_owner_2 20 rfl rfl)
theorem dX3_owner_61 : decode cX3_owner 61 = .ok (.aload_n 0, 1) := dk_42 (dk_at dksX3_owner_2 21 rfl rfl)
theorem dX3_owner_62 : decode cX3_owner 62 = .ok (.iload_n 1, 1) := dk_27 (dk_at dksX3_owner_2 22 rfl rfl)
theorem dX3_owner_63 : decode cX3_owner 63 = .ok (.aload_n 0, 1) := dk_42 (dk_at dksX3_owner_2 23 rfl rfl)
theorem dX3_owner_64 : decode cX3_owner 64 = .ok (.invokevirtual 396, 3) := dk_182 1 140 (dk_at dksX3_owner_3 0 rfl rfl)
theorem dX3_owner_67 : decode cX3_owner 67 = .ok (.invokevirtual 403, 3) := dk_182 1 147 (dk_at dksX3_owner_3 3 rfl rfl)
theorem dX3_owner_70 : decode cX3_owner 70 = .ok (.istore_n 3, 1) := dk_62 (dk_at dksX3_owner_3 6 rfl rfl)
theorem dX3_owner_71 : decode cX3_owner 71 = .ok (.iload_n 3, 1) := dk_29 (dk_at dksX3_owner_3 7 rfl rfl)
theorem dX3_owner_72 : decode cX3_owner 72 = .ok (.ifCond .ne 7, 3) := dk_154 0 7 (dk_at dksX3_owner_3 8 rfl rfl)
theorem dX3_owner_75 : decode cX3_owner 75 = .ok (.iconst (-1), 1) := dk_2 (dk_at dksX3_owner_3 11 rfl rfl)
theorem dX3_owner_76 : decode cX3_owner 76 = .ok (.goto 7, 3) := dk_167 0 7 (dk_at dksX3_owner_3 12 rfl rfl)
theorem dX3_owner_79 : decode cX3_owner 79 = .ok (.iload_n 3, 1) := dk_29 (dk_at dksX3_owner_3 15 rfl rfl)
theorem dX3_owner_80 : decode cX3_owner 80 = .ok (.invokestatic 421, 3) := dk_184 1 165 (dk_at dksX3_owner_3 16 rfl rfl)
theorem dX3_owner_83 : decode cX3_owner 83 = .ok (.ireturn, 1) := dk_172 (dk_at dksX3_owner_3 19 rfl rfl)
theorem dX3_owner_84 : decode cX3_owner 84 = .ok (.iconst (-1), 1) := dk_2 (dk_at dksX3_owner_3 20 rfl rfl)
theorem dX3_owner_85 : decode cX3_owner 85 = .ok (.ireturn, 1) := dk_172 (dk_at dksX3_owner_3 21 rfl rfl)
abbrev cX3_isOwner : ByteArray := prog_17_method_7_code
def yX3_isOwner : MethodName := ⟨RX3, "isOwner", "(I)Z"⟩
def dkwX3_isOwner_0 : List UInt8 := [27, 133, 9, 42, 180, 0, 9, 5, 46, 4, 100, 133, 184, 0, 176, 172]
abbrev dktX3_isOwner_0 : List UInt8 := dkwX3_isOwner_0 ++ []
theorem dksX3_isOwner_0 : cX3_isOwner.data.toList.drop 0 = dktX3_isOwner_0 := by decide +kernel
theorem dX3_isOwner_0 : decode cX3_isOwner 0 = .ok (.iload_n 1, 1) := dk_27 (dk_at dksX3_isOwner_0 0 rfl rfl)
theorem dX3_isOwner_1 : decode cX3_isOwner 1 = .ok (.i2l, 1) := dk_133 (dk_at dksX3_isOwner_0 1 rfl rfl)
theorem dX3_isOwner_2 : decode cX3_isOwner 2 = .ok (.lconst 0, 1) := dk_9 (dk_at dksX3_isOwner_0 2 rfl rfl)
theorem dX3_isOwner_3 : decode cX3_isOwner 3 = .ok (.aload_n 0, 1) := dk_42 (dk_at dksX3_isOwner_0 3 rfl rfl)
theorem dX3_isOwner_4 : decode cX3_isOwner 4 = .ok (.getfield 9, 3) := dk_180 0 9 (dk_at dksX3_isOwner_0 4 rfl rfl)
theorem dX3_isOwner_7 : decode cX3_isOwner 7 = .ok (.iconst 2, 1) := dk_5 (dk_at dksX3_isOwner_0 7 rfl rfl)
theorem dX3_isOwner_8 : decode cX3_isOwner 8 = .ok (.iaload, 1) := dk_46 (dk_at dksX3_isOwner_0 8 rfl rfl)
theorem dX3_isOwner_9 : decode cX3_isOwner 9 = .ok (.iconst 1, 1) := dk_4 (dk_at dksX3_isOwner_0 9 rfl rfl)
theorem dX3_isOwner_10 : decode cX3_isOwner 10 = .ok (.isub, 1) := dk_100 (dk_at dksX3_isOwner_0 10 rfl rfl)
theorem dX3_isOwner_11 : decode cX3_isOwner 11 = .ok (.i2l, 1) := dk_133 (dk_at dksX3_isOwner_0 11 rfl rfl)
theorem dX3_isOwner_12 : decode cX3_isOwner 12 = .ok (.invokestatic 176, 3) := dk_184 0 176 (dk_at dksX3_isOwner_0 12 rfl rfl)
theorem dX3_isOwner_15 : decode cX3_isOwner 15 = .ok (.ireturn, 1) := dk_172 (dk_at dksX3_isOwner_0 15 rfl rfl)
abbrev cX3_allRopes : ByteArray := prog_17_method_55_code
def yX3_allRopes : MethodName := ⟨RX3, "allRopes", "()I"⟩
def dkwX3_allRopes_0 : List UInt8 := [4, 42, 180, 0, 9, 7, 46, 120, 4, 100, 172]
abbrev dktX3_allRopes_0 : List UInt8 := dkwX3_allRopes_0 ++ []
theorem dksX3_allRopes_0 : cX3_allRopes.data.toList.drop 0 = dktX3_allRopes_0 := by decide +kernel
theorem dX3_allRopes_0 : decode cX3_allRopes 0 = .ok (.iconst 1, 1) := dk_4 (dk_at dksX3_allRopes_0 0 rfl rfl)
theorem dX3_allRopes_1 : decode cX3_allRopes 1 = .ok (.aload_n 0, 1) := dk_42 (dk_at dksX3_allRopes_0 1 rfl rfl)
theorem dX3_allRopes_2 : decode cX3_allRopes 2 = .ok (.getfield 9, 3) := dk_180 0 9 (dk_at dksX3_allRopes_0 2 rfl rfl)
theorem dX3_allRopes_5 : decode cX3_allRopes 5 = .ok (.iconst 4, 1) := dk_7 (dk_at dksX3_allRopes_0 5 rfl rfl)
theorem dX3_allRopes_6 : decode cX3_allRopes 6 = .ok (.iaload, 1) := dk_46 (dk_at dksX3_allRopes_0 6 rfl rfl)
theorem dX3_allRopes_7 : decode cX3_allRopes 7 = .ok (.ishl, 1) := dk_120 (dk_at dksX3_allRopes_0 7 rfl rfl)
theorem dX3_allRopes_8 : decode cX3_allRopes 8 = .ok (.iconst 1, 1) := dk_4 (dk_at dksX3_allRopes_0 8 rfl rfl)
theorem dX3_allRopes_9 : decode cX3_allRopes 9 = .ok (.isub, 1) := dk_100 (dk_at dksX3_allRopes_0 9 rfl rfl)
theorem dX3_allRopes_10 : decode cX3_allRopes 10 = .ok (.ireturn, 1) := dk_172 (dk_at dksX3_allRopes_0 10 rfl rfl)
abbrev cX3_riddenBy : ByteArray := prog_17_method_59_code
def yX3_riddenBy : MethodName := ⟨RX3, "riddenBy", "(II)I"⟩
def dkwX3_riddenBy_7 : List UInt8 := [167, 255, 111, 29, 172]
abbrev dktX3_riddenBy_7 : List UInt8 := dkwX3_riddenBy_7 ++ []
def dkwX3_riddenBy_6 : List UInt8 := [167, 0, 4, 29, 62, 21, 9, 21, 4, 164, 0, 8, 21, 9, 167, 0, 5, 21, 4, 54, 4, 132, 7, 1]
abbrev dktX3_riddenBy_6 : List UInt8 := dkwX3_riddenBy_6 ++ dktX3_riddenBy_7
def dkwX3_riddenBy_5 : List UInt8 := [167, 0, 4, 3, 96, 54, 9, 132, 10, 1, 167, 255, 211, 21, 9, 21, 4, 164, 0, 8, 21, 8]
abbrev dktX3_riddenBy_5 : List UInt8 := dkwX3_riddenBy_5 ++ dktX3_riddenBy_6
def dkwX3_riddenBy_4 : List UInt8 := [21, 8, 21, 10, 184, 1, 134, 153, 0, 18, 42, 180, 0, 22, 21, 10, 46, 27, 160, 0, 7, 4]
abbrev dktX3_riddenBy_4 : List UInt8 := dkwX3_riddenBy_4 ++ dktX3_riddenBy_5
def dkwX3_riddenBy_3 : List UInt8 := [21, 8, 128, 54, 5, 3, 54, 9, 3, 54, 10, 21, 10, 42, 180, 0, 9, 6, 46, 162, 0, 40, 21, 9]
abbrev dktX3_riddenBy_3 : List UInt8 := dkwX3_riddenBy_3 ++ dktX3_riddenBy_4
def dkwX3_riddenBy_2 : List UInt8 := [21, 5, 21, 7, 184, 1, 134, 154, 0, 105, 42, 21, 7, 21, 6, 28, 182, 1, 143, 54, 8, 21, 5]
abbrev dktX3_riddenBy_2 : List UInt8 := dkwX3_riddenBy_2 ++ dktX3_riddenBy_3
def dkwX3_riddenBy_1 : List UInt8 := [46, 162, 0, 140, 42, 180, 0, 19, 27, 46, 154, 0, 131, 21, 6, 21, 7, 184, 1, 134, 153, 0, 115]
abbrev dktX3_riddenBy_1 : List UInt8 := dkwX3_riddenBy_1 ++ dktX3_riddenBy_2
def dkwX3_riddenBy_0 : List UInt8 := [3, 62, 3, 54, 4, 3, 54, 5, 42, 182, 1, 137, 54, 6, 3, 54, 7, 21, 7, 42, 180, 0, 9, 6]
abbrev dktX3_riddenBy_0 : List UInt8 := dkwX3_riddenBy_0 ++ dktX3_riddenBy_1
theorem dksX3_riddenBy_0 : cX3_riddenBy.data.toList.drop 0 = dktX3_riddenBy_0 := by decide +kernel
theorem dksX3_riddenBy_1 : cX3_riddenBy.data.toList.drop 24 = dktX3_riddenBy_1 := dk_seg dksX3_riddenBy_0 24 rfl rfl
theorem dksX3_riddenBy_2 : cX3_riddenBy.data.toList.drop 47 = dktX3_riddenBy_2 := dk_seg dksX3_riddenBy_1 23 rfl rfl
theorem dksX3_riddenBy_3 : cX3_riddenBy.data.toList.drop 70 = dktX3_riddenBy_3 := dk_seg dksX3_riddenBy_2 23 rfl rfl
theorem dksX3_riddenBy_4 : cX3_riddenBy.data.toList.drop 94 = dktX3_riddenBy_4 := dk_seg dksX3_riddenBy_3 24 rfl rfl
theorem dksX3_riddenBy_5 : cX3_riddenBy.data.toList.drop 116 = dktX3_riddenBy_5 := dk_seg dksX3_riddenBy_4 22 rfl rfl
theorem dksX3_riddenBy_6 : cX3_riddenBy.data.toList.drop 138 = dktX3_riddenBy_6 := dk_seg dksX3_riddenBy_5 22 rfl rfl
theorem dksX3_riddenBy_7 : cX3_riddenBy.data.toList.drop 162 = dktX3_riddenBy_7 := dk_seg dksX3_riddenBy_6 24 rfl rfl
theorem dX3_riddenBy_0 : decode cX3_riddenBy 0 = .ok (.iconst 0, 1) := dk_3 (dk_at dksX3_riddenBy_0 0 rfl rfl)
theorem dX3_riddenBy_1 : decode cX3_riddenBy 1 = .ok (.istore_n 3, 1) := dk_62 (dk_at dksX3_riddenBy_0 1 rfl rfl)
theorem dX3_riddenBy_2 : decode cX3_riddenBy 2 = .ok (.iconst 0, 1) := dk_3 (dk_at dksX3_riddenBy_0 2 rfl rfl)
theorem dX3_riddenBy_3 : decode cX3_riddenBy 3 = .ok (.istore 4, 2) := dk_54 4 (dk_at dksX3_riddenBy_0 3 rfl rfl)
theorem dX3_riddenBy_5 : decode cX3_riddenBy 5 = .ok (.iconst 0, 1) := dk_3 (dk_at dksX3_riddenBy_0 5 rfl rfl)
theorem dX3_riddenBy_6 : decode cX3_riddenBy 6 = .ok (.istore 5, 2) := dk_54 5 (dk_at dksX3_riddenBy_0 6 rfl rfl)
theorem dX3_riddenBy_8 : decode cX3_riddenBy 8 = .ok (.aload_n 0, 1) := dk_42 (dk_at dksX3_riddenBy_0 8 rfl rfl)
theorem dX3_riddenBy_9 : decode cX3_riddenBy 9 = .ok (.invokevirtual 393, 3) := dk_182 1 137 (dk_at dksX3_riddenBy_0 9 rfl rfl)
theorem dX3_riddenBy_12 : decode cX3_riddenBy 12 = .ok (.istore 6, 2) := dk_54 6 (dk_at dksX3_riddenBy_0 12 rfl rfl)
theorem dX3_riddenBy_14 : decode cX3_riddenBy 14 = .ok (.iconst 0, 1) := dk_3 (dk_at dksX3_riddenBy_0 14 rfl rfl)
theorem dX3_riddenBy_15 : decode cX3_riddenBy 15 = .ok (.istore 7, 2) := dk_54 7 (dk_at dksX3_riddenBy_0 15 rfl rfl)
theorem dX3_riddenBy_17 : decode cX3_riddenBy 17 = .ok (.iload 7, 2) := dk_21 7 (dk_at dksX3_riddenBy_0 17 rfl rfl)
theorem dX3_riddenBy_19 : decode cX3_riddenBy 19 = .ok (.aload_n 0, 1) := dk_42 (dk_at dksX3_riddenBy_0 19 rfl rfl)
theorem dX3_riddenBy_20 : decode cX3_riddenBy 20 = .ok (.getfield 9, 3) := dk_180 0 9 (dk_at dksX3_riddenBy_0 20 rfl rfl)
theorem dX3_riddenBy_23 : decode cX3_riddenBy 23 = .ok (.iconst 3, 1) := dk_6 (dk_at dksX3_riddenBy_0 23 rfl rfl)
theorem dX3_riddenBy_24 : decode cX3_riddenBy 24 = .ok (.iaload, 1) := dk_46 (dk_at dksX3_riddenBy_1 0 rfl rfl)
theorem dX3_riddenBy_25 : decode cX3_riddenBy 25 = .ok (.if_icmp .ge 140, 3) := dk_162 0 140 (dk_at dksX3_riddenBy_1 1 rfl rfl)
theorem dX3_riddenBy_28 : decode cX3_riddenBy 28 = .ok (.aload_n 0, 1) := dk_42 (dk_at dksX3_riddenBy_1 4 rfl rfl)
theorem dX3_riddenBy_29 : decode cX3_riddenBy 29 = .ok (.getfield 19, 3) := dk_180 0 19 (dk_at dksX3_riddenBy_1 5 rfl rfl)
theorem dX3_riddenBy_32 : decode cX3_riddenBy 32 = .ok (.iload_n 1, 1) := dk_27 (dk_at dksX3_riddenBy_1 8 rfl rfl)
theorem dX3_riddenBy_33 : decode cX3_riddenBy 33 = .ok (.iaload, 1) := dk_46 (dk_at dksX3_riddenBy_1 9 rfl rfl)
theorem dX3_riddenBy_34 : decode cX3_riddenBy 34 = .ok (.ifCond .ne 131, 3) := dk_154 0 131 (dk_at dksX3_riddenBy_1 10 rfl rfl)
theorem dX3_riddenBy_37 : decode cX3_riddenBy 37 = .ok (.iload 6, 2) := dk_21 6 (dk_at dksX3_riddenBy_1 13 rfl rfl)
theorem dX3_riddenBy_39 : decode cX3_riddenBy 39 = .ok (.iload 7, 2) := dk_21 7 (dk_at dksX3_riddenBy_1 15 rfl rfl)
theorem dX3_riddenBy_41 : decode cX3_riddenBy 41 = .ok (.invokestatic 390, 3) := dk_184 1 134 (dk_at dksX3_riddenBy_1 17 rfl rfl)
theorem dX3_riddenBy_44 : decode cX3_riddenBy 44 = .ok (.ifCond .eq 115, 3) := dk_153 0 115 (dk_at dksX3_riddenBy_1 20 rfl rfl)
theorem dX3_riddenBy_47 : decode cX3_riddenBy 47 = .ok (.iload 5, 2) := dk_21 5 (dk_at dksX3_riddenBy_2 0 rfl rfl)
theorem dX3_riddenBy_49 : decode cX3_riddenBy 49 = .ok (.iload 7, 2) := dk_21 7 (dk_at dksX3_riddenBy_2 2 rfl rfl)
theorem dX3_riddenBy_51 : decode cX3_riddenBy 51 = .ok (.invokestatic 390, 3) := dk_184 1 134 (dk_at dksX3_riddenBy_2 4 rfl rfl)
theorem dX3_riddenBy_54 : decode cX3_riddenBy 54 = .ok (.ifCond .ne 105, 3) := dk_154 0 105 (dk_at dksX3_riddenBy_2 7 rfl rfl)
theorem dX3_riddenBy_57 : decode cX3_riddenBy 57 = .ok (.aload_n 0, 1) := dk_42 (dk_at dksX3_riddenBy_2 10 rfl rfl)
theorem dX3_riddenBy_58 : decode cX3_riddenBy 58 = .ok (.iload 7, 2) := dk_21 7 (dk_at dksX3_riddenBy_2 11 rfl rfl)
theorem dX3_riddenBy_60 : decode cX3_riddenBy 60 = .ok (.iload 6, 2) := dk_21 6 (dk_at dksX3_riddenBy_2 13 rfl rfl)
theorem dX3_riddenBy_62 : decode cX3_riddenBy 62 = .ok (.iload_n 2, 1) := dk_28 (dk_at dksX3_riddenBy_2 15 rfl rfl)
theorem dX3_riddenBy_63 : decode cX3_riddenBy 63 = .ok (.invokevirtual 399, 3) := dk_182 1 143 (dk_at dksX3_riddenBy_2 16 rfl rfl)
theorem dX3_riddenBy_66 : decode cX3_riddenBy 66 = .ok (.istore 8, 2) := dk_54 8 (dk_at dksX3_riddenBy_2 19 rfl rfl)
theorem dX3_riddenBy_68 : decode cX3_riddenBy 68 = .ok (.iload 5, 2) := dk_21 5 (dk_at dksX3_riddenBy_2 21 rfl rfl)
theorem dX3_riddenBy_70 : decode cX3_riddenBy 70 = .ok (.iload 8, 2) := dk_21 8 (dk_at dksX3_riddenBy_3 0 rfl rfl)
theorem dX3_riddenBy_72 : decode cX3_riddenBy 72 = .ok (.ior, 1) := dk_128 (dk_at dksX3_riddenBy_3 2 rfl rfl)
theorem dX3_riddenBy_73 : decode cX3_riddenBy 73 = .ok (.istore 5, 2) := dk_54 5 (dk_at dksX3_riddenBy_3 3 rfl rfl)
theorem dX3_riddenBy_75 : decode cX3_riddenBy 75 = .ok (.iconst 0, 1) := dk_3 (dk_at dksX3_riddenBy_3 5 rfl rfl)
theorem dX3_riddenBy_76 : decode cX3_riddenBy 76 = .ok (.istore 9, 2) := dk_54 9 (dk_at dksX3_riddenBy_3 6 rfl rfl)
theorem dX3_riddenBy_78 : decode cX3_riddenBy 78 = .ok (.iconst 0, 1) := dk_3 (dk_at dksX3_riddenBy_3 8 rfl rfl)
theorem dX3_riddenBy_79 : decode cX3_riddenBy 79 = .ok (.istore 10, 2) := dk_54 10 (dk_at dksX3_riddenBy_3 9 rfl rfl)
theorem dX3_riddenBy_81 : decode cX3_riddenBy 81 = .ok (.iload 10, 2) := dk_21 10 (dk_at dksX3_riddenBy_3 11 rfl rfl)
theorem dX3_riddenBy_83 : decode cX3_riddenBy 83 = .ok (.aload_n 0, 1) := dk_42 (dk_at dksX3_riddenBy_3 13 rfl rfl)
theorem dX3_riddenBy_84 : decode cX3_riddenBy 84 = .ok (.getfield 9, 3) := dk_180 0 9 (dk_at dksX3_riddenBy_3 14 rfl rfl)
theorem dX3_riddenBy_87 : decode cX3_riddenBy 87 = .ok (.iconst 3, 1) := dk_6 (dk_at dksX3_riddenBy_3 17 rfl rfl)
theorem dX3_riddenBy_88 : decode cX3_riddenBy 88 = .ok (.iaload, 1) := dk_46 (dk_at dksX3_riddenBy_3 18 rfl rfl)
theorem dX3_riddenBy_89 : decode cX3_riddenBy 89 = .ok (.if_icmp .ge 40, 3) := dk_162 0 40 (dk_at dksX3_riddenBy_3 19 rfl rfl)
theorem dX3_riddenBy_92 : decode cX3_riddenBy 92 = .ok (.iload 9, 2) := dk_21 9 (dk_at dksX3_riddenBy_3 22 rfl rfl)
theorem dX3_riddenBy_94 : decode cX3_riddenBy 94 = .ok (.iload 8, 2) := dk_21 8 (dk_at dksX3_riddenBy_4 0 rfl rfl)
theorem dX3_riddenBy_96 : decode cX3_riddenBy 96 = .ok (.iload 10, 2) := dk_21 10 (dk_at dksX3_riddenBy_4 2 rfl rfl)
theorem dX3_riddenBy_98 : decode cX3_riddenBy 98 = .ok (.invokestatic 390, 3) := dk_184 1 134 (dk_at dksX3_riddenBy_4 4 rfl rfl)
theorem dX3_riddenBy_101 : decode cX3_riddenBy 101 = .ok (.ifCond .eq 18, 3) := dk_153 0 18 (dk_at dksX3_riddenBy_4 7 rfl rfl)
theorem dX3_riddenBy_104 : decode cX3_riddenBy 104 = .ok (.aload_n 0, 1) := dk_42 (dk_at dksX3_riddenBy_4 10 rfl rfl)
theorem dX3_riddenBy_105 : decode cX3_riddenBy 105 = .ok (.getfield 22, 3) := dk_180 0 22 (dk_at dksX3_riddenBy_4 11 rfl rfl)
theorem dX3_riddenBy_108 : decode cX3_riddenBy 108 = .ok (.iload 10, 2) := dk_21 10 (dk_at dksX3_riddenBy_4 14 rfl rfl)
theorem dX3_riddenBy_110 : decode cX3_riddenBy 110 = .ok (.iaload, 1) := dk_46 (dk_at dksX3_riddenBy_4 16 rfl rfl)
theorem dX3_riddenBy_111 : decode cX3_riddenBy 111 = .ok (.iload_n 1, 1) := dk_27 (dk_at dksX3_riddenBy_4 17 rfl rfl)
theorem dX3_riddenBy_112 : decode cX3_riddenBy 112 = .ok (.if_icmp .ne 7, 3) := dk_160 0 7 (dk_at dksX3_riddenBy_4 18 rfl rfl)
theorem dX3_riddenBy_115 : decode cX3_riddenBy 115 = .ok (.iconst 1, 1) := dk_4 (dk_at dksX3_riddenBy_4 21 rfl rfl)
theorem dX3_riddenBy_116 : decode cX3_riddenBy 116 = .ok (.goto 4, 3) := dk_167 0 4 (dk_at dksX3_riddenBy_5 0 rfl rfl)
theorem dX3_riddenBy_119 : decode cX3_riddenBy 119 = .ok (.iconst 0, 1) := dk_3 (dk_at dksX3_riddenBy_5 3 rfl rfl)
theorem dX3_riddenBy_120 : decode cX3_riddenBy 120 = .ok (.iadd, 1) := dk_96 (dk_at dksX3_riddenBy_5 4 rfl rfl)
theorem dX3_riddenBy_121 : decode cX3_riddenBy 121 = .ok (.istore 9, 2) := dk_54 9 (dk_at dksX3_riddenBy_5 5 rfl rfl)
theorem dX3_riddenBy_123 : decode cX3_riddenBy 123 = .ok (.iinc 10 1, 3) := dk_132 10 1 (dk_at dksX3_riddenBy_5 7 rfl rfl)
theorem dX3_riddenBy_126 : decode cX3_riddenBy 126 = .ok (.goto (-45), 3) := dk_167 255 211 (dk_at dksX3_riddenBy_5 10 rfl rfl)
theorem dX3_riddenBy_129 : decode cX3_riddenBy 129 = .ok (.iload 9, 2) := dk_21 9 (dk_at dksX3_riddenBy_5 13 rfl rfl)
theorem dX3_riddenBy_131 : decode cX3_riddenBy 131 = .ok (.iload 4, 2) := dk_21 4 (dk_at dksX3_riddenBy_5 15 rfl rfl)
theorem dX3_riddenBy_133 : decode cX3_riddenBy 133 = .ok (.if_icmp .le 8, 3) := dk_164 0 8 (dk_at dksX3_riddenBy_5 17 rfl rfl)
theorem dX3_riddenBy_136 : decode cX3_riddenBy 136 = .ok (.iload 8, 2) := dk_21 8 (dk_at dksX3_riddenBy_5 20 rfl rfl)
theorem dX3_riddenBy_138 : decode cX3_riddenBy 138 = .ok (.goto 4, 3) := dk_167 0 4 (dk_at dksX3_riddenBy_6 0 rfl rfl)
theorem dX3_riddenBy_141 : decode cX3_riddenBy 141 = .ok (.iload_n 3, 1) := dk_29 (dk_at dksX3_riddenBy_6 3 rfl rfl)
theorem dX3_riddenBy_142 : decode cX3_riddenBy 142 = .ok (.istore_n 3, 1) := dk_62 (dk_at dksX3_riddenBy_6 4 rfl rfl)
theorem dX3_riddenBy_143 : decode cX3_riddenBy 143 = .ok (.iload 9, 2) := dk_21 9 (dk_at dksX3_riddenBy_6 5 rfl rfl)
theorem dX3_riddenBy_145 : decode cX3_riddenBy 145 = .ok (.iload 4, 2) := dk_21 4 (dk_at dksX3_riddenBy_6 7 rfl rfl)
theorem dX3_riddenBy_147 : decode cX3_riddenBy 147 = .ok (.if_icmp .le 8, 3) := dk_164 0 8 (dk_at dksX3_riddenBy_6 9 rfl rfl)
theorem dX3_riddenBy_150 : decode cX3_riddenBy 150 = .ok (.iload 9, 2) := dk_21 9 (dk_at dksX3_riddenBy_6 12 rfl rfl)
theorem dX3_riddenBy_152 : decode cX3_riddenBy 152 = .ok (.goto 5, 3) := dk_167 0 5 (dk_at dksX3_riddenBy_6 14 rfl rfl)
theorem dX3_riddenBy_155 : decode cX3_riddenBy 155 = .ok (.iload 4, 2) := dk_21 4 (dk_at dksX3_riddenBy_6 17 rfl rfl)
theorem dX3_riddenBy_157 : decode cX3_riddenBy 157 = .ok (.istore 4, 2) := dk_54 4 (dk_at dksX3_riddenBy_6 19 rfl rfl)
theorem dX3_riddenBy_159 : decode cX3_riddenBy 159 = .ok (.iinc 7 1, 3) := dk_132 7 1 (dk_at dksX3_riddenBy_6 21 rfl rfl)
theorem dX3_riddenBy_162 : decode cX3_riddenBy 162 = .ok (.goto (-145), 3) := dk_167 255 111 (dk_at dksX3_riddenBy_7 0 rfl rfl)
theorem dX3_riddenBy_165 : decode cX3_riddenBy 165 = .ok (.iload_n 3, 1) := dk_29 (dk_at dksX3_riddenBy_7 3 rfl rfl)
theorem dX3_riddenBy_166 : decode cX3_riddenBy 166 = .ok (.ireturn, 1) := dk_172 (dk_at dksX3_riddenBy_7 4 rfl rfl)
abbrev cX3_afloat : ByteArray := prog_17_method_54_code
def yX3_afloat : MethodName := ⟨RX3, "afloat", "()I"⟩
def dkwX3_afloat_1 : List UInt8 := [4, 28, 120, 167, 0, 4, 3, 128, 60, 132, 2, 1, 167, 255, 224, 27, 172]
abbrev dktX3_afloat_1 : List UInt8 := dkwX3_afloat_1 ++ []
def dkwX3_afloat_0 : List UInt8 := [3, 60, 3, 61, 28, 42, 180, 0, 9, 6, 46, 162, 0, 28, 27, 42, 180, 0, 34, 28, 46, 154, 0, 9]
abbrev dktX3_afloat_0 : List UInt8 := dkwX3_afloat_0 ++ dktX3_afloat_1
theorem dksX3_afloat_0 : cX3_afloat.data.toList.drop 0 = dktX3_afloat_0 := by decide +kernel
theorem dksX3_afloat_1 : cX3_afloat.data.toList.drop 24 = dktX3_afloat_1 := dk_seg dksX3_afloat_0 24 rfl rfl
theorem dX3_afloat_0 : decode cX3_afloat 0 = .ok (.iconst 0, 1) := dk_3 (dk_at dksX3_afloat_0 0 rfl rfl)
theorem dX3_afloat_1 : decode cX3_afloat 1 = .ok (.istore_n 1, 1) := dk_60 (dk_at dksX3_afloat_0 1 rfl rfl)
theorem dX3_afloat_2 : decode cX3_afloat 2 = .ok (.iconst 0, 1) := dk_3 (dk_at dksX3_afloat_0 2 rfl rfl)
theorem dX3_afloat_3 : decode cX3_afloat 3 = .ok (.istore_n 2, 1) := dk_61 (dk_at dksX3_afloat_0 3 rfl rfl)
theorem dX3_afloat_4 : decode cX3_afloat 4 = .ok (.iload_n 2, 1) := dk_28 (dk_at dksX3_afloat_0 4 rfl rfl)
theorem dX3_afloat_5 : decode cX3_afloat 5 = .ok (.aload_n 0, 1) := dk_42 (dk_at dksX3_afloat_0 5 rfl rfl)
theorem dX3_afloat_6 : decode cX3_afloat 6 = .ok (.getfield 9, 3) := dk_180 0 9 (dk_at dksX3_afloat_0 6 rfl rfl)
theorem dX3_afloat_9 : decode cX3_afloat 9 = .ok (.iconst 3, 1) := dk_6 (dk_at dksX3_afloat_0 9 rfl rfl)
theorem dX3_afloat_10 : decode cX3_afloat 10 = .ok (.iaload, 1) := dk_46 (dk_at dksX3_afloat_0 10 rfl rfl)
theorem dX3_afloat_11 : decode cX3_afloat 11 = .ok (.if_icmp .ge 28, 3) := dk_162 0 28 (dk_at dksX3_afloat_0 11 rfl rfl)
theorem dX3_afloat_14 : decode cX3_afloat 14 = .ok (.iload_n 1, 1) := dk_27 (dk_at dksX3_afloat_0 14 rfl rfl)
theorem dX3_afloat_15 : decode cX3_afloat 15 = .ok (.aload_n 0, 1) := dk_42 (dk_at dksX3_afloat_0 15 rfl rfl)
theorem dX3_afloat_16 : decode cX3_afloat 16 = .ok (.getfield 34, 3) := dk_180 0 34 (dk_at dksX3_afloat_0 16 rfl rfl)
theorem dX3_afloat_19 : decode cX3_afloat 19 = .ok (.iload_n 2, 1) := dk_28 (dk_at dksX3_afloat_0 19 rfl rfl)
theorem dX3_afloat_20 : decode cX3_afloat 20 = .ok (.iaload, 1) := dk_46 (dk_at dksX3_afloat_0 20 rfl rfl)
theorem dX3_afloat_21 : decode cX3_afloat 21 = .ok (.ifCond .ne 9, 3) := dk_154 0 9 (dk_at dksX3_afloat_0 21 rfl rfl)
theorem dX3_afloat_24 : decode cX3_afloat 24 = .ok (.iconst 1, 1) := dk_4 (dk_at dksX3_afloat_1 0 rfl rfl)
theorem dX3_afloat_25 : decode cX3_afloat 25 = .ok (.iload_n 2, 1) := dk_28 (dk_at dksX3_afloat_1 1 rfl rfl)
theorem dX3_afloat_26 : decode cX3_afloat 26 = .ok (.ishl, 1) := dk_120 (dk_at dksX3_afloat_1 2 rfl rfl)
theorem dX3_afloat_27 : decode cX3_afloat 27 = .ok (.goto 4, 3) := dk_167 0 4 (dk_at dksX3_afloat_1 3 rfl rfl)
theorem dX3_afloat_30 : decode cX3_afloat 30 = .ok (.iconst 0, 1) := dk_3 (dk_at dksX3_afloat_1 6 rfl rfl)
theorem dX3_afloat_31 : decode cX3_afloat 31 = .ok (.ior, 1) := dk_128 (dk_at dksX3_afloat_1 7 rfl rfl)
theorem dX3_afloat_32 : decode cX3_afloat 32 = .ok (.istore_n 1, 1) := dk_60 (dk_at dksX3_afloat_1 8 rfl rfl)
theorem dX3_afloat_33 : decode cX3_afloat 33 = .ok (.iinc 2 1, 3) := dk_132 2 1 (dk_at dksX3_afloat_1 9 rfl rfl)
theorem dX3_afloat_36 : decode cX3_afloat 36 = .ok (.goto (-32), 3) := dk_167 255 224 (dk_at dksX3_afloat_1 12 rfl rfl)
theorem dX3_afloat_39 : decode cX3_afloat 39 = .ok (.iload_n 1, 1) := dk_27 (dk_at dksX3_afloat_1 15 rfl rfl)
theorem dX3_afloat_40 : decode cX3_afloat 40 = .ok (.ireturn, 1) := dk_172 (dk_at dksX3_afloat_1 16 rfl rfl)
abbrev cX3_has : ByteArray := prog_17_method_5_code
def yX3_has : MethodName := ⟨RX3, "has", "(II)Z"⟩
def dkwX3_has_0 : List UInt8 := [26, 27, 122, 4, 126, 4, 160, 0, 7, 4, 167, 0, 4, 3, 172]
abbrev dktX3_has_0 : List UInt8 := dkwX3_has_0 ++ []
theorem dksX3_has_0 : cX3_has.data.toList.drop 0 = dktX3_has_0 := by decide +kernel
theorem dX3_has_0 : decode cX3_has 0 = .ok (.iload_n 0, 1) := dk_26 (dk_at dksX3_has_0 0 rfl rfl)
theorem dX3_has_1 : decode cX3_has 1 = .ok (.iload_n 1, 1) := dk_27 (dk_at dksX3_has_0 1 rfl rfl)
theorem dX3_has_2 : decode cX3_has 2 = .ok (.ishr, 1) := dk_122 (dk_at dksX3_has_0 2 rfl rfl)
theorem dX3_has_3 : decode cX3_has 3 = .ok (.iconst 1, 1) := dk_4 (dk_at dksX3_has_0 3 rfl rfl)
theorem dX3_has_4 : decode cX3_has 4 = .ok (.iand, 1) := dk_126 (dk_at dksX3_has_0 4 rfl rfl)
theorem dX3_has_5 : decode cX3_has 5 = .ok (.iconst 1, 1) := dk_4 (dk_at dksX3_has_0 5 rfl rfl)
theorem dX3_has_6 : decode cX3_has 6 = .ok (.if_icmp .ne 7, 3) := dk_160 0 7 (dk_at dksX3_has_0 6 rfl rfl)
theorem dX3_has_9 : decode cX3_has 9 = .ok (.iconst 1, 1) := dk_4 (dk_at dksX3_has_0 9 rfl rfl)
theorem dX3_has_10 : decode cX3_has 10 = .ok (.goto 4, 3) := dk_167 0 4 (dk_at dksX3_has_0 10 rfl rfl)
theorem dX3_has_13 : decode cX3_has 13 = .ok (.iconst 0, 1) := dk_3 (dk_at dksX3_has_0 13 rfl rfl)
theorem dX3_has_14 : decode cX3_has 14 = .ok (.ireturn, 1) := dk_172 (dk_at dksX3_has_0 14 rfl rfl)
abbrev cX3_hangsWith : ByteArray := prog_17_method_56_code
def yX3_hangsWith : MethodName := ⟨RX3, "hangsWith", "(III)I"⟩
def dkwX3_hangsWith_4 : List UInt8 := [21, 6, 159, 0, 7, 4, 167, 0, 4, 3, 54, 5, 167, 255, 159, 21, 4, 172]
abbrev dktX3_hangsWith_4 : List UInt8 := dkwX3_hangsWith_4 ++ []
def dkwX3_hangsWith_3 : List UInt8 := [21, 8, 21, 4, 126, 153, 0, 10, 21, 4, 21, 8, 128, 54, 4, 132, 7, 1, 167, 255, 188, 21, 4]
abbrev dktX3_hangsWith_3 : List UInt8 := dkwX3_hangsWith_3 ++ dktX3_hangsWith_4
def dkwX3_hangsWith_2 : List UInt8 := [46, 120, 128, 54, 8, 29, 21, 7, 184, 1, 134, 153, 0, 27, 21, 8, 28, 2, 130, 126, 154, 0, 18]
abbrev dktX3_hangsWith_2 : List UInt8 := dkwX3_hangsWith_2 ++ dktX3_hangsWith_3
def dkwX3_hangsWith_1 : List UInt8 := [180, 0, 9, 7, 46, 162, 0, 63, 4, 42, 180, 0, 40, 21, 7, 46, 120, 4, 42, 180, 0, 43, 21, 7]
abbrev dktX3_hangsWith_1 : List UInt8 := dkwX3_hangsWith_1 ++ dktX3_hangsWith_2
def dkwX3_hangsWith_0 : List UInt8 := [4, 27, 120, 54, 4, 4, 54, 5, 21, 5, 153, 0, 98, 21, 4, 54, 6, 3, 54, 7, 21, 7, 42]
abbrev dktX3_hangsWith_0 : List UInt8 := dkwX3_hangsWith_0 ++ dktX3_hangsWith_1
theorem dksX3_hangsWith_0 : cX3_hangsWith.data.toList.drop 0 = dktX3_hangsWith_0 := by decide +kernel
theorem dksX3_hangsWith_1 : cX3_hangsWith.data.toList.drop 23 = dktX3_hangsWith_1 := dk_seg dksX3_hangsWith_0 23 rfl rfl
theorem dksX3_hangsWith_2 : cX3_hangsWith.data.toList.drop 47 = dktX3_hangsWith_2 := dk_seg dksX3_hangsWith_1 24 rfl rfl
theorem dksX3_hangsWith_3 : cX3_hangsWith.data.toList.drop 70 = dktX3_hangsWith_3 := dk_seg dksX3_hangsWith_2 23 rfl rfl
theorem dksX3_hangsWith_4 : cX3_hangsWith.data.toList.drop 93 = dktX3_hangsWith_4 := dk_seg dksX3_hangsWith_3 23 rfl rfl
theorem dX3_hangsWith_0 : decode cX3_hangsWith 0 = .ok (.iconst 1, 1) := dk_4 (dk_at dksX3_hangsWith_0 0 rfl rfl)
theorem dX3_hangsWith_1 : decode cX3_hangsWith 1 = .ok (.iload_n 1, 1) := dk_27 (dk_at dksX3_hangsWith_0 1 rfl rfl)
theorem dX3_hangsWith_2 : decode cX3_hangsWith 2 = .ok (.ishl, 1) := dk_120 (dk_at dksX3_hangsWith_0 2 rfl rfl)
theorem dX3_hangsWith_3 : decode cX3_hangsWith 3 = .ok (.istore 4, 2) := dk_54 4 (dk_at dksX3_hangsWith_0 3 rfl rfl)
theorem dX3_hangsWith_5 : decode cX3_hangsWith 5 = .ok (.iconst 1, 1) := dk_4 (dk_at dksX3_hangsWith_0 5 rfl rfl)
theorem dX3_hangsWith_6 : decode cX3_hangsWith 6 = .ok (.istore 5, 2) := dk_54 5 (dk_at dksX3_hangsWith_0 6 rfl rfl)
theorem dX3_hangsWith_8 : decode cX3_hangsWith 8 = .ok (.iload 5, 2) := dk_21 5 (dk_at dksX3_hangsWith_0 8 rfl rfl)
theorem dX3_hangsWith_10 : decode cX3_hangsWith 10 = .ok (.ifCond .eq 98, 3) := dk_153 0 98 (dk_at dksX3_hangsWith_0 10 rfl rfl)
theorem dX3_hangsWith_13 : decode cX3_hangsWith 13 = .ok (.iload 4, 2) := dk_21 4 (dk_at dksX3_hangsWith_0 13 rfl rfl)
theorem dX3_hangsWith_15 : decode cX3_hangsWith 15 = .ok (.istore 6, 2) := dk_54 6 (dk_at dksX3_hangsWith_0 15 rfl rfl)
theorem dX3_hangsWith_17 : decode cX3_hangsWith 17 = .ok (.iconst 0, 1) := dk_3 (dk_at dksX3_hangsWith_0 17 rfl rfl)
theorem dX3_hangsWith_18 : decode cX3_hangsWith 18 = .ok (.istore 7, 2) := dk_54 7 (dk_at dksX3_hangsWith_0 18 rfl rfl)
theorem dX3_hangsWith_20 : decode cX3_hangsWith 20 = .ok (.iload 7, 2) := dk_21 7 (dk_at dksX3_hangsWith_0 20 rfl rfl)
theorem dX3_hangsWith_22 : decode cX3_hangsWith 22 = .ok (.aload_n 0, 1) := dk_42 (dk_at dksX3_hangsWith_0 22 rfl rfl)
theorem dX3_hangsWith_23 : decode cX3_hangsWith 23 = .ok (.getfield 9, 3) := dk_180 0 9 (dk_at dksX3_hangsWith_1 0 rfl rfl)
theorem dX3_hangsWith_26 : decode cX3_hangsWith 26 = .ok (.iconst 4, 1) := dk_7 (dk_at dksX3_hangsWith_1 3 rfl rfl)
theorem dX3_hangsWith_27 : decode cX3_hangsWith 27 = .ok (.iaload, 1) := dk_46 (dk_at dksX3_hangsWith_1 4 rfl rfl)
theorem dX3_hangsWith_28 : decode cX3_hangsWith 28 = .ok (.if_icmp .ge 63, 3) := dk_162 0 63 (dk_at dksX3_hangsWith_1 5 rfl rfl)
theorem dX3_hangsWith_31 : decode cX3_hangsWith 31 = .ok (.iconst 1, 1) := dk_4 (dk_at dksX3_hangsWith_1 8 rfl rfl)
theorem dX3_hangsWith_32 : decode cX3_hangsWith 32 = .ok (.aload_n 0, 1) := dk_42 (dk_at dksX3_hangsWith_1 9 rfl rfl)
theorem dX3_hangsWith_33 : decode cX3_hangsWith 33 = .ok (.getfield 40, 3) := dk_180 0 40 (dk_at dksX3_hangsWith_1 10 rfl rfl)
theorem dX3_hangsWith_36 : decode cX3_hangsWith 36 = .ok (.iload 7, 2) := dk_21 7 (dk_at dksX3_hangsWith_1 13 rfl rfl)
theorem dX3_hangsWith_38 : decode cX3_hangsWith 38 = .ok (.iaload, 1) := dk_46 (dk_at dksX3_hangsWith_1 15 rfl rfl)
theorem dX3_hangsWith_39 : decode cX3_hangsWith 39 = .ok (.ishl, 1) := dk_120 (dk_at dksX3_hangsWith_1 16 rfl rfl)
theorem dX3_hangsWith_40 : decode cX3_hangsWith 40 = .ok (.iconst 1, 1) := dk_4 (dk_at dksX3_hangsWith_1 17 rfl rfl)
theorem dX3_hangsWith_41 : decode cX3_hangsWith 41 = .ok (.aload_n 0, 1) := dk_42 (dk_at dksX3_hangsWith_1 18 rfl rfl)
theorem dX3_hangsWith_42 : decode cX3_hangsWith 42 = .ok (.getfield 43, 3) := dk_180 0 43 (dk_at dksX3_hangsWith_1 19 rfl rfl)
theorem dX3_hangsWith_45 : decode cX3_hangsWith 45 = .ok (.iload 7, 2) := dk_21 7 (dk_at dksX3_hangsWith_1 22 rfl rfl)
theorem dX3_hangsWith_47 : decode cX3_hangsWith 47 = .ok (.iaload, 1) := dk_46 (dk_at dksX3_hangsWith_2 0 rfl rfl)
theorem dX3_hangsWith_48 : decode cX3_hangsWith 48 = .ok (.ishl, 1) := dk_120 (dk_at dksX3_hangsWith_2 1 rfl rfl)
theorem dX3_hangsWith_49 : decode cX3_hangsWith 49 = .ok (.ior, 1) := dk_128 (dk_at dksX3_hangsWith_2 2 rfl rfl)
theorem dX3_hangsWith_50 : decode cX3_hangsWith 50 = .ok (.istore 8, 2) := dk_54 8 (dk_at dksX3_hangsWith_2 3 rfl rfl)
theorem dX3_hangsWith_52 : decode cX3_hangsWith 52 = .ok (.iload_n 3, 1) := dk_29 (dk_at dksX3_hangsWith_2 5 rfl rfl)
theorem dX3_hangsWith_53 : decode cX3_hangsWith 53 = .ok (.iload 7, 2) := dk_21 7 (dk_at dksX3_hangsWith_2 6 rfl rfl)
theorem dX3_hangsWith_55 : decode cX3_hangsWith 55 = .ok (.invokestatic 390, 3) := dk_184 1 134 (dk_at dksX3_hangsWith_2 8 rfl rfl)
theorem dX3_hangsWith_58 : decode cX3_hangsWith 58 = .ok (.ifCond .eq 27, 3) := dk_153 0 27 (dk_at dksX3_hangsWith_2 11 rfl rfl)
theorem dX3_hangsWith_61 : decode cX3_hangsWith 61 = .ok (.iload 8, 2) := dk_21 8 (dk_at dksX3_hangsWith_2 14 rfl rfl)
theorem dX3_hangsWith_63 : decode cX3_hangsWith 63 = .ok (.iload_n 2, 1) := dk_28 (dk_at dksX3_hangsWith_2 16 rfl rfl)
theorem dX3_hangsWith_64 : decode cX3_hangsWith 64 = .ok (.iconst (-1), 1) := dk_2 (dk_at dksX3_hangsWith_2 17 rfl rfl)
theorem dX3_hangsWith_65 : decode cX3_hangsWith 65 = .ok (.ixor, 1) := dk_130 (dk_at dksX3_hangsWith_2 18 rfl rfl)
theorem dX3_hangsWith_66 : decode cX3_hangsWith 66 = .ok (.iand, 1) := dk_126 (dk_at dksX3_hangsWith_2 19 rfl rfl)
theorem dX3_hangsWith_67 : decode cX3_hangsWith 67 = .ok (.ifCond .ne 18, 3) := dk_154 0 18 (dk_at dksX3_hangsWith_2 20 rfl rfl)
theorem dX3_hangsWith_70 : decode cX3_hangsWith 70 = .ok (.iload 8, 2) := dk_21 8 (dk_at dksX3_hangsWith_3 0 rfl rfl)
theorem dX3_hangsWith_72 : decode cX3_hangsWith 72 = .ok (.iload 4, 2) := dk_21 4 (dk_at dksX3_hangsWith_3 2 rfl rfl)
theorem dX3_hangsWith_74 : decode cX3_hangsWith 74 = .ok (.iand, 1) := dk_126 (dk_at dksX3_hangsWith_3 4 rfl rfl)
theorem dX3_hangsWith_75 : decode cX3_hangsWith 75 = .ok (.ifCond .eq 10, 3) := dk_153 0 10 (dk_at dksX3_hangsWith_3 5 rfl rfl)
theorem dX3_hangsWith_78 : decode cX3_hangsWith 78 = .ok (.iload 4, 2) := dk_21 4 (dk_at dksX3_hangsWith_3 8 rfl rfl)
theorem dX3_hangsWith_80 : decode cX3_hangsWith 80 = .ok (.iload 8, 2) := dk_21 8 (dk_at dksX3_hangsWith_3 10 rfl rfl)
theorem dX3_hangsWith_82 : decode cX3_hangsWith 82 = .ok (.ior, 1) := dk_128 (dk_at dksX3_hangsWith_3 12 rfl rfl)
theorem dX3_hangsWith_83 : decode cX3_hangsWith 83 = .ok (.istore 4, 2) := dk_54 4 (dk_at dksX3_hangsWith_3 13 rfl rfl)
theorem dX3_hangsWith_85 : decode cX3_hangsWith 85 = .ok (.iinc 7 1, 3) := dk_132 7 1 (dk_at dksX3_hangsWith_3 15 rfl rfl)
theorem dX3_hangsWith_88 : decode cX3_hangsWith 88 = .ok (.goto (-68), 3) := dk_167 255 188 (dk_at dksX3_hangsWith_3 18 rfl rfl)
theorem dX3_hangsWith_91 : decode cX3_hangsWith 91 = .ok (.iload 4, 2) := dk_21 4 (dk_at dksX3_hangsWith_3 21 rfl rfl)
theorem dX3_hangsWith_93 : decode cX3_hangsWith 93 = .ok (.iload 6, 2) := dk_21 6 (dk_at dksX3_hangsWith_4 0 rfl rfl)
theorem dX3_hangsWith_95 : decode cX3_hangsWith 95 = .ok (.if_icmp .eq 7, 3) := dk_159 0 7 (dk_at dksX3_hangsWith_4 2 rfl rfl)
theorem dX3_hangsWith_98 : decode cX3_hangsWith 98 = .ok (.iconst 1, 1) := dk_4 (dk_at dksX3_hangsWith_4 5 rfl rfl)
theorem dX3_hangsWith_99 : decode cX3_hangsWith 99 = .ok (.goto 4, 3) := dk_167 0 4 (dk_at dksX3_hangsWith_4 6 rfl rfl)
theorem dX3_hangsWith_102 : decode cX3_hangsWith 102 = .ok (.iconst 0, 1) := dk_3 (dk_at dksX3_hangsWith_4 9 rfl rfl)
theorem dX3_hangsWith_103 : decode cX3_hangsWith 103 = .ok (.istore 5, 2) := dk_54 5 (dk_at dksX3_hangsWith_4 10 rfl rfl)
theorem dX3_hangsWith_105 : decode cX3_hangsWith 105 = .ok (.goto (-97), 3) := dk_167 255 159 (dk_at dksX3_hangsWith_4 12 rfl rfl)
theorem dX3_hangsWith_108 : decode cX3_hangsWith 108 = .ok (.iload 4, 2) := dk_21 4 (dk_at dksX3_hangsWith_4 15 rfl rfl)
theorem dX3_hangsWith_110 : decode cX3_hangsWith 110 = .ok (.ireturn, 1) := dk_172 (dk_at dksX3_hangsWith_4 17 rfl rfl)
abbrev cX3_least : ByteArray := prog_17_method_58_code
def yX3_least : MethodName := ⟨RX3, "least", "(I)I"⟩
def dkwX3_least_0 : List UInt8 := [3, 60, 26, 27, 184, 1, 134, 154, 0, 9, 132, 1, 1, 167, 255, 245, 27, 172]
abbrev dktX3_least_0 : List UInt8 := dkwX3_least_0 ++ []
theorem dksX3_least_0 : cX3_least.data.toList.drop 0 = dktX3_least_0 := by decide +kernel
theorem dX3_least_0 : decode cX3_least 0 = .ok (.iconst 0, 1) := dk_3 (dk_at dksX3_least_0 0 rfl rfl)
theorem dX3_least_1 : decode cX3_least 1 = .ok (.istore_n 1, 1) := dk_60 (dk_at dksX3_least_0 1 rfl rfl)
theorem dX3_least_2 : decode cX3_least 2 = .ok (.iload_n 0, 1) := dk_26 (dk_at dksX3_least_0 2 rfl rfl)
theorem dX3_least_3 : decode cX3_least 3 = .ok (.iload_n 1, 1) := dk_27 (dk_at dksX3_least_0 3 rfl rfl)
theorem dX3_least_4 : decode cX3_least 4 = .ok (.invokestatic 390, 3) := dk_184 1 134 (dk_at dksX3_least_0 4 rfl rfl)
theorem dX3_least_7 : decode cX3_least 7 = .ok (.ifCond .ne 9, 3) := dk_154 0 9 (dk_at dksX3_least_0 7 rfl rfl)
theorem dX3_least_10 : decode cX3_least 10 = .ok (.iinc 1 1, 3) := dk_132 1 1 (dk_at dksX3_least_0 10 rfl rfl)
theorem dX3_least_13 : decode cX3_least 13 = .ok (.goto (-11), 3) := dk_167 255 245 (dk_at dksX3_least_0 13 rfl rfl)
theorem dX3_least_16 : decode cX3_least 16 = .ok (.iload_n 1, 1) := dk_27 (dk_at dksX3_least_0 16 rfl rfl)
theorem dX3_least_17 : decode cX3_least 17 = .ok (.ireturn, 1) := dk_172 (dk_at dksX3_least_0 17 rfl rfl)
abbrev cX3_thing : ByteArray := prog_17_method_66_code
def yX3_thing : MethodName := ⟨RX3, "thing", "(II)I"⟩
def dkwX3_thing_4 : List UInt8 := [182, 1, 168, 167, 0, 4, 3, 172, 2, 172]
abbrev dktX3_thing_4 : List UInt8 := dkwX3_thing_4 ++ []
def dkwX3_thing_3 : List UInt8 := [180, 0, 31, 27, 46, 172, 42, 180, 0, 34, 27, 46, 172, 42, 180, 0, 34, 27, 46, 154, 0, 11, 42, 27]
abbrev dktX3_thing_3 : List UInt8 := dkwX3_thing_3 ++ dktX3_thing_4
def dkwX3_thing_2 : List UInt8 := [42, 180, 0, 22, 27, 46, 172, 42, 180, 0, 25, 27, 46, 172, 42, 180, 0, 28, 27, 46, 172, 42]
abbrev dktX3_thing_2 : List UInt8 := dkwX3_thing_2 ++ dktX3_thing_3
def dkwX3_thing_1 : List UInt8 := [170, 0, 0, 0, 91, 0, 0, 0, 0, 0, 0, 0, 5, 0, 0, 0, 37, 0, 0, 0, 44, 0, 0, 0, 51, 0, 0, 0, 58, 0, 0, 0, 65, 0, 0, 0, 72]
abbrev dktX3_thing_1 : List UInt8 := dkwX3_thing_1 ++ dktX3_thing_2
def dkwX3_thing_0 : List UInt8 := [42, 27, 182, 0, 180, 154, 0, 5, 2, 172, 28]
abbrev dktX3_thing_0 : List UInt8 := dkwX3_thing_0 ++ dktX3_thing_1
theorem dksX3_thing_0 : cX3_thing.data.toList.drop 0 = dktX3_thing_0 := by decide +kernel
theorem dksX3_thing_1 : cX3_thing.data.toList.drop 11 = dktX3_thing_1 := dk_seg dksX3_thing_0 11 rfl rfl
theorem dksX3_thing_2 : cX3_thing.data.toList.drop 48 = dktX3_thing_2 := dk_seg dksX3_thing_1 37 rfl rfl
theorem dksX3_thing_3 : cX3_thing.data.toList.drop 70 = dktX3_thing_3 := dk_seg dksX3_thing_2 22 rfl rfl
theorem dksX3_thing_4 : cX3_thing.data.toList.drop 94 = dktX3_thing_4 := dk_seg dksX3_thing_3 24 rfl rfl
theorem dX3_thing_0 : decode cX3_thing 0 = .ok (.aload_n 0, 1) := dk_42 (dk_at dksX3_thing_0 0 rfl rfl)
theorem dX3_thing_1 : decode cX3_thing 1 = .ok (.iload_n 1, 1) := dk_27 (dk_at dksX3_thing_0 1 rfl rfl)
theorem dX3_thing_2 : decode cX3_thing 2 = .ok (.invokevirtual 180, 3) := dk_182 0 180 (dk_at dksX3_thing_0 2 rfl rfl)
theorem dX3_thing_5 : decode cX3_thing 5 = .ok (.ifCond .ne 5, 3) := dk_154 0 5 (dk_at dksX3_thing_0 5 rfl rfl)
theorem dX3_thing_8 : decode cX3_thing 8 = .ok (.iconst (-1), 1) := dk_2 (dk_at dksX3_thing_0 8 rfl rfl)
theorem dX3_thing_9 : decode cX3_thing 9 = .ok (.ireturn, 1) := dk_172 (dk_at dksX3_thing_0 9 rfl rfl)
theorem dX3_thing_10 : decode cX3_thing 10 = .ok (.iload_n 2, 1) := dk_28 (dk_at dksX3_thing_0 10 rfl rfl)
theorem dX3_thing_11 : decode cX3_thing 11 = .ok (.tableswitch 91 0 5 #[37, 44, 51, 58, 65, 72], 37) := by decide +kernel
theorem dX3_thing_48 : decode cX3_thing 48 = .ok (.aload_n 0, 1) := dk_42 (dk_at dksX3_thing_2 0 rfl rfl)
theorem dX3_thing_49 : decode cX3_thing 49 = .ok (.getfield 22, 3) := dk_180 0 22 (dk_at dksX3_thing_2 1 rfl rfl)
theorem dX3_thing_52 : decode cX3_thing 52 = .ok (.iload_n 1, 1) := dk_27 (dk_at dksX3_thing_2 4 rfl rfl)
theorem dX3_thing_53 : decode cX3_thing 53 = .ok (.iaload, 1) := dk_46 (dk_at dksX3_thing_2 5 rfl rfl)
theorem dX3_thing_54 : decode cX3_thing 54 = .ok (.ireturn, 1) := dk_172 (dk_at dksX3_thing_2 6 rfl rfl)
theorem dX3_thing_55 : decode cX3_thing 55 = .ok (.aload_n 0, 1) := dk_42 (dk_at dksX3_thing_2 7 rfl rfl)
theorem dX3_thing_56 : decode cX3_thing 56 = .ok (.getfield 25, 3) := dk_180 0 25 (dk_at dksX3_thing_2 8 rfl rfl)
theorem dX3_thing_59 : decode cX3_thing 59 = .ok (.iload_n 1, 1) := dk_27 (dk_at dksX3_thing_2 11 rfl rfl)
theorem dX3_thing_60 : decode cX3_thing 60 = .ok (.iaload, 1) := dk_46 (dk_at dksX3_thing_2 12 rfl rfl)
theorem dX3_thing_61 : decode cX3_thing 61 = .ok (.ireturn, 1) := dk_172 (dk_at dksX3_thing_2 13 rfl rfl)
theorem dX3_thing_62 : decode cX3_thing 62 = .ok (.aload_n 0, 1) := dk_42 (dk_at dksX3_thing_2 14 rfl rfl)
theorem dX3_thing_63 : decode cX3_thing 63 = .ok (.getfield 28, 3) := dk_180 0 28 (dk_at dksX3_thing_2 15 rfl rfl)
theorem dX3_thing_66 : decode cX3_thing 66 = .ok (.iload_n 1, 1) := dk_27 (dk_at dksX3_thing_2 18 rfl rfl)
theorem dX3_thing_67 : decode cX3_thing 67 = .ok (.iaload, 1) := dk_46 (dk_at dksX3_thing_2 19 rfl rfl)
theorem dX3_thing_68 : decode cX3_thing 68 = .ok (.ireturn, 1) := dk_172 (dk_at dksX3_thing_2 20 rfl rfl)
theorem dX3_thing_69 : decode cX3_thing 69 = .ok (.aload_n 0, 1) := dk_42 (dk_at dksX3_thing_2 21 rfl rfl)
theorem dX3_thing_70 : decode cX3_thing 70 = .ok (.getfield 31, 3) := dk_180 0 31 (dk_at dksX3_thing_3 0 rfl rfl)
theorem dX3_thing_73 : decode cX3_thing 73 = .ok (.iload_n 1, 1) := dk_27 (dk_at dksX3_thing_3 3 rfl rfl)
theorem dX3_thing_74 : decode cX3_thing 74 = .ok (.iaload, 1) := dk_46 (dk_at dksX3_thing_3 4 rfl rfl)
theorem dX3_thing_75 : decode cX3_thing 75 = .ok (.ireturn, 1) := dk_172 (dk_at dksX3_thing_3 5 rfl rfl)
theorem dX3_thing_76 : decode cX3_thing 76 = .ok (.aload_n 0, 1) := dk_42 (dk_at dksX3_thing_3 6 rfl rfl)
theorem dX3_thing_77 : decode cX3_thing 77 = .ok (.getfield 34, 3) := dk_180 0 34 (dk_at dksX3_thing_3 7 rfl rfl)
theorem dX3_thing_80 : decode cX3_thing 80 = .ok (.iload_n 1, 1) := dk_27 (dk_at dksX3_thing_3 10 rfl rfl)
theorem dX3_thing_81 : decode cX3_thing 81 = .ok (.iaload, 1) := dk_46 (dk_at dksX3_thing_3 11 rfl rfl)
theorem dX3_thing_82 : decode cX3_thing 82 = .ok (.ireturn, 1) := dk_172 (dk_at dksX3_thing_3 12 rfl rfl)
theorem dX3_thing_83 : decode cX3_thing 83 = .ok (.aload_n 0, 1) := dk_42 (dk_at dksX3_thing_3 13 rfl rfl)
theorem dX3_thing_84 : decode cX3_thing 84 = .ok (.getfield 34, 3) := dk_180 0 34 (dk_at dksX3_thing_3 14 rfl rfl)
theorem dX3_thing_87 : decode cX3_thing 87 = .ok (.iload_n 1, 1) := dk_27 (dk_at dksX3_thing_3 17 rfl rfl)
theorem dX3_thing_88 : decode cX3_thing 88 = .ok (.iaload, 1) := dk_46 (dk_at dksX3_thing_3 18 rfl rfl)
theorem dX3_thing_89 : decode cX3_thing 89 = .ok (.ifCond .ne 11, 3) := dk_154 0 11 (dk_at dksX3_thing_3 19 rfl rfl)
theorem dX3_thing_92 : decode cX3_thing 92 = .ok (.aload_n 0, 1) := dk_42 (dk_at dksX3_thing_3 22 rfl rfl)
theorem dX3_thing_93 : decode cX3_thing 93 = .ok (.iload_n 1, 1) := dk_27 (dk_at dksX3_thing_3 23 rfl rfl)
theorem dX3_thing_94 : decode cX3_thing 94 = .ok (.invokevirtual 424, 3) := dk_182 1 168 (dk_at dksX3_thing_4 0 rfl rfl)
theorem dX3_thing_97 : decode cX3_thing 97 = .ok (.goto 4, 3) := dk_167 0 4 (dk_at dksX3_thing_4 3 rfl rfl)
theorem dX3_thing_100 : decode cX3_thing 100 = .ok (.iconst 0, 1) := dk_3 (dk_at dksX3_thing_4 6 rfl rfl)
theorem dX3_thing_101 : decode cX3_thing 101 = .ok (.ireturn, 1) := dk_172 (dk_at dksX3_thing_4 7 rfl rfl)
theorem dX3_thing_102 : decode cX3_thing 102 = .ok (.iconst (-1), 1) := dk_2 (dk_at dksX3_thing_4 8 rfl rfl)
theorem dX3_thing_103 : decode cX3_thing 103 = .ok (.ireturn, 1) := dk_172 (dk_at dksX3_thing_4 9 rfl rfl)
abbrev cX3_isThing : ByteArray := prog_17_method_8_code
def yX3_isThing : MethodName := ⟨RX3, "isThing", "(I)Z"⟩
def dkwX3_isThing_0 : List UInt8 := [27, 133, 9, 42, 180, 0, 9, 6, 46, 4, 100, 133, 184, 0, 176, 172]
abbrev dktX3_isThing_0 : List UInt8 := dkwX3_isThing_0 ++ []
theorem dksX3_isThing_0 : cX3_isThing.data.toList.drop 0 = dktX3_isThing_0 := by decide +kernel
theorem dX3_isThing_0 : decode cX3_isThing 0 = .ok (.iload_n 1, 1) := dk_27 (dk_at dksX3_isThing_0 0 rfl rfl)
theorem dX3_isThing_1 : decode cX3_isThing 1 = .ok (.i2l, 1) := dk_133 (dk_at dksX3_isThing_0 1 rfl rfl)
theorem dX3_isThing_2 : decode cX3_isThing 2 = .ok (.lconst 0, 1) := dk_9 (dk_at dksX3_isThing_0 2 rfl rfl)
theorem dX3_isThing_3 : decode cX3_isThing 3 = .ok (.aload_n 0, 1) := dk_42 (dk_at dksX3_isThing_0 3 rfl rfl)
theorem dX3_isThing_4 : decode cX3_isThing 4 = .ok (.getfield 9, 3) := dk_180 0 9 (dk_at dksX3_isThing_0 4 rfl rfl)
theorem dX3_isThing_7 : decode cX3_isThing 7 = .ok (.iconst 3, 1) := dk_6 (dk_at dksX3_isThing_0 7 rfl rfl)
theorem dX3_isThing_8 : decode cX3_isThing 8 = .ok (.iaload, 1) := dk_46 (dk_at dksX3_isThing_0 8 rfl rfl)
theorem dX3_isThing_9 : decode cX3_isThing 9 = .ok (.iconst 1, 1) := dk_4 (dk_at dksX3_isThing_0 9 rfl rfl)
theorem dX3_isThing_10 : decode cX3_isThing 10 = .ok (.isub, 1) := dk_100 (dk_at dksX3_isThing_0 10 rfl rfl)
theorem dX3_isThing_11 : decode cX3_isThing 11 = .ok (.i2l, 1) := dk_133 (dk_at dksX3_isThing_0 11 rfl rfl)
theorem dX3_isThing_12 : decode cX3_isThing 12 = .ok (.invokestatic 176, 3) := dk_184 0 176 (dk_at dksX3_isThing_0 12 rfl rfl)
theorem dX3_isThing_15 : decode cX3_isThing 15 = .ok (.ireturn, 1) := dk_172 (dk_at dksX3_isThing_0 15 rfl rfl)
abbrev cX3_pieceOf : ByteArray := prog_17_method_57_code
def yX3_pieceOf : MethodName := ⟨RX3, "pieceOf", "(I)I"⟩
def dkwX3_pieceOf_0 : List UInt8 := [42, 27, 42, 182, 1, 137, 42, 182, 1, 140, 182, 1, 143, 172]
abbrev dktX3_pieceOf_0 : List UInt8 := dkwX3_pieceOf_0 ++ []
theorem dksX3_pieceOf_0 : cX3_pieceOf.data.toList.drop 0 = dktX3_pieceOf_0 := by decide +kernel
theorem dX3_pieceOf_0 : decode cX3_pieceOf 0 = .ok (.aload_n 0, 1) := dk_42 (dk_at dksX3_pieceOf_0 0 rfl rfl)
theorem dX3_pieceOf_1 : decode cX3_pieceOf 1 = .ok (.iload_n 1, 1) := dk_27 (dk_at dksX3_pieceOf_0 1 rfl rfl)
theorem dX3_pieceOf_2 : decode cX3_pieceOf 2 = .ok (.aload_n 0, 1) := dk_42 (dk_at dksX3_pieceOf_0 2 rfl rfl)
theorem dX3_pieceOf_3 : decode cX3_pieceOf 3 = .ok (.invokevirtual 393, 3) := dk_182 1 137 (dk_at dksX3_pieceOf_0 3 rfl rfl)
theorem dX3_pieceOf_6 : decode cX3_pieceOf 6 = .ok (.aload_n 0, 1) := dk_42 (dk_at dksX3_pieceOf_0 6 rfl rfl)
theorem dX3_pieceOf_7 : decode cX3_pieceOf 7 = .ok (.invokevirtual 396, 3) := dk_182 1 140 (dk_at dksX3_pieceOf_0 7 rfl rfl)
theorem dX3_pieceOf_10 : decode cX3_pieceOf 10 = .ok (.invokevirtual 399, 3) := dk_182 1 143 (dk_at dksX3_pieceOf_0 10 rfl rfl)
theorem dX3_pieceOf_13 : decode cX3_pieceOf 13 = .ok (.ireturn, 1) := dk_172 (dk_at dksX3_pieceOf_0 13 rfl rfl)
abbrev cX3_rope : ByteArray := prog_17_method_67_code
def yX3_rope : MethodName := ⟨RX3, "rope", "(II)I"⟩
def dkwX3_rope_2 : List UInt8 := [42, 180, 0, 40, 27, 46, 172, 42, 180, 0, 43, 27, 46, 172, 42, 180, 0, 46, 27, 46, 172, 2, 172]
abbrev dktX3_rope_2 : List UInt8 := dkwX3_rope_2 ++ []
def dkwX3_rope_1 : List UInt8 := [170, 0, 0, 0, 46, 0, 0, 0, 0, 0, 0, 0, 2, 0, 0, 0, 25, 0, 0, 0, 32, 0, 0, 0, 39]
abbrev dktX3_rope_1 : List UInt8 := dkwX3_rope_1 ++ dktX3_rope_2
def dkwX3_rope_0 : List UInt8 := [42, 27, 182, 1, 171, 154, 0, 5, 2, 172, 28]
abbrev dktX3_rope_0 : List UInt8 := dkwX3_rope_0 ++ dktX3_rope_1
theorem dksX3_rope_0 : cX3_rope.data.toList.drop 0 = dktX3_rope_0 := by decide +kernel
theorem dksX3_rope_1 : cX3_rope.data.toList.drop 11 = dktX3_rope_1 := dk_seg dksX3_rope_0 11 rfl rfl
theorem dksX3_rope_2 : cX3_rope.data.toList.drop 36 = dktX3_rope_2 := dk_seg dksX3_rope_1 25 rfl rfl
theorem dX3_rope_0 : decode cX3_rope 0 = .ok (.aload_n 0, 1) := dk_42 (dk_at dksX3_rope_0 0 rfl rfl)
theorem dX3_rope_1 : decode cX3_rope 1 = .ok (.iload_n 1, 1) := dk_27 (dk_at dksX3_rope_0 1 rfl rfl)
theorem dX3_rope_2 : decode cX3_rope 2 = .ok (.invokevirtual 427, 3) := dk_182 1 171 (dk_at dksX3_rope_0 2 rfl rfl)
theorem dX3_rope_5 : decode cX3_rope 5 = .ok (.ifCond .ne 5, 3) := dk_154 0 5 (dk_at dksX3_rope_0 5 rfl rfl)
theorem dX3_rope_8 : decode cX3_rope 8 = .ok (.iconst (-1), 1) := dk_2 (dk_at dksX3_rope_0 8 rfl rfl)
theorem dX3_rope_9 : decode cX3_rope 9 = .ok (.ireturn, 1) := dk_172 (dk_at dksX3_rope_0 9 rfl rfl)
theorem dX3_rope_10 : decode cX3_rope 10 = .ok (.iload_n 2, 1) := dk_28 (dk_at dksX3_rope_0 10 rfl rfl)
theorem dX3_rope_11 : decode cX3_rope 11 = .ok (.tableswitch 46 0 2 #[25, 32, 39], 25) := by decide +kernel
theorem dX3_rope_36 : decode cX3_rope 36 = .ok (.aload_n 0, 1) := dk_42 (dk_at dksX3_rope_2 0 rfl rfl)
theorem dX3_rope_37 : decode cX3_rope 37 = .ok (.getfield 40, 3) := dk_180 0 40 (dk_at dksX3_rope_2 1 rfl rfl)
theorem dX3_rope_40 : decode cX3_rope 40 = .ok (.iload_n 1, 1) := dk_27 (dk_at dksX3_rope_2 4 rfl rfl)
theorem dX3_rope_41 : decode cX3_rope 41 = .ok (.iaload, 1) := dk_46 (dk_at dksX3_rope_2 5 rfl rfl)
theorem dX3_rope_42 : decode cX3_rope 42 = .ok (.ireturn, 1) := dk_172 (dk_at dksX3_rope_2 6 rfl rfl)
theorem dX3_rope_43 : decode cX3_rope 43 = .ok (.aload_n 0, 1) := dk_42 (dk_at dksX3_rope_2 7 rfl rfl)
theorem dX3_rope_44 : decode cX3_rope 44 = .ok (.getfield 43, 3) := dk_180 0 43 (dk_at dksX3_rope_2 8 rfl rfl)
theorem dX3_rope_47 : decode cX3_rope 47 = .ok (.iload_n 1, 1) := dk_27 (dk_at dksX3_rope_2 11 rfl rfl)
theorem dX3_rope_48 : decode cX3_rope 48 = .ok (.iaload, 1) := dk_46 (dk_at dksX3_rope_2 12 rfl rfl)
theorem dX3_rope_49 : decode cX3_rope 49 = .ok (.ireturn, 1) := dk_172 (dk_at dksX3_rope_2 13 rfl rfl)
theorem dX3_rope_50 : decode cX3_rope 50 = .ok (.aload_n 0, 1) := dk_42 (dk_at dksX3_rope_2 14 rfl rfl)
theorem dX3_rope_51 : decode cX3_rope 51 = .ok (.getfield 46, 3) := dk_180 0 46 (dk_at dksX3_rope_2 15 rfl rfl)
theorem dX3_rope_54 : decode cX3_rope 54 = .ok (.iload_n 1, 1) := dk_27 (dk_at dksX3_rope_2 18 rfl rfl)
theorem dX3_rope_55 : decode cX3_rope 55 = .ok (.iaload, 1) := dk_46 (dk_at dksX3_rope_2 19 rfl rfl)
theorem dX3_rope_56 : decode cX3_rope 56 = .ok (.ireturn, 1) := dk_172 (dk_at dksX3_rope_2 20 rfl rfl)
theorem dX3_rope_57 : decode cX3_rope 57 = .ok (.iconst (-1), 1) := dk_2 (dk_at dksX3_rope_2 21 rfl rfl)
theorem dX3_rope_58 : decode cX3_rope 58 = .ok (.ireturn, 1) := dk_172 (dk_at dksX3_rope_2 22 rfl rfl)
abbrev cX3_isRope : ByteArray := prog_17_method_10_code
def yX3_isRope : MethodName := ⟨RX3, "isRope", "(I)Z"⟩
def dkwX3_isRope_0 : List UInt8 := [27, 133, 9, 42, 180, 0, 9, 7, 46, 4, 100, 133, 184, 0, 176, 172]
abbrev dktX3_isRope_0 : List UInt8 := dkwX3_isRope_0 ++ []
theorem dksX3_isRope_0 : cX3_isRope.data.toList.drop 0 = dktX3_isRope_0 := by decide +kernel
theorem dX3_isRope_0 : decode cX3_isRope 0 = .ok (.iload_n 1, 1) := dk_27 (dk_at dksX3_isRope_0 0 rfl rfl)
theorem dX3_isRope_1 : decode cX3_isRope 1 = .ok (.i2l, 1) := dk_133 (dk_at dksX3_isRope_0 1 rfl rfl)
theorem dX3_isRope_2 : decode cX3_isRope 2 = .ok (.lconst 0, 1) := dk_9 (dk_at dksX3_isRope_0 2 rfl rfl)
theorem dX3_isRope_3 : decode cX3_isRope 3 = .ok (.aload_n 0, 1) := dk_42 (dk_at dksX3_isRope_0 3 rfl rfl)
theorem dX3_isRope_4 : decode cX3_isRope 4 = .ok (.getfield 9, 3) := dk_180 0 9 (dk_at dksX3_isRope_0 4 rfl rfl)
theorem dX3_isRope_7 : decode cX3_isRope 7 = .ok (.iconst 4, 1) := dk_7 (dk_at dksX3_isRope_0 7 rfl rfl)
theorem dX3_isRope_8 : decode cX3_isRope 8 = .ok (.iaload, 1) := dk_46 (dk_at dksX3_isRope_0 8 rfl rfl)
theorem dX3_isRope_9 : decode cX3_isRope 9 = .ok (.iconst 1, 1) := dk_4 (dk_at dksX3_isRope_0 9 rfl rfl)
theorem dX3_isRope_10 : decode cX3_isRope 10 = .ok (.isub, 1) := dk_100 (dk_at dksX3_isRope_0 10 rfl rfl)
theorem dX3_isRope_11 : decode cX3_isRope 11 = .ok (.i2l, 1) := dk_133 (dk_at dksX3_isRope_0 11 rfl rfl)
theorem dX3_isRope_12 : decode cX3_isRope 12 = .ok (.invokestatic 176, 3) := dk_184 0 176 (dk_at dksX3_isRope_0 12 rfl rfl)
theorem dX3_isRope_15 : decode cX3_isRope 15 = .ok (.ireturn, 1) := dk_172 (dk_at dksX3_isRope_0 15 rfl rfl)
abbrev cX3_rapid : ByteArray := prog_17_method_69_code
def yX3_rapid : MethodName := ⟨RX3, "rapid", "(I)I"⟩
def dkwX3_rapid_1 : List UInt8 := [27, 182, 1, 177, 167, 0, 4, 2, 172]
abbrev dktX3_rapid_1 : List UInt8 := dkwX3_rapid_1 ++ []
def dkwX3_rapid_0 : List UInt8 := [42, 182, 1, 174, 153, 0, 27, 27, 133, 9, 42, 180, 0, 9, 3, 46, 133, 184, 0, 176, 153, 0, 11, 42]
abbrev dktX3_rapid_0 : List UInt8 := dkwX3_rapid_0 ++ dktX3_rapid_1
theorem dksX3_rapid_0 : cX3_rapid.data.toList.drop 0 = dktX3_rapid_0 := by decide +kernel
theorem dksX3_rapid_1 : cX3_rapid.data.toList.drop 24 = dktX3_rapid_1 := dk_seg dksX3_rapid_0 24 rfl rfl
theorem dX3_rapid_0 : decode cX3_rapid 0 = .ok (.aload_n 0, 1) := dk_42 (dk_at dksX3_rapid_0 0 rfl rfl)
theorem dX3_rapid_1 : decode cX3_rapid 1 = .ok (.invokevirtual 430, 3) := dk_182 1 174 (dk_at dksX3_rapid_0 1 rfl rfl)
theorem dX3_rapid_4 : decode cX3_rapid 4 = .ok (.ifCond .eq 27, 3) := dk_153 0 27 (dk_at dksX3_rapid_0 4 rfl rfl)
theorem dX3_rapid_7 : decode cX3_rapid 7 = .ok (.iload_n 1, 1) := dk_27 (dk_at dksX3_rapid_0 7 rfl rfl)
theorem dX3_rapid_8 : decode cX3_rapid 8 = .ok (.i2l, 1) := dk_133 (dk_at dksX3_rapid_0 8 rfl rfl)
theorem dX3_rapid_9 : decode cX3_rapid 9 = .ok (.lconst 0, 1) := dk_9 (dk_at dksX3_rapid_0 9 rfl rfl)
theorem dX3_rapid_10 : decode cX3_rapid 10 = .ok (.aload_n 0, 1) := dk_42 (dk_at dksX3_rapid_0 10 rfl rfl)
theorem dX3_rapid_11 : decode cX3_rapid 11 = .ok (.getfield 9, 3) := dk_180 0 9 (dk_at dksX3_rapid_0 11 rfl rfl)
theorem dX3_rapid_14 : decode cX3_rapid 14 = .ok (.iconst 0, 1) := dk_3 (dk_at dksX3_rapid_0 14 rfl rfl)
theorem dX3_rapid_15 : decode cX3_rapid 15 = .ok (.iaload, 1) := dk_46 (dk_at dksX3_rapid_0 15 rfl rfl)
theorem dX3_rapid_16 : decode cX3_rapid 16 = .ok (.i2l, 1) := dk_133 (dk_at dksX3_rapid_0 16 rfl rfl)
theorem dX3_rapid_17 : decode cX3_rapid 17 = .ok (.invokestatic 176, 3) := dk_184 0 176 (dk_at dksX3_rapid_0 17 rfl rfl)
theorem dX3_rapid_20 : decode cX3_rapid 20 = .ok (.ifCond .eq 11, 3) := dk_153 0 11 (dk_at dksX3_rapid_0 20 rfl rfl)
theorem dX3_rapid_23 : decode cX3_rapid 23 = .ok (.aload_n 0, 1) := dk_42 (dk_at dksX3_rapid_0 23 rfl rfl)
theorem dX3_rapid_24 : decode cX3_rapid 24 = .ok (.iload_n 1, 1) := dk_27 (dk_at dksX3_rapid_1 0 rfl rfl)
theorem dX3_rapid_25 : decode cX3_rapid 25 = .ok (.invokevirtual 433, 3) := dk_182 1 177 (dk_at dksX3_rapid_1 1 rfl rfl)
theorem dX3_rapid_28 : decode cX3_rapid 28 = .ok (.goto 4, 3) := dk_167 0 4 (dk_at dksX3_rapid_1 4 rfl rfl)
theorem dX3_rapid_31 : decode cX3_rapid 31 = .ok (.iconst (-1), 1) := dk_2 (dk_at dksX3_rapid_1 7 rfl rfl)
theorem dX3_rapid_32 : decode cX3_rapid 32 = .ok (.ireturn, 1) := dk_172 (dk_at dksX3_rapid_1 8 rfl rfl)
abbrev cX3_isRiver : ByteArray := prog_17_method_6_code
def yX3_isRiver : MethodName := ⟨RX3, "isRiver", "()Z"⟩
def dkwX3_isRiver_0 : List UInt8 := [42, 180, 0, 9, 3, 46, 158, 0, 7, 4, 167, 0, 4, 3, 172]
abbrev dktX3_isRiver_0 : List UInt8 := dkwX3_isRiver_0 ++ []
theorem dksX3_isRiver_0 : cX3_isRiver.data.toList.drop 0 = dktX3_isRiver_0 := by decide +kernel
theorem dX3_isRiver_0 : decode cX3_isRiver 0 = .ok (.aload_n 0, 1) := dk_42 (dk_at dksX3_isRiver_0 0 rfl rfl)
theorem dX3_isRiver_1 : decode cX3_isRiver 1 = .ok (.getfield 9, 3) := dk_180 0 9 (dk_at dksX3_isRiver_0 1 rfl rfl)
theorem dX3_isRiver_4 : decode cX3_isRiver 4 = .ok (.iconst 0, 1) := dk_3 (dk_at dksX3_isRiver_0 4 rfl rfl)
theorem dX3_isRiver_5 : decode cX3_isRiver 5 = .ok (.iaload, 1) := dk_46 (dk_at dksX3_isRiver_0 5 rfl rfl)
theorem dX3_isRiver_6 : decode cX3_isRiver 6 = .ok (.ifCond .le 7, 3) := dk_158 0 7 (dk_at dksX3_isRiver_0 6 rfl rfl)
theorem dX3_isRiver_9 : decode cX3_isRiver 9 = .ok (.iconst 1, 1) := dk_4 (dk_at dksX3_isRiver_0 9 rfl rfl)
theorem dX3_isRiver_10 : decode cX3_isRiver 10 = .ok (.goto 4, 3) := dk_167 0 4 (dk_at dksX3_isRiver_0 10 rfl rfl)
theorem dX3_isRiver_13 : decode cX3_isRiver 13 = .ok (.iconst 0, 1) := dk_3 (dk_at dksX3_isRiver_0 13 rfl rfl)
theorem dX3_isRiver_14 : decode cX3_isRiver 14 = .ok (.ireturn, 1) := dk_172 (dk_at dksX3_isRiver_0 14 rfl rfl)
abbrev cX3_forceAt : ByteArray := prog_17_method_68_code
def yX3_forceAt : MethodName := ⟨RX3, "forceAt", "(I)I"⟩
def dkwX3_forceAt_1 : List UInt8 := [180, 0, 52, 28, 46, 172, 132, 2, 1, 167, 255, 226, 3, 172]
abbrev dktX3_forceAt_1 : List UInt8 := dkwX3_forceAt_1 ++ []
def dkwX3_forceAt_0 : List UInt8 := [3, 61, 28, 42, 180, 0, 9, 8, 46, 162, 0, 26, 42, 180, 0, 49, 28, 46, 27, 160, 0, 10, 42]
abbrev dktX3_forceAt_0 : List UInt8 := dkwX3_forceAt_0 ++ dktX3_forceAt_1
theorem dksX3_forceAt_0 : cX3_forceAt.data.toList.drop 0 = dktX3_forceAt_0 := by decide +kernel
theorem dksX3_forceAt_1 : cX3_forceAt.data.toList.drop 23 = dktX3_forceAt_1 := dk_seg dksX3_forceAt_0 23 rfl rfl
theorem dX3_forceAt_0 : decode cX3_forceAt 0 = .ok (.iconst 0, 1) := dk_3 (dk_at dksX3_forceAt_0 0 rfl rfl)
theorem dX3_forceAt_1 : decode cX3_forceAt 1 = .ok (.istore_n 2, 1) := dk_61 (dk_at dksX3_forceAt_0 1 rfl rfl)
theorem dX3_forceAt_2 : decode cX3_forceAt 2 = .ok (.iload_n 2, 1) := dk_28 (dk_at dksX3_forceAt_0 2 rfl rfl)
theorem dX3_forceAt_3 : decode cX3_forceAt 3 = .ok (.aload_n 0, 1) := dk_42 (dk_at dksX3_forceAt_0 3 rfl rfl)
theorem dX3_forceAt_4 : decode cX3_forceAt 4 = .ok (.getfield 9, 3) := dk_180 0 9 (dk_at dksX3_forceAt_0 4 rfl rfl)
theorem dX3_forceAt_7 : decode cX3_forceAt 7 = .ok (.iconst 5, 1) := dk_8 (dk_at dksX3_forceAt_0 7 rfl rfl)
theorem dX3_forceAt_8 : decode cX3_forceAt 8 = .ok (.iaload, 1) := dk_46 (dk_at dksX3_forceAt_0 8 rfl rfl)
theorem dX3_forceAt_9 : decode cX3_forceAt 9 = .ok (.if_icmp .ge 26, 3) := dk_162 0 26 (dk_at dksX3_forceAt_0 9 rfl rfl)
theorem dX3_forceAt_12 : decode cX3_forceAt 12 = .ok (.aload_n 0, 1) := dk_42 (dk_at dksX3_forceAt_0 12 rfl rfl)
theorem dX3_forceAt_13 : decode cX3_forceAt 13 = .ok (.getfield 49, 3) := dk_180 0 49 (dk_at dksX3_forceAt_0 13 rfl rfl)
theorem dX3_forceAt_16 : decode cX3_forceAt 16 = .ok (.iload_n 2, 1) := dk_28 (dk_at dksX3_forceAt_0 16 rfl rfl)
theorem dX3_forceAt_17 : decode cX3_forceAt 17 = .ok (.iaload, 1) := dk_46 (dk_at dksX3_forceAt_0 17 rfl rfl)
theorem dX3_forceAt_18 : decode cX3_forceAt 18 = .ok (.iload_n 1, 1) := dk_27 (dk_at dksX3_forceAt_0 18 rfl rfl)
theorem dX3_forceAt_19 : decode cX3_forceAt 19 = .ok (.if_icmp .ne 10, 3) := dk_160 0 10 (dk_at dksX3_forceAt_0 19 rfl rfl)
theorem dX3_forceAt_22 : decode cX3_forceAt 22 = .ok (.aload_n 0, 1) := dk_42 (dk_at dksX3_forceAt_0 22 rfl rfl)
theorem dX3_forceAt_23 : decode cX3_forceAt 23 = .ok (.getfield 52, 3) := dk_180 0 52 (dk_at dksX3_forceAt_1 0 rfl rfl)
theorem dX3_forceAt_26 : decode cX3_forceAt 26 = .ok (.iload_n 2, 1) := dk_28 (dk_at dksX3_forceAt_1 3 rfl rfl)
theorem dX3_forceAt_27 : decode cX3_forceAt 27 = .ok (.iaload, 1) := dk_46 (dk_at dksX3_forceAt_1 4 rfl rfl)
theorem dX3_forceAt_28 : decode cX3_forceAt 28 = .ok (.ireturn, 1) := dk_172 (dk_at dksX3_forceAt_1 5 rfl rfl)
theorem dX3_forceAt_29 : decode cX3_forceAt 29 = .ok (.iinc 2 1, 3) := dk_132 2 1 (dk_at dksX3_forceAt_1 6 rfl rfl)
theorem dX3_forceAt_32 : decode cX3_forceAt 32 = .ok (.goto (-30), 3) := dk_167 255 226 (dk_at dksX3_forceAt_1 9 rfl rfl)
theorem dX3_forceAt_35 : decode cX3_forceAt 35 = .ok (.iconst 0, 1) := dk_3 (dk_at dksX3_forceAt_1 12 rfl rfl)
theorem dX3_forceAt_36 : decode cX3_forceAt 36 = .ok (.ireturn, 1) := dk_172 (dk_at dksX3_forceAt_1 13 rfl rfl)
abbrev cX3_margin : ByteArray := prog_17_method_70_code
def yX3_margin : MethodName := ⟨RX3, "margin", "(I)I"⟩
def dkwX3_margin_1 : List UInt8 := [17, 216, 240, 172]
abbrev dktX3_margin_1 : List UInt8 := dkwX3_margin_1 ++ []
def dkwX3_margin_0 : List UInt8 := [42, 27, 182, 1, 180, 153, 0, 19, 42, 42, 27, 182, 1, 168, 42, 182, 1, 140, 182, 1, 159, 167, 0, 6]
abbrev dktX3_margin_0 : List UInt8 := dkwX3_margin_0 ++ dktX3_margin_1
theorem dksX3_margin_0 : cX3_margin.data.toList.drop 0 = dktX3_margin_0 := by decide +kernel
theorem dksX3_margin_1 : cX3_margin.data.toList.drop 24 = dktX3_margin_1 := dk_seg dksX3_margin_0 24 rfl rfl
theorem dX3_margin_0 : decode cX3_margin 0 = .ok (.aload_n 0, 1) := dk_42 (dk_at dksX3_margin_0 0 rfl rfl)
theorem dX3_margin_1 : decode cX3_margin 1 = .ok (.iload_n 1, 1) := dk_27 (dk_at dksX3_margin_0 1 rfl rfl)
theorem dX3_margin_2 : decode cX3_margin 2 = .ok (.invokevirtual 436, 3) := dk_182 1 180 (dk_at dksX3_margin_0 2 rfl rfl)
theorem dX3_margin_5 : decode cX3_margin 5 = .ok (.ifCond .eq 19, 3) := dk_153 0 19 (dk_at dksX3_margin_0 5 rfl rfl)
theorem dX3_margin_8 : decode cX3_margin 8 = .ok (.aload_n 0, 1) := dk_42 (dk_at dksX3_margin_0 8 rfl rfl)
theorem dX3_margin_9 : decode cX3_margin 9 = .ok (.aload_n 0, 1) := dk_42 (dk_at dksX3_margin_0 9 rfl rfl)
theorem dX3_margin_10 : decode cX3_margin 10 = .ok (.iload_n 1, 1) := dk_27 (dk_at dksX3_margin_0 10 rfl rfl)
theorem dX3_margin_11 : decode cX3_margin 11 = .ok (.invokevirtual 424, 3) := dk_182 1 168 (dk_at dksX3_margin_0 11 rfl rfl)
theorem dX3_margin_14 : decode cX3_margin 14 = .ok (.aload_n 0, 1) := dk_42 (dk_at dksX3_margin_0 14 rfl rfl)
theorem dX3_margin_15 : decode cX3_margin 15 = .ok (.invokevirtual 396, 3) := dk_182 1 140 (dk_at dksX3_margin_0 15 rfl rfl)
theorem dX3_margin_18 : decode cX3_margin 18 = .ok (.invokevirtual 415, 3) := dk_182 1 159 (dk_at dksX3_margin_0 18 rfl rfl)
theorem dX3_margin_21 : decode cX3_margin 21 = .ok (.goto 6, 3) := dk_167 0 6 (dk_at dksX3_margin_0 21 rfl rfl)
theorem dX3_margin_24 : decode cX3_margin 24 = .ok (.sipush (-10000), 3) := dk_17 216 240 (dk_at dksX3_margin_1 0 rfl rfl)
theorem dX3_margin_27 : decode cX3_margin 27 = .ok (.ireturn, 1) := dk_172 (dk_at dksX3_margin_1 3 rfl rfl)
abbrev cX3_isAfloat : ByteArray := prog_17_method_9_code
def yX3_isAfloat : MethodName := ⟨RX3, "isAfloat", "(I)Z"⟩
def dkwX3_isAfloat_0 : List UInt8 := [42, 27, 182, 0, 180, 153, 0, 16, 42, 180, 0, 34, 27, 46, 154, 0, 7, 4, 167, 0, 4, 3, 172]
abbrev dktX3_isAfloat_0 : List UInt8 := dkwX3_isAfloat_0 ++ []
theorem dksX3_isAfloat_0 : cX3_isAfloat.data.toList.drop 0 = dktX3_isAfloat_0 := by decide +kernel
theorem dX3_isAfloat_0 : decode cX3_isAfloat 0 = .ok (.aload_n 0, 1) := dk_42 (dk_at dksX3_isAfloat_0 0 rfl rfl)
theorem dX3_isAfloat_1 : decode cX3_isAfloat 1 = .ok (.iload_n 1, 1) := dk_27 (dk_at dksX3_isAfloat_0 1 rfl rfl)
theorem dX3_isAfloat_2 : decode cX3_isAfloat 2 = .ok (.invokevirtual 180, 3) := dk_182 0 180 (dk_at dksX3_isAfloat_0 2 rfl rfl)
theorem dX3_isAfloat_5 : decode cX3_isAfloat 5 = .ok (.ifCond .eq 16, 3) := dk_153 0 16 (dk_at dksX3_isAfloat_0 5 rfl rfl)
theorem dX3_isAfloat_8 : decode cX3_isAfloat 8 = .ok (.aload_n 0, 1) := dk_42 (dk_at dksX3_isAfloat_0 8 rfl rfl)
theorem dX3_isAfloat_9 : decode cX3_isAfloat 9 = .ok (.getfield 34, 3) := dk_180 0 34 (dk_at dksX3_isAfloat_0 9 rfl rfl)
theorem dX3_isAfloat_12 : decode cX3_isAfloat 12 = .ok (.iload_n 1, 1) := dk_27 (dk_at dksX3_isAfloat_0 12 rfl rfl)
theorem dX3_isAfloat_13 : decode cX3_isAfloat 13 = .ok (.iaload, 1) := dk_46 (dk_at dksX3_isAfloat_0 13 rfl rfl)
theorem dX3_isAfloat_14 : decode cX3_isAfloat 14 = .ok (.ifCond .ne 7, 3) := dk_154 0 7 (dk_at dksX3_isAfloat_0 14 rfl rfl)
theorem dX3_isAfloat_17 : decode cX3_isAfloat 17 = .ok (.iconst 1, 1) := dk_4 (dk_at dksX3_isAfloat_0 17 rfl rfl)
theorem dX3_isAfloat_18 : decode cX3_isAfloat 18 = .ok (.goto 4, 3) := dk_167 0 4 (dk_at dksX3_isAfloat_0 18 rfl rfl)
theorem dX3_isAfloat_21 : decode cX3_isAfloat 21 = .ok (.iconst 0, 1) := dk_3 (dk_at dksX3_isAfloat_0 21 rfl rfl)
theorem dX3_isAfloat_22 : decode cX3_isAfloat 22 = .ok (.ireturn, 1) := dk_172 (dk_at dksX3_isAfloat_0 22 rfl rfl)
abbrev cX3_marginOf : ByteArray := prog_17_method_63_code
def yX3_marginOf : MethodName := ⟨RX3, "marginOf", "(II)I"⟩
def dkwX3_marginOf_0 : List UInt8 := [42, 27, 182, 1, 150, 42, 27, 182, 1, 153, 100, 42, 27, 28, 182, 1, 156, 100, 172]
abbrev dktX3_marginOf_0 : List UInt8 := dkwX3_marginOf_0 ++ []
theorem dksX3_marginOf_0 : cX3_marginOf.data.toList.drop 0 = dktX3_marginOf_0 := by decide +kernel
theorem dX3_marginOf_0 : decode cX3_marginOf 0 = .ok (.aload_n 0, 1) := dk_42 (dk_at dksX3_marginOf_0 0 rfl rfl)
theorem dX3_marginOf_1 : decode cX3_marginOf 1 = .ok (.iload_n 1, 1) := dk_27 (dk_at dksX3_marginOf_0 1 rfl rfl)
theorem dX3_marginOf_2 : decode cX3_marginOf 2 = .ok (.invokevirtual 406, 3) := dk_182 1 150 (dk_at dksX3_marginOf_0 2 rfl rfl)
theorem dX3_marginOf_5 : decode cX3_marginOf 5 = .ok (.aload_n 0, 1) := dk_42 (dk_at dksX3_marginOf_0 5 rfl rfl)
theorem dX3_marginOf_6 : decode cX3_marginOf 6 = .ok (.iload_n 1, 1) := dk_27 (dk_at dksX3_marginOf_0 6 rfl rfl)
theorem dX3_marginOf_7 : decode cX3_marginOf 7 = .ok (.invokevirtual 409, 3) := dk_182 1 153 (dk_at dksX3_marginOf_0 7 rfl rfl)
theorem dX3_marginOf_10 : decode cX3_marginOf 10 = .ok (.isub, 1) := dk_100 (dk_at dksX3_marginOf_0 10 rfl rfl)
theorem dX3_marginOf_11 : decode cX3_marginOf 11 = .ok (.aload_n 0, 1) := dk_42 (dk_at dksX3_marginOf_0 11 rfl rfl)
theorem dX3_marginOf_12 : decode cX3_marginOf 12 = .ok (.iload_n 1, 1) := dk_27 (dk_at dksX3_marginOf_0 12 rfl rfl)
theorem dX3_marginOf_13 : decode cX3_marginOf 13 = .ok (.iload_n 2, 1) := dk_28 (dk_at dksX3_marginOf_0 13 rfl rfl)
theorem dX3_marginOf_14 : decode cX3_marginOf 14 = .ok (.invokevirtual 412, 3) := dk_182 1 156 (dk_at dksX3_marginOf_0 14 rfl rfl)
theorem dX3_marginOf_17 : decode cX3_marginOf 17 = .ok (.isub, 1) := dk_100 (dk_at dksX3_marginOf_0 17 rfl rfl)
theorem dX3_marginOf_18 : decode cX3_marginOf 18 = .ok (.ireturn, 1) := dk_172 (dk_at dksX3_marginOf_0 18 rfl rfl)
abbrev cX3_floatOf : ByteArray := prog_17_method_60_code
def yX3_floatOf : MethodName := ⟨RX3, "floatOf", "(I)I"⟩
def dkwX3_floatOf_1 : List UInt8 := [180, 0, 28, 29, 46, 167, 0, 4, 3, 96, 61, 132, 3, 1, 167, 255, 222, 28, 172]
abbrev dktX3_floatOf_1 : List UInt8 := dkwX3_floatOf_1 ++ []
def dkwX3_floatOf_0 : List UInt8 := [3, 61, 3, 62, 29, 42, 180, 0, 9, 6, 46, 162, 0, 30, 28, 27, 29, 184, 1, 134, 153, 0, 12, 42]
abbrev dktX3_floatOf_0 : List UInt8 := dkwX3_floatOf_0 ++ dktX3_floatOf_1
theorem dksX3_floatOf_0 : cX3_floatOf.data.toList.drop 0 = dktX3_floatOf_0 := by decide +kernel
theorem dksX3_floatOf_1 : cX3_floatOf.data.toList.drop 24 = dktX3_floatOf_1 := dk_seg dksX3_floatOf_0 24 rfl rfl
theorem dX3_floatOf_0 : decode cX3_floatOf 0 = .ok (.iconst 0, 1) := dk_3 (dk_at dksX3_floatOf_0 0 rfl rfl)
theorem dX3_floatOf_1 : decode cX3_floatOf 1 = .ok (.istore_n 2, 1) := dk_61 (dk_at dksX3_floatOf_0 1 rfl rfl)
theorem dX3_floatOf_2 : decode cX3_floatOf 2 = .ok (.iconst 0, 1) := dk_3 (dk_at dksX3_floatOf_0 2 rfl rfl)
theorem dX3_floatOf_3 : decode cX3_floatOf 3 = .ok (.istore_n 3, 1) := dk_62 (dk_at dksX3_floatOf_0 3 rfl rfl)
theorem dX3_floatOf_4 : decode cX3_floatOf 4 = .ok (.iload_n 3, 1) := dk_29 (dk_at dksX3_floatOf_0 4 rfl rfl)
theorem dX3_floatOf_5 : decode cX3_floatOf 5 = .ok (.aload_n 0, 1) := dk_42 (dk_at dksX3_floatOf_0 5 rfl rfl)
theorem dX3_floatOf_6 : decode cX3_floatOf 6 = .ok (.getfield 9, 3) := dk_180 0 9 (dk_at dksX3_floatOf_0 6 rfl rfl)
theorem dX3_floatOf_9 : decode cX3_floatOf 9 = .ok (.iconst 3, 1) := dk_6 (dk_at dksX3_floatOf_0 9 rfl rfl)
theorem dX3_floatOf_10 : decode cX3_floatOf 10 = .ok (.iaload, 1) := dk_46 (dk_at dksX3_floatOf_0 10 rfl rfl)
theorem dX3_floatOf_11 : decode cX3_floatOf 11 = .ok (.if_icmp .ge 30, 3) := dk_162 0 30 (dk_at dksX3_floatOf_0 11 rfl rfl)
theorem dX3_floatOf_14 : decode cX3_floatOf 14 = .ok (.iload_n 2, 1) := dk_28 (dk_at dksX3_floatOf_0 14 rfl rfl)
theorem dX3_floatOf_15 : decode cX3_floatOf 15 = .ok (.iload_n 1, 1) := dk_27 (dk_at dksX3_floatOf_0 15 rfl rfl)
theorem dX3_floatOf_16 : decode cX3_floatOf 16 = .ok (.iload_n 3, 1) := dk_29 (dk_at dksX3_floatOf_0 16 rfl rfl)
theorem dX3_floatOf_17 : decode cX3_floatOf 17 = .ok (.invokestatic 390, 3) := dk_184 1 134 (dk_at dksX3_floatOf_0 17 rfl rfl)
theorem dX3_floatOf_20 : decode cX3_floatOf 20 = .ok (.ifCond .eq 12, 3) := dk_153 0 12 (dk_at dksX3_floatOf_0 20 rfl rfl)
theorem dX3_floatOf_23 : decode cX3_floatOf 23 = .ok (.aload_n 0, 1) := dk_42 (dk_at dksX3_floatOf_0 23 rfl rfl)
theorem dX3_floatOf_24 : decode cX3_floatOf 24 = .ok (.getfield 28, 3) := dk_180 0 28 (dk_at dksX3_floatOf_1 0 rfl rfl)
theorem dX3_floatOf_27 : decode cX3_floatOf 27 = .ok (.iload_n 3, 1) := dk_29 (dk_at dksX3_floatOf_1 3 rfl rfl)
theorem dX3_floatOf_28 : decode cX3_floatOf 28 = .ok (.iaload, 1) := dk_46 (dk_at dksX3_floatOf_1 4 rfl rfl)
theorem dX3_floatOf_29 : decode cX3_floatOf 29 = .ok (.goto 4, 3) := dk_167 0 4 (dk_at dksX3_floatOf_1 5 rfl rfl)
theorem dX3_floatOf_32 : decode cX3_floatOf 32 = .ok (.iconst 0, 1) := dk_3 (dk_at dksX3_floatOf_1 8 rfl rfl)
theorem dX3_floatOf_33 : decode cX3_floatOf 33 = .ok (.iadd, 1) := dk_96 (dk_at dksX3_floatOf_1 9 rfl rfl)
theorem dX3_floatOf_34 : decode cX3_floatOf 34 = .ok (.istore_n 2, 1) := dk_61 (dk_at dksX3_floatOf_1 10 rfl rfl)
theorem dX3_floatOf_35 : decode cX3_floatOf 35 = .ok (.iinc 3 1, 3) := dk_132 3 1 (dk_at dksX3_floatOf_1 11 rfl rfl)
theorem dX3_floatOf_38 : decode cX3_floatOf 38 = .ok (.goto (-34), 3) := dk_167 255 222 (dk_at dksX3_floatOf_1 14 rfl rfl)
theorem dX3_floatOf_41 : decode cX3_floatOf 41 = .ok (.iload_n 2, 1) := dk_28 (dk_at dksX3_floatOf_1 17 rfl rfl)
theorem dX3_floatOf_42 : decode cX3_floatOf 42 = .ok (.ireturn, 1) := dk_172 (dk_at dksX3_floatOf_1 18 rfl rfl)
abbrev cX3_weightOf : ByteArray := prog_17_method_61_code
def yX3_weightOf : MethodName := ⟨RX3, "weightOf", "(I)I"⟩
def dkwX3_weightOf_1 : List UInt8 := [180, 0, 25, 29, 46, 167, 0, 4, 3, 96, 61, 132, 3, 1, 167, 255, 222, 28, 172]
abbrev dktX3_weightOf_1 : List UInt8 := dkwX3_weightOf_1 ++ []
def dkwX3_weightOf_0 : List UInt8 := [3, 61, 3, 62, 29, 42, 180, 0, 9, 6, 46, 162, 0, 30, 28, 27, 29, 184, 1, 134, 153, 0, 12, 42]
abbrev dktX3_weightOf_0 : List UInt8 := dkwX3_weightOf_0 ++ dktX3_weightOf_1
theorem dksX3_weightOf_0 : cX3_weightOf.data.toList.drop 0 = dktX3_weightOf_0 := by decide +kernel
theorem dksX3_weightOf_1 : cX3_weightOf.data.toList.drop 24 = dktX3_weightOf_1 := dk_seg dksX3_weightOf_0 24 rfl rfl
theorem dX3_weightOf_0 : decode cX3_weightOf 0 = .ok (.iconst 0, 1) := dk_3 (dk_at dksX3_weightOf_0 0 rfl rfl)
theorem dX3_weightOf_1 : decode cX3_weightOf 1 = .ok (.istore_n 2, 1) := dk_61 (dk_at dksX3_weightOf_0 1 rfl rfl)
theorem dX3_weightOf_2 : decode cX3_weightOf 2 = .ok (.iconst 0, 1) := dk_3 (dk_at dksX3_weightOf_0 2 rfl rfl)
theorem dX3_weightOf_3 : decode cX3_weightOf 3 = .ok (.istore_n 3, 1) := dk_62 (dk_at dksX3_weightOf_0 3 rfl rfl)
theorem dX3_weightOf_4 : decode cX3_weightOf 4 = .ok (.iload_n 3, 1) := dk_29 (dk_at dksX3_weightOf_0 4 rfl rfl)
theorem dX3_weightOf_5 : decode cX3_weightOf 5 = .ok (.aload_n 0, 1) := dk_42 (dk_at dksX3_weightOf_0 5 rfl rfl)
theorem dX3_weightOf_6 : decode cX3_weightOf 6 = .ok (.getfield 9, 3) := dk_180 0 9 (dk_at dksX3_weightOf_0 6 rfl rfl)
theorem dX3_weightOf_9 : decode cX3_weightOf 9 = .ok (.iconst 3, 1) := dk_6 (dk_at dksX3_weightOf_0 9 rfl rfl)
theorem dX3_weightOf_10 : decode cX3_weightOf 10 = .ok (.iaload, 1) := dk_46 (dk_at dksX3_weightOf_0 10 rfl rfl)
theorem dX3_weightOf_11 : decode cX3_weightOf 11 = .ok (.if_icmp .ge 30, 3) := dk_162 0 30 (dk_at dksX3_weightOf_0 11 rfl rfl)
theorem dX3_weightOf_14 : decode cX3_weightOf 14 = .ok (.iload_n 2, 1) := dk_28 (dk_at dksX3_weightOf_0 14 rfl rfl)
theorem dX3_weightOf_15 : decode cX3_weightOf 15 = .ok (.iload_n 1, 1) := dk_27 (dk_at dksX3_weightOf_0 15 rfl rfl)
theorem dX3_weightOf_16 : decode cX3_weightOf 16 = .ok (.iload_n 3, 1) := dk_29 (dk_at dksX3_weightOf_0 16 rfl rfl)
theorem dX3_weightOf_17 : decode cX3_weightOf 17 = .ok (.invokestatic 390, 3) := dk_184 1 134 (dk_at dksX3_weightOf_0 17 rfl rfl)
theorem dX3_weightOf_20 : decode cX3_weightOf 20 = .ok (.ifCond .eq 12, 3) := dk_153 0 12 (dk_at dksX3_weightOf_0 20 rfl rfl)
theorem dX3_weightOf_23 : decode cX3_weightOf 23 = .ok (.aload_n 0, 1) := dk_42 (dk_at dksX3_weightOf_0 23 rfl rfl)
theorem dX3_weightOf_24 : decode cX3_weightOf 24 = .ok (.getfield 25, 3) := dk_180 0 25 (dk_at dksX3_weightOf_1 0 rfl rfl)
theorem dX3_weightOf_27 : decode cX3_weightOf 27 = .ok (.iload_n 3, 1) := dk_29 (dk_at dksX3_weightOf_1 3 rfl rfl)
theorem dX3_weightOf_28 : decode cX3_weightOf 28 = .ok (.iaload, 1) := dk_46 (dk_at dksX3_weightOf_1 4 rfl rfl)
theorem dX3_weightOf_29 : decode cX3_weightOf 29 = .ok (.goto 4, 3) := dk_167 0 4 (dk_at dksX3_weightOf_1 5 rfl rfl)
theorem dX3_weightOf_32 : decode cX3_weightOf 32 = .ok (.iconst 0, 1) := dk_3 (dk_at dksX3_weightOf_1 8 rfl rfl)
theorem dX3_weightOf_33 : decode cX3_weightOf 33 = .ok (.iadd, 1) := dk_96 (dk_at dksX3_weightOf_1 9 rfl rfl)
theorem dX3_weightOf_34 : decode cX3_weightOf 34 = .ok (.istore_n 2, 1) := dk_61 (dk_at dksX3_weightOf_1 10 rfl rfl)
theorem dX3_weightOf_35 : decode cX3_weightOf 35 = .ok (.iinc 3 1, 3) := dk_132 3 1 (dk_at dksX3_weightOf_1 11 rfl rfl)
theorem dX3_weightOf_38 : decode cX3_weightOf 38 = .ok (.goto (-34), 3) := dk_167 255 222 (dk_at dksX3_weightOf_1 14 rfl rfl)
theorem dX3_weightOf_41 : decode cX3_weightOf 41 = .ok (.iload_n 2, 1) := dk_28 (dk_at dksX3_weightOf_1 17 rfl rfl)
theorem dX3_weightOf_42 : decode cX3_weightOf 42 = .ok (.ireturn, 1) := dk_172 (dk_at dksX3_weightOf_1 18 rfl rfl)
abbrev cX3_ridersOf : ByteArray := prog_17_method_62_code
def yX3_ridersOf : MethodName := ⟨RX3, "ridersOf", "(II)I"⟩
def dkwX3_ridersOf_2 : List UInt8 := [172]
abbrev dktX3_ridersOf_2 : List UInt8 := dkwX3_ridersOf_2 ++ []
def dkwX3_ridersOf_1 : List UInt8 := [27, 160, 0, 13, 42, 180, 0, 16, 21, 4, 46, 167, 0, 4, 3, 96, 62, 132, 4, 1, 167, 255, 217, 29]
abbrev dktX3_ridersOf_1 : List UInt8 := dkwX3_ridersOf_1 ++ dktX3_ridersOf_2
def dkwX3_ridersOf_0 : List UInt8 := [3, 62, 3, 54, 4, 21, 4, 42, 180, 0, 9, 5, 46, 162, 0, 34, 29, 42, 21, 4, 28, 182, 1, 147]
abbrev dktX3_ridersOf_0 : List UInt8 := dkwX3_ridersOf_0 ++ dktX3_ridersOf_1
theorem dksX3_ridersOf_0 : cX3_ridersOf.data.toList.drop 0 = dktX3_ridersOf_0 := by decide +kernel
theorem dksX3_ridersOf_1 : cX3_ridersOf.data.toList.drop 24 = dktX3_ridersOf_1 := dk_seg dksX3_ridersOf_0 24 rfl rfl
theorem dksX3_ridersOf_2 : cX3_ridersOf.data.toList.drop 48 = dktX3_ridersOf_2 := dk_seg dksX3_ridersOf_1 24 rfl rfl
theorem dX3_ridersOf_0 : decode cX3_ridersOf 0 = .ok (.iconst 0, 1) := dk_3 (dk_at dksX3_ridersOf_0 0 rfl rfl)
theorem dX3_ridersOf_1 : decode cX3_ridersOf 1 = .ok (.istore_n 3, 1) := dk_62 (dk_at dksX3_ridersOf_0 1 rfl rfl)
theorem dX3_ridersOf_2 : decode cX3_ridersOf 2 = .ok (.iconst 0, 1) := dk_3 (dk_at dksX3_ridersOf_0 2 rfl rfl)
theorem dX3_ridersOf_3 : decode cX3_ridersOf 3 = .ok (.istore 4, 2) := dk_54 4 (dk_at dksX3_ridersOf_0 3 rfl rfl)
theorem dX3_ridersOf_5 : decode cX3_ridersOf 5 = .ok (.iload 4, 2) := dk_21 4 (dk_at dksX3_ridersOf_0 5 rfl rfl)
theorem dX3_ridersOf_7 : decode cX3_ridersOf 7 = .ok (.aload_n 0, 1) := dk_42 (dk_at dksX3_ridersOf_0 7 rfl rfl)
theorem dX3_ridersOf_8 : decode cX3_ridersOf 8 = .ok (.getfield 9, 3) := dk_180 0 9 (dk_at dksX3_ridersOf_0 8 rfl rfl)
theorem dX3_ridersOf_11 : decode cX3_ridersOf 11 = .ok (.iconst 2, 1) := dk_5 (dk_at dksX3_ridersOf_0 11 rfl rfl)
theorem dX3_ridersOf_12 : decode cX3_ridersOf 12 = .ok (.iaload, 1) := dk_46 (dk_at dksX3_ridersOf_0 12 rfl rfl)
theorem dX3_ridersOf_13 : decode cX3_ridersOf 13 = .ok (.if_icmp .ge 34, 3) := dk_162 0 34 (dk_at dksX3_ridersOf_0 13 rfl rfl)
theorem dX3_ridersOf_16 : decode cX3_ridersOf 16 = .ok (.iload_n 3, 1) := dk_29 (dk_at dksX3_ridersOf_0 16 rfl rfl)
theorem dX3_ridersOf_17 : decode cX3_ridersOf 17 = .ok (.aload_n 0, 1) := dk_42 (dk_at dksX3_ridersOf_0 17 rfl rfl)
theorem dX3_ridersOf_18 : decode cX3_ridersOf 18 = .ok (.iload 4, 2) := dk_21 4 (dk_at dksX3_ridersOf_0 18 rfl rfl)
theorem dX3_ridersOf_20 : decode cX3_ridersOf 20 = .ok (.iload_n 2, 1) := dk_28 (dk_at dksX3_ridersOf_0 20 rfl rfl)
theorem dX3_ridersOf_21 : decode cX3_ridersOf 21 = .ok (.invokevirtual 403, 3) := dk_182 1 147 (dk_at dksX3_ridersOf_0 21 rfl rfl)
theorem dX3_ridersOf_24 : decode cX3_ridersOf 24 = .ok (.iload_n 1, 1) := dk_27 (dk_at dksX3_ridersOf_1 0 rfl rfl)
theorem dX3_ridersOf_25 : decode cX3_ridersOf 25 = .ok (.if_icmp .ne 13, 3) := dk_160 0 13 (dk_at dksX3_ridersOf_1 1 rfl rfl)
theorem dX3_ridersOf_28 : decode cX3_ridersOf 28 = .ok (.aload_n 0, 1) := dk_42 (dk_at dksX3_ridersOf_1 4 rfl rfl)
theorem dX3_ridersOf_29 : decode cX3_ridersOf 29 = .ok (.getfield 16, 3) := dk_180 0 16 (dk_at dksX3_ridersOf_1 5 rfl rfl)
theorem dX3_ridersOf_32 : decode cX3_ridersOf 32 = .ok (.iload 4, 2) := dk_21 4 (dk_at dksX3_ridersOf_1 8 rfl rfl)
theorem dX3_ridersOf_34 : decode cX3_ridersOf 34 = .ok (.iaload, 1) := dk_46 (dk_at dksX3_ridersOf_1 10 rfl rfl)
theorem dX3_ridersOf_35 : decode cX3_ridersOf 35 = .ok (.goto 4, 3) := dk_167 0 4 (dk_at dksX3_ridersOf_1 11 rfl rfl)
theorem dX3_ridersOf_38 : decode cX3_ridersOf 38 = .ok (.iconst 0, 1) := dk_3 (dk_at dksX3_ridersOf_1 14 rfl rfl)
theorem dX3_ridersOf_39 : decode cX3_ridersOf 39 = .ok (.iadd, 1) := dk_96 (dk_at dksX3_ridersOf_1 15 rfl rfl)
theorem dX3_ridersOf_40 : decode cX3_ridersOf 40 = .ok (.istore_n 3, 1) := dk_62 (dk_at dksX3_ridersOf_1 16 rfl rfl)
theorem dX3_ridersOf_41 : decode cX3_ridersOf 41 = .ok (.iinc 4 1, 3) := dk_132 4 1 (dk_at dksX3_ridersOf_1 17 rfl rfl)
theorem dX3_ridersOf_44 : decode cX3_ridersOf 44 = .ok (.goto (-39), 3) := dk_167 255 217 (dk_at dksX3_ridersOf_1 20 rfl rfl)
theorem dX3_ridersOf_47 : decode cX3_ridersOf 47 = .ok (.iload_n 3, 1) := dk_29 (dk_at dksX3_ridersOf_1 23 rfl rfl)
theorem dX3_ridersOf_48 : decode cX3_ridersOf 48 = .ok (.ireturn, 1) := dk_172 (dk_at dksX3_ridersOf_2 0 rfl rfl)
abbrev cX3_undo : ByteArray := prog_17_method_83_code
def yX3_undo : MethodName := ⟨RX3, "undo", "()I"⟩
def dkwX3_undo_1 : List UInt8 := [180, 1, 103, 4, 182, 1, 227, 42, 180, 1, 103, 172]
abbrev dktX3_undo_1 : List UInt8 := dkwX3_undo_1 ++ []
def dkwX3_undo_0 : List UInt8 := [42, 180, 1, 103, 154, 0, 6, 16, 254, 172, 42, 89, 180, 1, 103, 4, 100, 181, 1, 103, 42, 42]
abbrev dktX3_undo_0 : List UInt8 := dkwX3_undo_0 ++ dktX3_undo_1
theorem dksX3_undo_0 : cX3_undo.data.toList.drop 0 = dktX3_undo_0 := by decide +kernel
theorem dksX3_undo_1 : cX3_undo.data.toList.drop 22 = dktX3_undo_1 := dk_seg dksX3_undo_0 22 rfl rfl
theorem dX3_undo_0 : decode cX3_undo 0 = .ok (.aload_n 0, 1) := dk_42 (dk_at dksX3_undo_0 0 rfl rfl)
theorem dX3_undo_1 : decode cX3_undo 1 = .ok (.getfield 359, 3) := dk_180 1 103 (dk_at dksX3_undo_0 1 rfl rfl)
theorem dX3_undo_4 : decode cX3_undo 4 = .ok (.ifCond .ne 6, 3) := dk_154 0 6 (dk_at dksX3_undo_0 4 rfl rfl)
theorem dX3_undo_7 : decode cX3_undo 7 = .ok (.bipush (-2), 2) := dk_16 254 (dk_at dksX3_undo_0 7 rfl rfl)
theorem dX3_undo_9 : decode cX3_undo 9 = .ok (.ireturn, 1) := dk_172 (dk_at dksX3_undo_0 9 rfl rfl)
theorem dX3_undo_10 : decode cX3_undo 10 = .ok (.aload_n 0, 1) := dk_42 (dk_at dksX3_undo_0 10 rfl rfl)
theorem dX3_undo_11 : decode cX3_undo 11 = .ok (.dup, 1) := dk_89 (dk_at dksX3_undo_0 11 rfl rfl)
theorem dX3_undo_12 : decode cX3_undo 12 = .ok (.getfield 359, 3) := dk_180 1 103 (dk_at dksX3_undo_0 12 rfl rfl)
theorem dX3_undo_15 : decode cX3_undo 15 = .ok (.iconst 1, 1) := dk_4 (dk_at dksX3_undo_0 15 rfl rfl)
theorem dX3_undo_16 : decode cX3_undo 16 = .ok (.isub, 1) := dk_100 (dk_at dksX3_undo_0 16 rfl rfl)
theorem dX3_undo_17 : decode cX3_undo 17 = .ok (.putfield 359, 3) := dk_181 1 103 (dk_at dksX3_undo_0 17 rfl rfl)
theorem dX3_undo_20 : decode cX3_undo 20 = .ok (.aload_n 0, 1) := dk_42 (dk_at dksX3_undo_0 20 rfl rfl)
theorem dX3_undo_21 : decode cX3_undo 21 = .ok (.aload_n 0, 1) := dk_42 (dk_at dksX3_undo_0 21 rfl rfl)
theorem dX3_undo_22 : decode cX3_undo 22 = .ok (.getfield 359, 3) := dk_180 1 103 (dk_at dksX3_undo_1 0 rfl rfl)
theorem dX3_undo_25 : decode cX3_undo 25 = .ok (.iconst 1, 1) := dk_4 (dk_at dksX3_undo_1 3 rfl rfl)
theorem dX3_undo_26 : decode cX3_undo 26 = .ok (.invokevirtual 483, 3) := dk_182 1 227 (dk_at dksX3_undo_1 4 rfl rfl)
theorem dX3_undo_29 : decode cX3_undo 29 = .ok (.aload_n 0, 1) := dk_42 (dk_at dksX3_undo_1 7 rfl rfl)
theorem dX3_undo_30 : decode cX3_undo 30 = .ok (.getfield 359, 3) := dk_180 1 103 (dk_at dksX3_undo_1 8 rfl rfl)
theorem dX3_undo_33 : decode cX3_undo 33 = .ok (.ireturn, 1) := dk_172 (dk_at dksX3_undo_1 11 rfl rfl)
abbrev cX3_movesAll : ByteArray := prog_17_method_81_code
def yX3_movesAll : MethodName := ⟨RX3, "movesAll", "(IZ)V"⟩
def dkwX3_movesAll_5 : List UInt8 := [42, 180, 0, 46, 182, 1, 223, 177]
abbrev dktX3_movesAll_5 : List UInt8 := dkwX3_movesAll_5 ++ []
def dkwX3_movesAll_4 : List UInt8 := [42, 180, 0, 37, 182, 1, 223, 42, 42, 180, 0, 40, 182, 1, 223, 42, 42, 180, 0, 43, 182, 1, 223, 42]
abbrev dktX3_movesAll_4 : List UInt8 := dkwX3_movesAll_4 ++ dktX3_movesAll_5
def dkwX3_movesAll_3 : List UInt8 := [42, 180, 0, 22, 182, 1, 223, 42, 42, 180, 0, 28, 182, 1, 223, 42, 42, 180, 0, 34, 182, 1, 223, 42]
abbrev dktX3_movesAll_3 : List UInt8 := dkwX3_movesAll_3 ++ dktX3_movesAll_4
def dkwX3_movesAll_2 : List UInt8 := [180, 0, 9, 7, 42, 42, 180, 0, 9, 7, 46, 182, 1, 220, 79, 42, 42, 180, 0, 19, 182, 1, 223, 42]
abbrev dktX3_movesAll_2 : List UInt8 := dkwX3_movesAll_2 ++ dktX3_movesAll_3
def dkwX3_movesAll_1 : List UInt8 := [16, 6, 46, 182, 1, 220, 79, 42, 180, 0, 9, 4, 42, 42, 180, 0, 9, 4, 46, 182, 1, 220, 79, 42]
abbrev dktX3_movesAll_1 : List UInt8 := dkwX3_movesAll_1 ++ dktX3_movesAll_2
def dkwX3_movesAll_0 : List UInt8 := [42, 16, 77, 27, 104, 181, 1, 217, 42, 28, 181, 1, 213, 42, 180, 0, 9, 16, 6, 42, 42, 180, 0, 9]
abbrev dktX3_movesAll_0 : List UInt8 := dkwX3_movesAll_0 ++ dktX3_movesAll_1
theorem dksX3_movesAll_0 : cX3_movesAll.data.toList.drop 0 = dktX3_movesAll_0 := by decide +kernel
theorem dksX3_movesAll_1 : cX3_movesAll.data.toList.drop 24 = dktX3_movesAll_1 := dk_seg dksX3_movesAll_0 24 rfl rfl
theorem dksX3_movesAll_2 : cX3_movesAll.data.toList.drop 48 = dktX3_movesAll_2 := dk_seg dksX3_movesAll_1 24 rfl rfl
theorem dksX3_movesAll_3 : cX3_movesAll.data.toList.drop 72 = dktX3_movesAll_3 := dk_seg dksX3_movesAll_2 24 rfl rfl
theorem dksX3_movesAll_4 : cX3_movesAll.data.toList.drop 96 = dktX3_movesAll_4 := dk_seg dksX3_movesAll_3 24 rfl rfl
theorem dksX3_movesAll_5 : cX3_movesAll.data.toList.drop 120 = dktX3_movesAll_5 := dk_seg dksX3_movesAll_4 24 rfl rfl
theorem dX3_movesAll_0 : decode cX3_movesAll 0 = .ok (.aload_n 0, 1) := dk_42 (dk_at dksX3_movesAll_0 0 rfl rfl)
theorem dX3_movesAll_1 : decode cX3_movesAll 1 = .ok (.bipush 77, 2) := dk_16 77 (dk_at dksX3_movesAll_0 1 rfl rfl)
theorem dX3_movesAll_3 : decode cX3_movesAll 3 = .ok (.iload_n 1, 1) := dk_27 (dk_at dksX3_movesAll_0 3 rfl rfl)
theorem dX3_movesAll_4 : decode cX3_movesAll 4 = .ok (.imul, 1) := dk_104 (dk_at dksX3_movesAll_0 4 rfl rfl)
theorem dX3_movesAll_5 : decode cX3_movesAll 5 = .ok (.putfield 473, 3) := dk_181 1 217 (dk_at dksX3_movesAll_0 5 rfl rfl)
theorem dX3_movesAll_8 : decode cX3_movesAll 8 = .ok (.aload_n 0, 1) := dk_42 (dk_at dksX3_movesAll_0 8 rfl rfl)
theorem dX3_movesAll_9 : decode cX3_movesAll 9 = .ok (.iload_n 2, 1) := dk_28 (dk_at dksX3_movesAll_0 9 rfl rfl)
theorem dX3_movesAll_10 : decode cX3_movesAll 10 = .ok (.putfield 469, 3) := dk_181 1 213 (dk_at dksX3_movesAll_0 10 rfl rfl)
theorem dX3_movesAll_13 : decode cX3_movesAll 13 = .ok (.aload_n 0, 1) := dk_42 (dk_at dksX3_movesAll_0 13 rfl rfl)
theorem dX3_movesAll_14 : decode cX3_movesAll 14 = .ok (.getfield 9, 3) := dk_180 0 9 (dk_at dksX3_movesAll_0 14 rfl rfl)
theorem dX3_movesAll_17 : decode cX3_movesAll 17 = .ok (.bipush 6, 2) := dk_16 6 (dk_at dksX3_movesAll_0 17 rfl rfl)
theorem dX3_movesAll_19 : decode cX3_movesAll 19 = .ok (.aload_n 0, 1) := dk_42 (dk_at dksX3_movesAll_0 19 rfl rfl)
theorem dX3_movesAll_20 : decode cX3_movesAll 20 = .ok (.aload_n 0, 1) := dk_42 (dk_at dksX3_movesAll_0 20 rfl rfl)
theorem dX3_movesAll_21 : decode cX3_movesAll 21 = .ok (.getfield 9, 3) := dk_180 0 9 (dk_at dksX3_movesAll_0 21 rfl rfl)
theorem dX3_movesAll_24 : decode cX3_movesAll 24 = .ok (.bipush 6, 2) := dk_16 6 (dk_at dksX3_movesAll_1 0 rfl rfl)
theorem dX3_movesAll_26 : decode cX3_movesAll 26 = .ok (.iaload, 1) := dk_46 (dk_at dksX3_movesAll_1 2 rfl rfl)
theorem dX3_movesAll_27 : decode cX3_movesAll 27 = .ok (.invokevirtual 476, 3) := dk_182 1 220 (dk_at dksX3_movesAll_1 3 rfl rfl)
theorem dX3_movesAll_30 : decode cX3_movesAll 30 = .ok (.iastore, 1) := dk_79 (dk_at dksX3_movesAll_1 6 rfl rfl)
theorem dX3_movesAll_31 : decode cX3_movesAll 31 = .ok (.aload_n 0, 1) := dk_42 (dk_at dksX3_movesAll_1 7 rfl rfl)
theorem dX3_movesAll_32 : decode cX3_movesAll 32 = .ok (.getfield 9, 3) := dk_180 0 9 (dk_at dksX3_movesAll_1 8 rfl rfl)
theorem dX3_movesAll_35 : decode cX3_movesAll 35 = .ok (.iconst 1, 1) := dk_4 (dk_at dksX3_movesAll_1 11 rfl rfl)
theorem dX3_movesAll_36 : decode cX3_movesAll 36 = .ok (.aload_n 0, 1) := dk_42 (dk_at dksX3_movesAll_1 12 rfl rfl)
theorem dX3_movesAll_37 : decode cX3_movesAll 37 = .ok (.aload_n 0, 1) := dk_42 (dk_at dksX3_movesAll_1 13 rfl rfl)
theorem dX3_movesAll_38 : decode cX3_movesAll 38 = .ok (.getfield 9, 3) := dk_180 0 9 (dk_at dksX3_movesAll_1 14 rfl rfl)
theorem dX3_movesAll_41 : decode cX3_movesAll 41 = .ok (.iconst 1, 1) := dk_4 (dk_at dksX3_movesAll_1 17 rfl rfl)
theorem dX3_movesAll_42 : decode cX3_movesAll 42 = .ok (.iaload, 1) := dk_46 (dk_at dksX3_movesAll_1 18 rfl rfl)
theorem dX3_movesAll_43 : decode cX3_movesAll 43 = .ok (.invokevirtual 476, 3) := dk_182 1 220 (dk_at dksX3_movesAll_1 19 rfl rfl)
theorem dX3_movesAll_46 : decode cX3_movesAll 46 = .ok (.iastore, 1) := dk_79 (dk_at dksX3_movesAll_1 22 rfl rfl)
theorem dX3_movesAll_47 : decode cX3_movesAll 47 = .ok (.aload_n 0, 1) := dk_42 (dk_at dksX3_movesAll_1 23 rfl rfl)
theorem dX3_movesAll_48 : decode cX3_movesAll 48 = .ok (.getfield 9, 3) := dk_180 0 9 (dk_at dksX3_movesAll_2 0 rfl rfl)
theorem dX3_movesAll_51 : decode cX3_movesAll 51 = .ok (.iconst 4, 1) := dk_7 (dk_at dksX3_movesAll_2 3 rfl rfl)
theorem dX3_movesAll_52 : decode cX3_movesAll 52 = .ok (.aload_n 0, 1) := dk_42 (dk_at dksX3_movesAll_2 4 rfl rfl)
theorem dX3_movesAll_53 : decode cX3_movesAll 53 = .ok (.aload_n 0, 1) := dk_42 (dk_at dksX3_movesAll_2 5 rfl rfl)
theorem dX3_movesAll_54 : decode cX3_movesAll 54 = .ok (.getfield 9, 3) := dk_180 0 9 (dk_at dksX3_movesAll_2 6 rfl rfl)
theorem dX3_movesAll_57 : decode cX3_movesAll 57 = .ok (.iconst 4, 1) := dk_7 (dk_at dksX3_movesAll_2 9 rfl rfl)
theorem dX3_movesAll_58 : decode cX3_movesAll 58 = .ok (.iaload, 1) := dk_46 (dk_at dksX3_movesAll_2 10 rfl rfl)
theorem dX3_movesAll_59 : decode cX3_movesAll 59 = .ok (.invokevirtual 476, 3) := dk_182 1 220 (dk_at dksX3_movesAll_2 11 rfl rfl)
theorem dX3_movesAll_62 : decode cX3_movesAll 62 = .ok (.iastore, 1) := dk_79 (dk_at dksX3_movesAll_2 14 rfl rfl)
theorem dX3_movesAll_63 : decode cX3_movesAll 63 = .ok (.aload_n 0, 1) := dk_42 (dk_at dksX3_movesAll_2 15 rfl rfl)
theorem dX3_movesAll_64 : decode cX3_movesAll 64 = .ok (.aload_n 0, 1) := dk_42 (dk_at dksX3_movesAll_2 16 rfl rfl)
theorem dX3_movesAll_65 : decode cX3_movesAll 65 = .ok (.getfield 19, 3) := dk_180 0 19 (dk_at dksX3_movesAll_2 17 rfl rfl)
theorem dX3_movesAll_68 : decode cX3_movesAll 68 = .ok (.invokevirtual 479, 3) := dk_182 1 223 (dk_at dksX3_movesAll_2 20 rfl rfl)
theorem dX3_movesAll_71 : decode cX3_movesAll 71 = .ok (.aload_n 0, 1) := dk_42 (dk_at dksX3_movesAll_2 23 rfl rfl)
theorem dX3_movesAll_72 : decode cX3_movesAll 72 = .ok (.aload_n 0, 1) := dk_42 (dk_at dksX3_movesAll_3 0 rfl rfl)
theorem dX3_movesAll_73 : decode cX3_movesAll 73 = .ok (.getfield 22, 3) := dk_180 0 22 (dk_at dksX3_movesAll_3 1 rfl rfl)
theorem dX3_movesAll_76 : decode cX3_movesAll 76 = .ok (.invokevirtual 479, 3) := dk_182 1 223 (dk_at dksX3_movesAll_3 4 rfl rfl)
theorem dX3_movesAll_79 : decode cX3_movesAll 79 = .ok (.aload_n 0, 1) := dk_42 (dk_at dksX3_movesAll_3 7 rfl rfl)
theorem dX3_movesAll_80 : decode cX3_movesAll 80 = .ok (.aload_n 0, 1) := dk_42 (dk_at dksX3_movesAll_3 8 rfl rfl)
theorem dX3_movesAll_81 : decode cX3_movesAll 81 = .ok (.getfield 28, 3) := dk_180 0 28 (dk_at dksX3_movesAll_3 9 rfl rfl)
theorem dX3_movesAll_84 : decode cX3_movesAll 84 = .ok (.invokevirtual 479, 3) := dk_182 1 223 (dk_at dksX3_movesAll_3 12 rfl rfl)
theorem dX3_movesAll_87 : decode cX3_movesAll 87 = .ok (.aload_n 0, 1) := dk_42 (dk_at dksX3_movesAll_3 15 rfl rfl)
theorem dX3_movesAll_88 : decode cX3_movesAll 88 = .ok (.aload_n 0, 1) := dk_42 (dk_at dksX3_movesAll_3 16 rfl rfl)
theorem dX3_movesAll_89 : decode cX3_movesAll 89 = .ok (.getfield 34, 3) := dk_180 0 34 (dk_at dksX3_movesAll_3 17 rfl rfl)
theorem dX3_movesAll_92 : decode cX3_movesAll 92 = .ok (.invokevirtual 479, 3) := dk_182 1 223 (dk_at dksX3_movesAll_3 20 rfl rfl)
theorem dX3_movesAll_95 : decode cX3_movesAll 95 = .ok (.aload_n 0, 1) := dk_42 (dk_at dksX3_movesAll_3 23 rfl rfl)
theorem dX3_movesAll_96 : decode cX3_movesAll 96 = .ok (.aload_n 0, 1) := dk_42 (dk_at dksX3_movesAll_4 0 rfl rfl)
theorem dX3_movesAll_97 : decode cX3_movesAll 97 = .ok (.getfield 37, 3) := dk_180 0 37 (dk_at dksX3_movesAll_4 1 rfl rfl)
theorem dX3_movesAll_100 : decode cX3_movesAll 100 = .ok (.invokevirtual 479, 3) := dk_182 1 223 (dk_at dksX3_movesAll_4 4 rfl rfl)
theorem dX3_movesAll_103 : decode cX3_movesAll 103 = .ok (.aload_n 0, 1) := dk_42 (dk_at dksX3_movesAll_4 7 rfl rfl)
theorem dX3_movesAll_104 : decode cX3_movesAll 104 = .ok (.aload_n 0, 1) := dk_42 (dk_at dksX3_movesAll_4 8 rfl rfl)
theorem dX3_movesAll_105 : decode cX3_movesAll 105 = .ok (.getfield 40, 3) := dk_180 0 40 (dk_at dksX3_movesAll_4 9 rfl rfl)
theorem dX3_movesAll_108 : decode cX3_movesAll 108 = .ok (.invokevirtual 479, 3) := dk_182 1 223 (dk_at dksX3_movesAll_4 12 rfl rfl)
theorem dX3_movesAll_111 : decode cX3_movesAll 111 = .ok (.aload_n 0, 1) := dk_42 (dk_at dksX3_movesAll_4 15 rfl rfl)
theorem dX3_movesAll_112 : decode cX3_movesAll 112 = .ok (.aload_n 0, 1) := dk_42 (dk_at dksX3_movesAll_4 16 rfl rfl)
theorem dX3_movesAll_113 : decode cX3_movesAll 113 = .ok (.getfield 43, 3) := dk_180 0 43 (dk_at dksX3_movesAll_4 17 rfl rfl)
theorem dX3_movesAll_116 : decode cX3_movesAll 116 = .ok (.invokevirtual 479, 3) := dk_182 1 223 (dk_at dksX3_movesAll_4 20 rfl rfl)
theorem dX3_movesAll_119 : decode cX3_movesAll 119 = .ok (.aload_n 0, 1) := dk_42 (dk_at dksX3_movesAll_4 23 rfl rfl)
theorem dX3_movesAll_120 : decode cX3_movesAll 120 = .ok (.aload_n 0, 1) := dk_42 (dk_at dksX3_movesAll_5 0 rfl rfl)
theorem dX3_movesAll_121 : decode cX3_movesAll 121 = .ok (.getfield 46, 3) := dk_180 0 46 (dk_at dksX3_movesAll_5 1 rfl rfl)
theorem dX3_movesAll_124 : decode cX3_movesAll 124 = .ok (.invokevirtual 479, 3) := dk_182 1 223 (dk_at dksX3_movesAll_5 4 rfl rfl)
theorem dX3_movesAll_127 : decode cX3_movesAll 127 = .ok (.return_, 1) := dk_177 (dk_at dksX3_movesAll_5 7 rfl rfl)
abbrev cX3_moves : ByteArray := prog_17_method_79_code
def yX3_moves : MethodName := ⟨RX3, "moves", "(I)I"⟩
def dkwX3_moves_1 : List UInt8 := [180, 0, 136, 42, 180, 1, 217, 28, 79, 42, 89, 180, 1, 217, 4, 96, 181, 1, 217, 28, 172]
abbrev dktX3_moves_1 : List UInt8 := dkwX3_moves_1 ++ []
def dkwX3_moves_0 : List UInt8 := [42, 180, 1, 213, 153, 0, 15, 42, 180, 0, 136, 42, 180, 1, 217, 46, 167, 0, 4, 27, 61, 42]
abbrev dktX3_moves_0 : List UInt8 := dkwX3_moves_0 ++ dktX3_moves_1
theorem dksX3_moves_0 : cX3_moves.data.toList.drop 0 = dktX3_moves_0 := by decide +kernel
theorem dksX3_moves_1 : cX3_moves.data.toList.drop 22 = dktX3_moves_1 := dk_seg dksX3_moves_0 22 rfl rfl
theorem dX3_moves_0 : decode cX3_moves 0 = .ok (.aload_n 0, 1) := dk_42 (dk_at dksX3_moves_0 0 rfl rfl)
theorem dX3_moves_1 : decode cX3_moves 1 = .ok (.getfield 469, 3) := dk_180 1 213 (dk_at dksX3_moves_0 1 rfl rfl)
theorem dX3_moves_4 : decode cX3_moves 4 = .ok (.ifCond .eq 15, 3) := dk_153 0 15 (dk_at dksX3_moves_0 4 rfl rfl)
theorem dX3_moves_7 : decode cX3_moves 7 = .ok (.aload_n 0, 1) := dk_42 (dk_at dksX3_moves_0 7 rfl rfl)
theorem dX3_moves_8 : decode cX3_moves 8 = .ok (.getfield 136, 3) := dk_180 0 136 (dk_at dksX3_moves_0 8 rfl rfl)
theorem dX3_moves_11 : decode cX3_moves 11 = .ok (.aload_n 0, 1) := dk_42 (dk_at dksX3_moves_0 11 rfl rfl)
theorem dX3_moves_12 : decode cX3_moves 12 = .ok (.getfield 473, 3) := dk_180 1 217 (dk_at dksX3_moves_0 12 rfl rfl)
theorem dX3_moves_15 : decode cX3_moves 15 = .ok (.iaload, 1) := dk_46 (dk_at dksX3_moves_0 15 rfl rfl)
theorem dX3_moves_16 : decode cX3_moves 16 = .ok (.goto 4, 3) := dk_167 0 4 (dk_at dksX3_moves_0 16 rfl rfl)
theorem dX3_moves_19 : decode cX3_moves 19 = .ok (.iload_n 1, 1) := dk_27 (dk_at dksX3_moves_0 19 rfl rfl)
theorem dX3_moves_20 : decode cX3_moves 20 = .ok (.istore_n 2, 1) := dk_61 (dk_at dksX3_moves_0 20 rfl rfl)
theorem dX3_moves_21 : decode cX3_moves 21 = .ok (.aload_n 0, 1) := dk_42 (dk_at dksX3_moves_0 21 rfl rfl)
theorem dX3_moves_22 : decode cX3_moves 22 = .ok (.getfield 136, 3) := dk_180 0 136 (dk_at dksX3_moves_1 0 rfl rfl)
theorem dX3_moves_25 : decode cX3_moves 25 = .ok (.aload_n 0, 1) := dk_42 (dk_at dksX3_moves_1 3 rfl rfl)
theorem dX3_moves_26 : decode cX3_moves 26 = .ok (.getfield 473, 3) := dk_180 1 217 (dk_at dksX3_moves_1 4 rfl rfl)
theorem dX3_moves_29 : decode cX3_moves 29 = .ok (.iload_n 2, 1) := dk_28 (dk_at dksX3_moves_1 7 rfl rfl)
theorem dX3_moves_30 : decode cX3_moves 30 = .ok (.iastore, 1) := dk_79 (dk_at dksX3_moves_1 8 rfl rfl)
theorem dX3_moves_31 : decode cX3_moves 31 = .ok (.aload_n 0, 1) := dk_42 (dk_at dksX3_moves_1 9 rfl rfl)
theorem dX3_moves_32 : decode cX3_moves 32 = .ok (.dup, 1) := dk_89 (dk_at dksX3_moves_1 10 rfl rfl)
theorem dX3_moves_33 : decode cX3_moves 33 = .ok (.getfield 473, 3) := dk_180 1 217 (dk_at dksX3_moves_1 11 rfl rfl)
theorem dX3_moves_36 : decode cX3_moves 36 = .ok (.iconst 1, 1) := dk_4 (dk_at dksX3_moves_1 14 rfl rfl)
theorem dX3_moves_37 : decode cX3_moves 37 = .ok (.iadd, 1) := dk_96 (dk_at dksX3_moves_1 15 rfl rfl)
theorem dX3_moves_38 : decode cX3_moves 38 = .ok (.putfield 473, 3) := dk_181 1 217 (dk_at dksX3_moves_1 16 rfl rfl)
theorem dX3_moves_41 : decode cX3_moves 41 = .ok (.iload_n 2, 1) := dk_28 (dk_at dksX3_moves_1 19 rfl rfl)
theorem dX3_moves_42 : decode cX3_moves 42 = .ok (.ireturn, 1) := dk_172 (dk_at dksX3_moves_1 20 rfl rfl)
abbrev cX3_movesRow : ByteArray := prog_17_method_80_code
def yX3_movesRow : MethodName := ⟨RX3, "movesRow", "([I)V"⟩
def dkwX3_movesRow_1 : List UInt8 := [177]
abbrev dktX3_movesRow_1 : List UInt8 := dkwX3_movesRow_1 ++ []
def dkwX3_movesRow_0 : List UInt8 := [3, 61, 28, 43, 190, 162, 0, 19, 43, 28, 42, 43, 28, 46, 182, 1, 220, 79, 132, 2, 1, 167, 255, 237]
abbrev dktX3_movesRow_0 : List UInt8 := dkwX3_movesRow_0 ++ dktX3_movesRow_1
theorem dksX3_movesRow_0 : cX3_movesRow.data.toList.drop 0 = dktX3_movesRow_0 := by decide +kernel
theorem dksX3_movesRow_1 : cX3_movesRow.data.toList.drop 24 = dktX3_movesRow_1 := dk_seg dksX3_movesRow_0 24 rfl rfl
theorem dX3_movesRow_0 : decode cX3_movesRow 0 = .ok (.iconst 0, 1) := dk_3 (dk_at dksX3_movesRow_0 0 rfl rfl)
theorem dX3_movesRow_1 : decode cX3_movesRow 1 = .ok (.istore_n 2, 1) := dk_61 (dk_at dksX3_movesRow_0 1 rfl rfl)
theorem dX3_movesRow_2 : decode cX3_movesRow 2 = .ok (.iload_n 2, 1) := dk_28 (dk_at dksX3_movesRow_0 2 rfl rfl)
theorem dX3_movesRow_3 : decode cX3_movesRow 3 = .ok (.aload_n 1, 1) := dk_43 (dk_at dksX3_movesRow_0 3 rfl rfl)
theorem dX3_movesRow_4 : decode cX3_movesRow 4 = .ok (.arraylength, 1) := dk_190 (dk_at dksX3_movesRow_0 4 rfl rfl)
theorem dX3_movesRow_5 : decode cX3_movesRow 5 = .ok (.if_icmp .ge 19, 3) := dk_162 0 19 (dk_at dksX3_movesRow_0 5 rfl rfl)
theorem dX3_movesRow_8 : decode cX3_movesRow 8 = .ok (.aload_n 1, 1) := dk_43 (dk_at dksX3_movesRow_0 8 rfl rfl)
theorem dX3_movesRow_9 : decode cX3_movesRow 9 = .ok (.iload_n 2, 1) := dk_28 (dk_at dksX3_movesRow_0 9 rfl rfl)
theorem dX3_movesRow_10 : decode cX3_movesRow 10 = .ok (.aload_n 0, 1) := dk_42 (dk_at dksX3_movesRow_0 10 rfl rfl)
theorem dX3_movesRow_11 : decode cX3_movesRow 11 = .ok (.aload_n 1, 1) := dk_43 (dk_at dksX3_movesRow_0 11 rfl rfl)
theorem dX3_movesRow_12 : decode cX3_movesRow 12 = .ok (.iload_n 2, 1) := dk_28 (dk_at dksX3_movesRow_0 12 rfl rfl)
theorem dX3_movesRow_13 : decode cX3_movesRow 13 = .ok (.iaload, 1) := dk_46 (dk_at dksX3_movesRow_0 13 rfl rfl)
theorem dX3_movesRow_14 : decode cX3_movesRow 14 = .ok (.invokevirtual 476, 3) := dk_182 1 220 (dk_at dksX3_movesRow_0 14 rfl rfl)
theorem dX3_movesRow_17 : decode cX3_movesRow 17 = .ok (.iastore, 1) := dk_79 (dk_at dksX3_movesRow_0 17 rfl rfl)
theorem dX3_movesRow_18 : decode cX3_movesRow 18 = .ok (.iinc 2 1, 3) := dk_132 2 1 (dk_at dksX3_movesRow_0 18 rfl rfl)
theorem dX3_movesRow_21 : decode cX3_movesRow 21 = .ok (.goto (-19), 3) := dk_167 255 237 (dk_at dksX3_movesRow_0 21 rfl rfl)
theorem dX3_movesRow_24 : decode cX3_movesRow 24 = .ok (.return_, 1) := dk_177 (dk_at dksX3_movesRow_1 0 rfl rfl)
abbrev cX3_mile : ByteArray := prog_17_method_84_code
def yX3_mile : MethodName := ⟨RX3, "mile", "()I"⟩
def dkwX3_mile_1 : List UInt8 := [172]
abbrev dktX3_mile_1 : List UInt8 := dkwX3_mile_1 ++ []
def dkwX3_mile_0 : List UInt8 := [42, 182, 1, 174, 153, 0, 10, 42, 182, 1, 231, 154, 0, 5, 2, 172, 42, 182, 1, 234, 42, 182, 1, 237]
abbrev dktX3_mile_0 : List UInt8 := dkwX3_mile_0 ++ dktX3_mile_1
theorem dksX3_mile_0 : cX3_mile.data.toList.drop 0 = dktX3_mile_0 := by decide +kernel
theorem dksX3_mile_1 : cX3_mile.data.toList.drop 24 = dktX3_mile_1 := dk_seg dksX3_mile_0 24 rfl rfl
theorem dX3_mile_0 : decode cX3_mile 0 = .ok (.aload_n 0, 1) := dk_42 (dk_at dksX3_mile_0 0 rfl rfl)
theorem dX3_mile_1 : decode cX3_mile 1 = .ok (.invokevirtual 430, 3) := dk_182 1 174 (dk_at dksX3_mile_0 1 rfl rfl)
theorem dX3_mile_4 : decode cX3_mile 4 = .ok (.ifCond .eq 10, 3) := dk_153 0 10 (dk_at dksX3_mile_0 4 rfl rfl)
theorem dX3_mile_7 : decode cX3_mile 7 = .ok (.aload_n 0, 1) := dk_42 (dk_at dksX3_mile_0 7 rfl rfl)
theorem dX3_mile_8 : decode cX3_mile 8 = .ok (.invokevirtual 487, 3) := dk_182 1 231 (dk_at dksX3_mile_0 8 rfl rfl)
theorem dX3_mile_11 : decode cX3_mile 11 = .ok (.ifCond .ne 5, 3) := dk_154 0 5 (dk_at dksX3_mile_0 11 rfl rfl)
theorem dX3_mile_14 : decode cX3_mile 14 = .ok (.iconst (-1), 1) := dk_2 (dk_at dksX3_mile_0 14 rfl rfl)
theorem dX3_mile_15 : decode cX3_mile 15 = .ok (.ireturn, 1) := dk_172 (dk_at dksX3_mile_0 15 rfl rfl)
theorem dX3_mile_16 : decode cX3_mile 16 = .ok (.aload_n 0, 1) := dk_42 (dk_at dksX3_mile_0 16 rfl rfl)
theorem dX3_mile_17 : decode cX3_mile 17 = .ok (.invokevirtual 490, 3) := dk_182 1 234 (dk_at dksX3_mile_0 17 rfl rfl)
theorem dX3_mile_20 : decode cX3_mile 20 = .ok (.aload_n 0, 1) := dk_42 (dk_at dksX3_mile_0 20 rfl rfl)
theorem dX3_mile_21 : decode cX3_mile 21 = .ok (.invokevirtual 493, 3) := dk_182 1 237 (dk_at dksX3_mile_0 21 rfl rfl)
theorem dX3_mile_24 : decode cX3_mile 24 = .ok (.ireturn, 1) := dk_172 (dk_at dksX3_mile_1 0 rfl rfl)
abbrev cX3_milesLeft : ByteArray := prog_17_method_11_code
def yX3_milesLeft : MethodName := ⟨RX3, "milesLeft", "()I"⟩
def dkwX3_milesLeft_0 : List UInt8 := [42, 180, 0, 9, 3, 46, 42, 180, 0, 9, 16, 6, 46, 100, 172]
abbrev dktX3_milesLeft_0 : List UInt8 := dkwX3_milesLeft_0 ++ []
theorem dksX3_milesLeft_0 : cX3_milesLeft.data.toList.drop 0 = dktX3_milesLeft_0 := by decide +kernel
theorem dX3_milesLeft_0 : decode cX3_milesLeft 0 = .ok (.aload_n 0, 1) := dk_42 (dk_at dksX3_milesLeft_0 0 rfl rfl)
theorem dX3_milesLeft_1 : decode cX3_milesLeft 1 = .ok (.getfield 9, 3) := dk_180 0 9 (dk_at dksX3_milesLeft_0 1 rfl rfl)
theorem dX3_milesLeft_4 : decode cX3_milesLeft 4 = .ok (.iconst 0, 1) := dk_3 (dk_at dksX3_milesLeft_0 4 rfl rfl)
theorem dX3_milesLeft_5 : decode cX3_milesLeft 5 = .ok (.iaload, 1) := dk_46 (dk_at dksX3_milesLeft_0 5 rfl rfl)
theorem dX3_milesLeft_6 : decode cX3_milesLeft 6 = .ok (.aload_n 0, 1) := dk_42 (dk_at dksX3_milesLeft_0 6 rfl rfl)
theorem dX3_milesLeft_7 : decode cX3_milesLeft 7 = .ok (.getfield 9, 3) := dk_180 0 9 (dk_at dksX3_milesLeft_0 7 rfl rfl)
theorem dX3_milesLeft_10 : decode cX3_milesLeft 10 = .ok (.bipush 6, 2) := dk_16 6 (dk_at dksX3_milesLeft_0 10 rfl rfl)
theorem dX3_milesLeft_12 : decode cX3_milesLeft 12 = .ok (.iaload, 1) := dk_46 (dk_at dksX3_milesLeft_0 12 rfl rfl)
theorem dX3_milesLeft_13 : decode cX3_milesLeft 13 = .ok (.isub, 1) := dk_100 (dk_at dksX3_milesLeft_0 13 rfl rfl)
theorem dX3_milesLeft_14 : decode cX3_milesLeft 14 = .ok (.ireturn, 1) := dk_172 (dk_at dksX3_milesLeft_0 14 rfl rfl)
abbrev cX3_keepsAct : ByteArray := prog_17_method_82_code
def yX3_keepsAct : MethodName := ⟨RX3, "keepsAct", "()V"⟩
def dkwX3_keepsAct_2 : List UInt8 := [181, 1, 103, 42, 42, 180, 1, 103, 3, 182, 1, 227, 42, 89, 180, 1, 103, 4, 96, 181, 1, 103, 177]
abbrev dktX3_keepsAct_2 : List UInt8 := dkwX3_keepsAct_2 ++ []
def dkwX3_keepsAct_1 : List UInt8 := [16, 77, 100, 42, 180, 0, 136, 27, 46, 79, 132, 1, 1, 167, 255, 231, 42, 89, 180, 1, 103, 4, 100]
abbrev dktX3_keepsAct_1 : List UInt8 := dkwX3_keepsAct_1 ++ dktX3_keepsAct_2
def dkwX3_keepsAct_0 : List UInt8 := [42, 180, 1, 103, 16, 20, 160, 0, 44, 16, 77, 60, 27, 17, 6, 4, 162, 0, 24, 42, 180, 0, 136, 27]
abbrev dktX3_keepsAct_0 : List UInt8 := dkwX3_keepsAct_0 ++ dktX3_keepsAct_1
theorem dksX3_keepsAct_0 : cX3_keepsAct.data.toList.drop 0 = dktX3_keepsAct_0 := by decide +kernel
theorem dksX3_keepsAct_1 : cX3_keepsAct.data.toList.drop 24 = dktX3_keepsAct_1 := dk_seg dksX3_keepsAct_0 24 rfl rfl
theorem dksX3_keepsAct_2 : cX3_keepsAct.data.toList.drop 47 = dktX3_keepsAct_2 := dk_seg dksX3_keepsAct_1 23 rfl rfl
theorem dX3_keepsAct_0 : decode cX3_keepsAct 0 = .ok (.aload_n 0, 1) := dk_42 (dk_at dksX3_keepsAct_0 0 rfl rfl)
theorem dX3_keepsAct_1 : decode cX3_keepsAct 1 = .ok (.getfield 359, 3) := dk_180 1 103 (dk_at dksX3_keepsAct_0 1 rfl rfl)
theorem dX3_keepsAct_4 : decode cX3_keepsAct 4 = .ok (.bipush 20, 2) := dk_16 20 (dk_at dksX3_keepsAct_0 4 rfl rfl)
theorem dX3_keepsAct_6 : decode cX3_keepsAct 6 = .ok (.if_icmp .ne 44, 3) := dk_160 0 44 (dk_at dksX3_keepsAct_0 6 rfl rfl)
theorem dX3_keepsAct_9 : decode cX3_keepsAct 9 = .ok (.bipush 77, 2) := dk_16 77 (dk_at dksX3_keepsAct_0 9 rfl rfl)
theorem dX3_keepsAct_11 : decode cX3_keepsAct 11 = .ok (.istore_n 1, 1) := dk_60 (dk_at dksX3_keepsAct_0 11 rfl rfl)
theorem dX3_keepsAct_12 : decode cX3_keepsAct 12 = .ok (.iload_n 1, 1) := dk_27 (dk_at dksX3_keepsAct_0 12 rfl rfl)
theorem dX3_keepsAct_13 : decode cX3_keepsAct 13 = .ok (.sipush 1540, 3) := dk_17 6 4 (dk_at dksX3_keepsAct_0 13 rfl rfl)
theorem dX3_keepsAct_16 : decode cX3_keepsAct 16 = .ok (.if_icmp .ge 24, 3) := dk_162 0 24 (dk_at dksX3_keepsAct_0 16 rfl rfl)
theorem dX3_keepsAct_19 : decode cX3_keepsAct 19 = .ok (.aload_n 0, 1) := dk_42 (dk_at dksX3_keepsAct_0 19 rfl rfl)
theorem dX3_keepsAct_20 : decode cX3_keepsAct 20 = .ok (.getfield 136, 3) := dk_180 0 136 (dk_at dksX3_keepsAct_0 20 rfl rfl)
theorem dX3_keepsAct_23 : decode cX3_keepsAct 23 = .ok (.iload_n 1, 1) := dk_27 (dk_at dksX3_keepsAct_0 23 rfl rfl)
theorem dX3_keepsAct_24 : decode cX3_keepsAct 24 = .ok (.bipush 77, 2) := dk_16 77 (dk_at dksX3_keepsAct_1 0 rfl rfl)
theorem dX3_keepsAct_26 : decode cX3_keepsAct 26 = .ok (.isub, 1) := dk_100 (dk_at dksX3_keepsAct_1 2 rfl rfl)
theorem dX3_keepsAct_27 : decode cX3_keepsAct 27 = .ok (.aload_n 0, 1) := dk_42 (dk_at dksX3_keepsAct_1 3 rfl rfl)
theorem dX3_keepsAct_28 : decode cX3_keepsAct 28 = .ok (.getfield 136, 3) := dk_180 0 136 (dk_at dksX3_keepsAct_1 4 rfl rfl)
theorem dX3_keepsAct_31 : decode cX3_keepsAct 31 = .ok (.iload_n 1, 1) := dk_27 (dk_at dksX3_keepsAct_1 7 rfl rfl)
theorem dX3_keepsAct_32 : decode cX3_keepsAct 32 = .ok (.iaload, 1) := dk_46 (dk_at dksX3_keepsAct_1 8 rfl rfl)
theorem dX3_keepsAct_33 : decode cX3_keepsAct 33 = .ok (.iastore, 1) := dk_79 (dk_at dksX3_keepsAct_1 9 rfl rfl)
theorem dX3_keepsAct_34 : decode cX3_keepsAct 34 = .ok (.iinc 1 1, 3) := dk_132 1 1 (dk_at dksX3_keepsAct_1 10 rfl rfl)
theorem dX3_keepsAct_37 : decode cX3_keepsAct 37 = .ok (.goto (-25), 3) := dk_167 255 231 (dk_at dksX3_keepsAct_1 13 rfl rfl)
theorem dX3_keepsAct_40 : decode cX3_keepsAct 40 = .ok (.aload_n 0, 1) := dk_42 (dk_at dksX3_keepsAct_1 16 rfl rfl)
theorem dX3_keepsAct_41 : decode cX3_keepsAct 41 = .ok (.dup, 1) := dk_89 (dk_at dksX3_keepsAct_1 17 rfl rfl)
theorem dX3_keepsAct_42 : decode cX3_keepsAct 42 = .ok (.getfield 359, 3) := dk_180 1 103 (dk_at dksX3_keepsAct_1 18 rfl rfl)
theorem dX3_keepsAct_45 : decode cX3_keepsAct 45 = .ok (.iconst 1, 1) := dk_4 (dk_at dksX3_keepsAct_1 21 rfl rfl)
theorem dX3_keepsAct_46 : decode cX3_keepsAct 46 = .ok (.isub, 1) := dk_100 (dk_at dksX3_keepsAct_1 22 rfl rfl)
theorem dX3_keepsAct_47 : decode cX3_keepsAct 47 = .ok (.putfield 359, 3) := dk_181 1 103 (dk_at dksX3_keepsAct_2 0 rfl rfl)
theorem dX3_keepsAct_50 : decode cX3_keepsAct 50 = .ok (.aload_n 0, 1) := dk_42 (dk_at dksX3_keepsAct_2 3 rfl rfl)
theorem dX3_keepsAct_51 : decode cX3_keepsAct 51 = .ok (.aload_n 0, 1) := dk_42 (dk_at dksX3_keepsAct_2 4 rfl rfl)
theorem dX3_keepsAct_52 : decode cX3_keepsAct 52 = .ok (.getfield 359, 3) := dk_180 1 103 (dk_at dksX3_keepsAct_2 5 rfl rfl)
theorem dX3_keepsAct_55 : decode cX3_keepsAct 55 = .ok (.iconst 0, 1) := dk_3 (dk_at dksX3_keepsAct_2 8 rfl rfl)
theorem dX3_keepsAct_56 : decode cX3_keepsAct 56 = .ok (.invokevirtual 483, 3) := dk_182 1 227 (dk_at dksX3_keepsAct_2 9 rfl rfl)
theorem dX3_keepsAct_59 : decode cX3_keepsAct 59 = .ok (.aload_n 0, 1) := dk_42 (dk_at dksX3_keepsAct_2 12 rfl rfl)
theorem dX3_keepsAct_60 : decode cX3_keepsAct 60 = .ok (.dup, 1) := dk_89 (dk_at dksX3_keepsAct_2 13 rfl rfl)
theorem dX3_keepsAct_61 : decode cX3_keepsAct 61 = .ok (.getfield 359, 3) := dk_180 1 103 (dk_at dksX3_keepsAct_2 14 rfl rfl)
theorem dX3_keepsAct_64 : decode cX3_keepsAct 64 = .ok (.iconst 1, 1) := dk_4 (dk_at dksX3_keepsAct_2 17 rfl rfl)
theorem dX3_keepsAct_65 : decode cX3_keepsAct 65 = .ok (.iadd, 1) := dk_96 (dk_at dksX3_keepsAct_2 18 rfl rfl)
theorem dX3_keepsAct_66 : decode cX3_keepsAct 66 = .ok (.putfield 359, 3) := dk_181 1 103 (dk_at dksX3_keepsAct_2 19 rfl rfl)
theorem dX3_keepsAct_69 : decode cX3_keepsAct 69 = .ok (.return_, 1) := dk_177 (dk_at dksX3_keepsAct_2 22 rfl rfl)
abbrev cX3_goesMile : ByteArray := prog_17_method_78_code
def yX3_goesMile : MethodName := ⟨RX3, "goesMile", "()I"⟩
def dkwX3_goesMile_0 : List UInt8 := [42, 42, 42, 180, 0, 9, 16, 6, 46, 4, 96, 182, 1, 177, 182, 1, 210, 172]
abbrev dktX3_goesMile_0 : List UInt8 := dkwX3_goesMile_0 ++ []
theorem dksX3_goesMile_0 : cX3_goesMile.data.toList.drop 0 = dktX3_goesMile_0 := by decide +kernel
theorem dX3_goesMile_0 : decode cX3_goesMile 0 = .ok (.aload_n 0, 1) := dk_42 (dk_at dksX3_goesMile_0 0 rfl rfl)
theorem dX3_goesMile_1 : decode cX3_goesMile 1 = .ok (.aload_n 0, 1) := dk_42 (dk_at dksX3_goesMile_0 1 rfl rfl)
theorem dX3_goesMile_2 : decode cX3_goesMile 2 = .ok (.aload_n 0, 1) := dk_42 (dk_at dksX3_goesMile_0 2 rfl rfl)
theorem dX3_goesMile_3 : decode cX3_goesMile 3 = .ok (.getfield 9, 3) := dk_180 0 9 (dk_at dksX3_goesMile_0 3 rfl rfl)
theorem dX3_goesMile_6 : decode cX3_goesMile 6 = .ok (.bipush 6, 2) := dk_16 6 (dk_at dksX3_goesMile_0 6 rfl rfl)
theorem dX3_goesMile_8 : decode cX3_goesMile 8 = .ok (.iaload, 1) := dk_46 (dk_at dksX3_goesMile_0 8 rfl rfl)
theorem dX3_goesMile_9 : decode cX3_goesMile 9 = .ok (.iconst 1, 1) := dk_4 (dk_at dksX3_goesMile_0 9 rfl rfl)
theorem dX3_goesMile_10 : decode cX3_goesMile 10 = .ok (.iadd, 1) := dk_96 (dk_at dksX3_goesMile_0 10 rfl rfl)
theorem dX3_goesMile_11 : decode cX3_goesMile 11 = .ok (.invokevirtual 433, 3) := dk_182 1 177 (dk_at dksX3_goesMile_0 11 rfl rfl)
theorem dX3_goesMile_14 : decode cX3_goesMile 14 = .ok (.invokevirtual 466, 3) := dk_182 1 210 (dk_at dksX3_goesMile_0 14 rfl rfl)
theorem dX3_goesMile_17 : decode cX3_goesMile 17 = .ok (.ireturn, 1) := dk_172 (dk_at dksX3_goesMile_0 17 rfl rfl)
abbrev cX3_mileBy : ByteArray := prog_17_method_76_code
def yX3_mileBy : MethodName := ⟨RX3, "mileBy", "(I)I"⟩
def dkwX3_mileBy_12 : List UInt8 := [16, 6, 46, 79, 132, 4, 1, 167, 255, 211, 28, 184, 1, 204, 172]
abbrev dktX3_mileBy_12 : List UInt8 := dkwX3_mileBy_12 ++ []
def dkwX3_mileBy_11 : List UInt8 := [184, 1, 134, 153, 0, 25, 42, 180, 0, 34, 21, 4, 5, 79, 42, 180, 0, 37, 21, 4, 42, 180, 0, 9]
abbrev dktX3_mileBy_11 : List UInt8 := dkwX3_mileBy_11 ++ dktX3_mileBy_12
def dkwX3_mileBy_10 : List UInt8 := [42, 28, 3, 182, 1, 200, 87, 3, 54, 4, 21, 4, 42, 180, 0, 9, 6, 46, 162, 0, 40, 28, 21, 4]
abbrev dktX3_mileBy_10 : List UInt8 := dkwX3_mileBy_10 ++ dktX3_mileBy_11
def dkwX3_mileBy_9 : List UInt8 := [184, 1, 134, 153, 0, 7, 5, 167, 0, 10, 42, 180, 0, 19, 21, 4, 46, 79, 132, 4, 1, 167, 255, 215]
abbrev dktX3_mileBy_9 : List UInt8 := dkwX3_mileBy_9 ++ dktX3_mileBy_10
def dkwX3_mileBy_8 : List UInt8 := [3, 54, 4, 21, 4, 42, 180, 0, 9, 5, 46, 162, 0, 36, 42, 180, 0, 19, 21, 4, 29, 21, 4]
abbrev dktX3_mileBy_8 : List UInt8 := dkwX3_mileBy_8 ++ dktX3_mileBy_9
def dkwX3_mileBy_7 : List UInt8 := [182, 1, 147, 28, 126, 153, 0, 10, 4, 21, 4, 120, 167, 0, 4, 3, 128, 62, 132, 4, 1, 167, 255, 216]
abbrev dktX3_mileBy_7 : List UInt8 := dkwX3_mileBy_7 ++ dktX3_mileBy_8
def dkwX3_mileBy_6 : List UInt8 := [3, 54, 4, 21, 4, 42, 180, 0, 9, 5, 46, 162, 0, 35, 29, 42, 21, 4, 42, 182, 1, 140]
abbrev dktX3_mileBy_6 : List UInt8 := dkwX3_mileBy_6 ++ dktX3_mileBy_7
def dkwX3_mileBy_5 : List UInt8 := [181, 1, 191, 132, 2, 255, 167, 255, 224, 42, 182, 1, 194, 42, 42, 182, 1, 140, 182, 1, 197, 61, 3, 62]
abbrev dktX3_mileBy_5 : List UInt8 := dkwX3_mileBy_5 ++ dktX3_mileBy_6
def dkwX3_mileBy_4 : List UInt8 := [42, 180, 0, 46, 28, 46, 27, 162, 0, 18, 42, 28, 182, 1, 183, 42, 89, 180, 1, 191, 4, 96]
abbrev dktX3_mileBy_4 : List UInt8 := dkwX3_mileBy_4 ++ dktX3_mileBy_5
def dkwX3_mileBy_3 : List UInt8 := [132, 2, 1, 167, 255, 196, 42, 3, 181, 1, 191, 42, 180, 0, 9, 7, 46, 4, 100, 61, 28, 155, 0, 34]
abbrev dktX3_mileBy_3 : List UInt8 := dkwX3_mileBy_3 ++ dktX3_mileBy_4
def dkwX3_mileBy_2 : List UInt8 := [46, 164, 0, 19, 42, 180, 0, 28, 28, 46, 42, 180, 0, 31, 28, 46, 100, 167, 0, 4, 3, 79]
abbrev dktX3_mileBy_2 : List UInt8 := dkwX3_mileBy_2 ++ dktX3_mileBy_3
def dkwX3_mileBy_1 : List UInt8 := [180, 0, 34, 28, 46, 154, 0, 41, 42, 180, 0, 28, 28, 42, 180, 0, 28, 28, 46, 42, 180, 0, 31, 28]
abbrev dktX3_mileBy_1 : List UInt8 := dkwX3_mileBy_1 ++ dktX3_mileBy_2
def dkwX3_mileBy_0 : List UInt8 := [42, 180, 0, 9, 16, 6, 92, 46, 4, 96, 79, 3, 61, 28, 42, 180, 0, 9, 6, 46, 162, 0, 56, 42]
abbrev dktX3_mileBy_0 : List UInt8 := dkwX3_mileBy_0 ++ dktX3_mileBy_1
theorem dksX3_mileBy_0 : cX3_mileBy.data.toList.drop 0 = dktX3_mileBy_0 := by decide +kernel
theorem dksX3_mileBy_1 : cX3_mileBy.data.toList.drop 24 = dktX3_mileBy_1 := dk_seg dksX3_mileBy_0 24 rfl rfl
theorem dksX3_mileBy_2 : cX3_mileBy.data.toList.drop 48 = dktX3_mileBy_2 := dk_seg dksX3_mileBy_1 24 rfl rfl
theorem dksX3_mileBy_3 : cX3_mileBy.data.toList.drop 70 = dktX3_mileBy_3 := dk_seg dksX3_mileBy_2 22 rfl rfl
theorem dksX3_mileBy_4 : cX3_mileBy.data.toList.drop 94 = dktX3_mileBy_4 := dk_seg dksX3_mileBy_3 24 rfl rfl
theorem dksX3_mileBy_5 : cX3_mileBy.data.toList.drop 116 = dktX3_mileBy_5 := dk_seg dksX3_mileBy_4 22 rfl rfl
theorem dksX3_mileBy_6 : cX3_mileBy.data.toList.drop 140 = dktX3_mileBy_6 := dk_seg dksX3_mileBy_5 24 rfl rfl
theorem dksX3_mileBy_7 : cX3_mileBy.data.toList.drop 162 = dktX3_mileBy_7 := dk_seg dksX3_mileBy_6 22 rfl rfl
theorem dksX3_mileBy_8 : cX3_mileBy.data.toList.drop 186 = dktX3_mileBy_8 := dk_seg dksX3_mileBy_7 24 rfl rfl
theorem dksX3_mileBy_9 : cX3_mileBy.data.toList.drop 209 = dktX3_mileBy_9 := dk_seg dksX3_mileBy_8 23 rfl rfl
theorem dksX3_mileBy_10 : cX3_mileBy.data.toList.drop 233 = dktX3_mileBy_10 := dk_seg dksX3_mileBy_9 24 rfl rfl
theorem dksX3_mileBy_11 : cX3_mileBy.data.toList.drop 257 = dktX3_mileBy_11 := dk_seg dksX3_mileBy_10 24 rfl rfl
theorem dksX3_mileBy_12 : cX3_mileBy.data.toList.drop 281 = dktX3_mileBy_12 := dk_seg dksX3_mileBy_11 24 rfl rfl
theorem dX3_mileBy_0 : decode cX3_mileBy 0 = .ok (.aload_n 0, 1) := dk_42 (dk_at dksX3_mileBy_0 0 rfl rfl)
theorem dX3_mileBy_1 : decode cX3_mileBy 1 = .ok (.getfield 9, 3) := dk_180 0 9 (dk_at dksX3_mileBy_0 1 rfl rfl)
theorem dX3_mileBy_4 : decode cX3_mileBy 4 = .ok (.bipush 6, 2) := dk_16 6 (dk_at dksX3_mileBy_0 4 rfl rfl)
theorem dX3_mileBy_6 : decode cX3_mileBy 6 = .ok (.dup2, 1) := dk_92 (dk_at dksX3_mileBy_0 6 rfl rfl)
theorem dX3_mileBy_7 : decode cX3_mileBy 7 = .ok (.iaload, 1) := dk_46 (dk_at dksX3_mileBy_0 7 rfl rfl)
theorem dX3_mileBy_8 : decode cX3_mileBy 8 = .ok (.iconst 1, 1) := dk_4 (dk_at dksX3_mileBy_0 8 rfl rfl)
theorem dX3_mileBy_9 : decode cX3_mileBy 9 = .ok (.iadd, 1) := dk_96 (dk_at dksX3_mileBy_0 9 rfl rfl)
theorem dX3_mileBy_10 : decode cX3_mileBy 10 = .ok (.iastore, 1) := dk_79 (dk_at dksX3_mileBy_0 10 rfl rfl)
theorem dX3_mileBy_11 : decode cX3_mileBy 11 = .ok (.iconst 0, 1) := dk_3 (dk_at dksX3_mileBy_0 11 rfl rfl)
theorem dX3_mileBy_12 : decode cX3_mileBy 12 = .ok (.istore_n 2, 1) := dk_61 (dk_at dksX3_mileBy_0 12 rfl rfl)
theorem dX3_mileBy_13 : decode cX3_mileBy 13 = .ok (.iload_n 2, 1) := dk_28 (dk_at dksX3_mileBy_0 13 rfl rfl)
theorem dX3_mileBy_14 : decode cX3_mileBy 14 = .ok (.aload_n 0, 1) := dk_42 (dk_at dksX3_mileBy_0 14 rfl rfl)
theorem dX3_mileBy_15 : decode cX3_mileBy 15 = .ok (.getfield 9, 3) := dk_180 0 9 (dk_at dksX3_mileBy_0 15 rfl rfl)
theorem dX3_mileBy_18 : decode cX3_mileBy 18 = .ok (.iconst 3, 1) := dk_6 (dk_at dksX3_mileBy_0 18 rfl rfl)
theorem dX3_mileBy_19 : decode cX3_mileBy 19 = .ok (.iaload, 1) := dk_46 (dk_at dksX3_mileBy_0 19 rfl rfl)
theorem dX3_mileBy_20 : decode cX3_mileBy 20 = .ok (.if_icmp .ge 56, 3) := dk_162 0 56 (dk_at dksX3_mileBy_0 20 rfl rfl)
theorem dX3_mileBy_23 : decode cX3_mileBy 23 = .ok (.aload_n 0, 1) := dk_42 (dk_at dksX3_mileBy_0 23 rfl rfl)
theorem dX3_mileBy_24 : decode cX3_mileBy 24 = .ok (.getfield 34, 3) := dk_180 0 34 (dk_at dksX3_mileBy_1 0 rfl rfl)
theorem dX3_mileBy_27 : decode cX3_mileBy 27 = .ok (.iload_n 2, 1) := dk_28 (dk_at dksX3_mileBy_1 3 rfl rfl)
theorem dX3_mileBy_28 : decode cX3_mileBy 28 = .ok (.iaload, 1) := dk_46 (dk_at dksX3_mileBy_1 4 rfl rfl)
theorem dX3_mileBy_29 : decode cX3_mileBy 29 = .ok (.ifCond .ne 41, 3) := dk_154 0 41 (dk_at dksX3_mileBy_1 5 rfl rfl)
theorem dX3_mileBy_32 : decode cX3_mileBy 32 = .ok (.aload_n 0, 1) := dk_42 (dk_at dksX3_mileBy_1 8 rfl rfl)
theorem dX3_mileBy_33 : decode cX3_mileBy 33 = .ok (.getfield 28, 3) := dk_180 0 28 (dk_at dksX3_mileBy_1 9 rfl rfl)
theorem dX3_mileBy_36 : decode cX3_mileBy 36 = .ok (.iload_n 2, 1) := dk_28 (dk_at dksX3_mileBy_1 12 rfl rfl)
theorem dX3_mileBy_37 : decode cX3_mileBy 37 = .ok (.aload_n 0, 1) := dk_42 (dk_at dksX3_mileBy_1 13 rfl rfl)
theorem dX3_mileBy_38 : decode cX3_mileBy 38 = .ok (.getfield 28, 3) := dk_180 0 28 (dk_at dksX3_mileBy_1 14 rfl rfl)
theorem dX3_mileBy_41 : decode cX3_mileBy 41 = .ok (.iload_n 2, 1) := dk_28 (dk_at dksX3_mileBy_1 17 rfl rfl)
theorem dX3_mileBy_42 : decode cX3_mileBy 42 = .ok (.iaload, 1) := dk_46 (dk_at dksX3_mileBy_1 18 rfl rfl)
theorem dX3_mileBy_43 : decode cX3_mileBy 43 = .ok (.aload_n 0, 1) := dk_42 (dk_at dksX3_mileBy_1 19 rfl rfl)
theorem dX3_mileBy_44 : decode cX3_mileBy 44 = .ok (.getfield 31, 3) := dk_180 0 31 (dk_at dksX3_mileBy_1 20 rfl rfl)
theorem dX3_mileBy_47 : decode cX3_mileBy 47 = .ok (.iload_n 2, 1) := dk_28 (dk_at dksX3_mileBy_1 23 rfl rfl)
theorem dX3_mileBy_48 : decode cX3_mileBy 48 = .ok (.iaload, 1) := dk_46 (dk_at dksX3_mileBy_2 0 rfl rfl)
theorem dX3_mileBy_49 : decode cX3_mileBy 49 = .ok (.if_icmp .le 19, 3) := dk_164 0 19 (dk_at dksX3_mileBy_2 1 rfl rfl)
theorem dX3_mileBy_52 : decode cX3_mileBy 52 = .ok (.aload_n 0, 1) := dk_42 (dk_at dksX3_mileBy_2 4 rfl rfl)
theorem dX3_mileBy_53 : decode cX3_mileBy 53 = .ok (.getfield 28, 3) := dk_180 0 28 (dk_at dksX3_mileBy_2 5 rfl rfl)
theorem dX3_mileBy_56 : decode cX3_mileBy 56 = .ok (.iload_n 2, 1) := dk_28 (dk_at dksX3_mileBy_2 8 rfl rfl)
theorem dX3_mileBy_57 : decode cX3_mileBy 57 = .ok (.iaload, 1) := dk_46 (dk_at dksX3_mileBy_2 9 rfl rfl)
theorem dX3_mileBy_58 : decode cX3_mileBy 58 = .ok (.aload_n 0, 1) := dk_42 (dk_at dksX3_mileBy_2 10 rfl rfl)
theorem dX3_mileBy_59 : decode cX3_mileBy 59 = .ok (.getfield 31, 3) := dk_180 0 31 (dk_at dksX3_mileBy_2 11 rfl rfl)
theorem dX3_mileBy_62 : decode cX3_mileBy 62 = .ok (.iload_n 2, 1) := dk_28 (dk_at dksX3_mileBy_2 14 rfl rfl)
theorem dX3_mileBy_63 : decode cX3_mileBy 63 = .ok (.iaload, 1) := dk_46 (dk_at dksX3_mileBy_2 15 rfl rfl)
theorem dX3_mileBy_64 : decode cX3_mileBy 64 = .ok (.isub, 1) := dk_100 (dk_at dksX3_mileBy_2 16 rfl rfl)
theorem dX3_mileBy_65 : decode cX3_mileBy 65 = .ok (.goto 4, 3) := dk_167 0 4 (dk_at dksX3_mileBy_2 17 rfl rfl)
theorem dX3_mileBy_68 : decode cX3_mileBy 68 = .ok (.iconst 0, 1) := dk_3 (dk_at dksX3_mileBy_2 20 rfl rfl)
theorem dX3_mileBy_69 : decode cX3_mileBy 69 = .ok (.iastore, 1) := dk_79 (dk_at dksX3_mileBy_2 21 rfl rfl)
theorem dX3_mileBy_70 : decode cX3_mileBy 70 = .ok (.iinc 2 1, 3) := dk_132 2 1 (dk_at dksX3_mileBy_3 0 rfl rfl)
theorem dX3_mileBy_73 : decode cX3_mileBy 73 = .ok (.goto (-60), 3) := dk_167 255 196 (dk_at dksX3_mileBy_3 3 rfl rfl)
theorem dX3_mileBy_76 : decode cX3_mileBy 76 = .ok (.aload_n 0, 1) := dk_42 (dk_at dksX3_mileBy_3 6 rfl rfl)
theorem dX3_mileBy_77 : decode cX3_mileBy 77 = .ok (.iconst 0, 1) := dk_3 (dk_at dksX3_mileBy_3 7 rfl rfl)
theorem dX3_mileBy_78 : decode cX3_mileBy 78 = .ok (.putfield 447, 3) := dk_181 1 191 (dk_at dksX3_mileBy_3 8 rfl rfl)
theorem dX3_mileBy_81 : decode cX3_mileBy 81 = .ok (.aload_n 0, 1) := dk_42 (dk_at dksX3_mileBy_3 11 rfl rfl)
theorem dX3_mileBy_82 : decode cX3_mileBy 82 = .ok (.getfield 9, 3) := dk_180 0 9 (dk_at dksX3_mileBy_3 12 rfl rfl)
theorem dX3_mileBy_85 : decode cX3_mileBy 85 = .ok (.iconst 4, 1) := dk_7 (dk_at dksX3_mileBy_3 15 rfl rfl)
theorem dX3_mileBy_86 : decode cX3_mileBy 86 = .ok (.iaload, 1) := dk_46 (dk_at dksX3_mileBy_3 16 rfl rfl)
theorem dX3_mileBy_87 : decode cX3_mileBy 87 = .ok (.iconst 1, 1) := dk_4 (dk_at dksX3_mileBy_3 17 rfl rfl)
theorem dX3_mileBy_88 : decode cX3_mileBy 88 = .ok (.isub, 1) := dk_100 (dk_at dksX3_mileBy_3 18 rfl rfl)
theorem dX3_mileBy_89 : decode cX3_mileBy 89 = .ok (.istore_n 2, 1) := dk_61 (dk_at dksX3_mileBy_3 19 rfl rfl)
theorem dX3_mileBy_90 : decode cX3_mileBy 90 = .ok (.iload_n 2, 1) := dk_28 (dk_at dksX3_mileBy_3 20 rfl rfl)
theorem dX3_mileBy_91 : decode cX3_mileBy 91 = .ok (.ifCond .lt 34, 3) := dk_155 0 34 (dk_at dksX3_mileBy_3 21 rfl rfl)
theorem dX3_mileBy_94 : decode cX3_mileBy 94 = .ok (.aload_n 0, 1) := dk_42 (dk_at dksX3_mileBy_4 0 rfl rfl)
theorem dX3_mileBy_95 : decode cX3_mileBy 95 = .ok (.getfield 46, 3) := dk_180 0 46 (dk_at dksX3_mileBy_4 1 rfl rfl)
theorem dX3_mileBy_98 : decode cX3_mileBy 98 = .ok (.iload_n 2, 1) := dk_28 (dk_at dksX3_mileBy_4 4 rfl rfl)
theorem dX3_mileBy_99 : decode cX3_mileBy 99 = .ok (.iaload, 1) := dk_46 (dk_at dksX3_mileBy_4 5 rfl rfl)
theorem dX3_mileBy_100 : decode cX3_mileBy 100 = .ok (.iload_n 1, 1) := dk_27 (dk_at dksX3_mileBy_4 6 rfl rfl)
theorem dX3_mileBy_101 : decode cX3_mileBy 101 = .ok (.if_icmp .ge 18, 3) := dk_162 0 18 (dk_at dksX3_mileBy_4 7 rfl rfl)
theorem dX3_mileBy_104 : decode cX3_mileBy 104 = .ok (.aload_n 0, 1) := dk_42 (dk_at dksX3_mileBy_4 10 rfl rfl)
theorem dX3_mileBy_105 : decode cX3_mileBy 105 = .ok (.iload_n 2, 1) := dk_28 (dk_at dksX3_mileBy_4 11 rfl rfl)
theorem dX3_mileBy_106 : decode cX3_mileBy 106 = .ok (.invokevirtual 439, 3) := dk_182 1 183 (dk_at dksX3_mileBy_4 12 rfl rfl)
theorem dX3_mileBy_109 : decode cX3_mileBy 109 = .ok (.aload_n 0, 1) := dk_42 (dk_at dksX3_mileBy_4 15 rfl rfl)
theorem dX3_mileBy_110 : decode cX3_mileBy 110 = .ok (.dup, 1) := dk_89 (dk_at dksX3_mileBy_4 16 rfl rfl)
theorem dX3_mileBy_111 : decode cX3_mileBy 111 = .ok (.getfield 447, 3) := dk_180 1 191 (dk_at dksX3_mileBy_4 17 rfl rfl)
theorem dX3_mileBy_114 : decode cX3_mileBy 114 = .ok (.iconst 1, 1) := dk_4 (dk_at dksX3_mileBy_4 20 rfl rfl)
theorem dX3_mileBy_115 : decode cX3_mileBy 115 = .ok (.iadd, 1) := dk_96 (dk_at dksX3_mileBy_4 21 rfl rfl)
theorem dX3_mileBy_116 : decode cX3_mileBy 116 = .ok (.putfield 447, 3) := dk_181 1 191 (dk_at dksX3_mileBy_5 0 rfl rfl)
theorem dX3_mileBy_119 : decode cX3_mileBy 119 = .ok (.iinc 2 (-1), 3) := dk_132 2 255 (dk_at dksX3_mileBy_5 3 rfl rfl)
theorem dX3_mileBy_122 : decode cX3_mileBy 122 = .ok (.goto (-32), 3) := dk_167 255 224 (dk_at dksX3_mileBy_5 6 rfl rfl)
theorem dX3_mileBy_125 : decode cX3_mileBy 125 = .ok (.aload_n 0, 1) := dk_42 (dk_at dksX3_mileBy_5 9 rfl rfl)
theorem dX3_mileBy_126 : decode cX3_mileBy 126 = .ok (.invokevirtual 450, 3) := dk_182 1 194 (dk_at dksX3_mileBy_5 10 rfl rfl)
theorem dX3_mileBy_129 : decode cX3_mileBy 129 = .ok (.aload_n 0, 1) := dk_42 (dk_at dksX3_mileBy_5 13 rfl rfl)
theorem dX3_mileBy_130 : decode cX3_mileBy 130 = .ok (.aload_n 0, 1) := dk_42 (dk_at dksX3_mileBy_5 14 rfl rfl)
theorem dX3_mileBy_131 : decode cX3_mileBy 131 = .ok (.invokevirtual 396, 3) := dk_182 1 140 (dk_at dksX3_mileBy_5 15 rfl rfl)
theorem dX3_mileBy_134 : decode cX3_mileBy 134 = .ok (.invokevirtual 453, 3) := dk_182 1 197 (dk_at dksX3_mileBy_5 18 rfl rfl)
theorem dX3_mileBy_137 : decode cX3_mileBy 137 = .ok (.istore_n 2, 1) := dk_61 (dk_at dksX3_mileBy_5 21 rfl rfl)
theorem dX3_mileBy_138 : decode cX3_mileBy 138 = .ok (.iconst 0, 1) := dk_3 (dk_at dksX3_mileBy_5 22 rfl rfl)
theorem dX3_mileBy_139 : decode cX3_mileBy 139 = .ok (.istore_n 3, 1) := dk_62 (dk_at dksX3_mileBy_5 23 rfl rfl)
theorem dX3_mileBy_140 : decode cX3_mileBy 140 = .ok (.iconst 0, 1) := dk_3 (dk_at dksX3_mileBy_6 0 rfl rfl)
theorem dX3_mileBy_141 : decode cX3_mileBy 141 = .ok (.istore 4, 2) := dk_54 4 (dk_at dksX3_mileBy_6 1 rfl rfl)
theorem dX3_mileBy_143 : decode cX3_mileBy 143 = .ok (.iload 4, 2) := dk_21 4 (dk_at dksX3_mileBy_6 3 rfl rfl)
theorem dX3_mileBy_145 : decode cX3_mileBy 145 = .ok (.aload_n 0, 1) := dk_42 (dk_at dksX3_mileBy_6 5 rfl rfl)
theorem dX3_mileBy_146 : decode cX3_mileBy 146 = .ok (.getfield 9, 3) := dk_180 0 9 (dk_at dksX3_mileBy_6 6 rfl rfl)
theorem dX3_mileBy_149 : decode cX3_mileBy 149 = .ok (.iconst 2, 1) := dk_5 (dk_at dksX3_mileBy_6 9 rfl rfl)
theorem dX3_mileBy_150 : decode cX3_mileBy 150 = .ok (.iaload, 1) := dk_46 (dk_at dksX3_mileBy_6 10 rfl rfl)
theorem dX3_mileBy_151 : decode cX3_mileBy 151 = .ok (.if_icmp .ge 35, 3) := dk_162 0 35 (dk_at dksX3_mileBy_6 11 rfl rfl)
theorem dX3_mileBy_154 : decode cX3_mileBy 154 = .ok (.iload_n 3, 1) := dk_29 (dk_at dksX3_mileBy_6 14 rfl rfl)
theorem dX3_mileBy_155 : decode cX3_mileBy 155 = .ok (.aload_n 0, 1) := dk_42 (dk_at dksX3_mileBy_6 15 rfl rfl)
theorem dX3_mileBy_156 : decode cX3_mileBy 156 = .ok (.iload 4, 2) := dk_21 4 (dk_at dksX3_mileBy_6 16 rfl rfl)
theorem dX3_mileBy_158 : decode cX3_mileBy 158 = .ok (.aload_n 0, 1) := dk_42 (dk_at dksX3_mileBy_6 18 rfl rfl)
theorem dX3_mileBy_159 : decode cX3_mileBy 159 = .ok (.invokevirtual 396, 3) := dk_182 1 140 (dk_at dksX3_mileBy_6 19 rfl rfl)
theorem dX3_mileBy_162 : decode cX3_mileBy 162 = .ok (.invokevirtual 403, 3) := dk_182 1 147 (dk_at dksX3_mileBy_7 0 rfl rfl)
theorem dX3_mileBy_165 : decode cX3_mileBy 165 = .ok (.iload_n 2, 1) := dk_28 (dk_at dksX3_mileBy_7 3 rfl rfl)
theorem dX3_mileBy_166 : decode cX3_mileBy 166 = .ok (.iand, 1) := dk_126 (dk_at dksX3_mileBy_7 4 rfl rfl)
theorem dX3_mileBy_167 : decode cX3_mileBy 167 = .ok (.ifCond .eq 10, 3) := dk_153 0 10 (dk_at dksX3_mileBy_7 5 rfl rfl)
theorem dX3_mileBy_170 : decode cX3_mileBy 170 = .ok (.iconst 1, 1) := dk_4 (dk_at dksX3_mileBy_7 8 rfl rfl)
theorem dX3_mileBy_171 : decode cX3_mileBy 171 = .ok (.iload 4, 2) := dk_21 4 (dk_at dksX3_mileBy_7 9 rfl rfl)
theorem dX3_mileBy_173 : decode cX3_mileBy 173 = .ok (.ishl, 1) := dk_120 (dk_at dksX3_mileBy_7 11 rfl rfl)
theorem dX3_mileBy_174 : decode cX3_mileBy 174 = .ok (.goto 4, 3) := dk_167 0 4 (dk_at dksX3_mileBy_7 12 rfl rfl)
theorem dX3_mileBy_177 : decode cX3_mileBy 177 = .ok (.iconst 0, 1) := dk_3 (dk_at dksX3_mileBy_7 15 rfl rfl)
theorem dX3_mileBy_178 : decode cX3_mileBy 178 = .ok (.ior, 1) := dk_128 (dk_at dksX3_mileBy_7 16 rfl rfl)
theorem dX3_mileBy_179 : decode cX3_mileBy 179 = .ok (.istore_n 3, 1) := dk_62 (dk_at dksX3_mileBy_7 17 rfl rfl)
theorem dX3_mileBy_180 : decode cX3_mileBy 180 = .ok (.iinc 4 1, 3) := dk_132 4 1 (dk_at dksX3_mileBy_7 18 rfl rfl)
theorem dX3_mileBy_183 : decode cX3_mileBy 183 = .ok (.goto (-40), 3) := dk_167 255 216 (dk_at dksX3_mileBy_7 21 rfl rfl)
theorem dX3_mileBy_186 : decode cX3_mileBy 186 = .ok (.iconst 0, 1) := dk_3 (dk_at dksX3_mileBy_8 0 rfl rfl)
theorem dX3_mileBy_187 : decode cX3_mileBy 187 = .ok (.istore 4, 2) := dk_54 4 (dk_at dksX3_mileBy_8 1 rfl rfl)
theorem dX3_mileBy_189 : decode cX3_mileBy 189 = .ok (.iload 4, 2) := dk_21 4 (dk_at dksX3_mileBy_8 3 rfl rfl)
theorem dX3_mileBy_191 : decode cX3_mileBy 191 = .ok (.aload_n 0, 1) := dk_42 (dk_at dksX3_mileBy_8 5 rfl rfl)
theorem dX3_mileBy_192 : decode cX3_mileBy 192 = .ok (.getfield 9, 3) := dk_180 0 9 (dk_at dksX3_mileBy_8 6 rfl rfl)
theorem dX3_mileBy_195 : decode cX3_mileBy 195 = .ok (.iconst 2, 1) := dk_5 (dk_at dksX3_mileBy_8 9 rfl rfl)
theorem dX3_mileBy_196 : decode cX3_mileBy 196 = .ok (.iaload, 1) := dk_46 (dk_at dksX3_mileBy_8 10 rfl rfl)
theorem dX3_mileBy_197 : decode cX3_mileBy 197 = .ok (.if_icmp .ge 36, 3) := dk_162 0 36 (dk_at dksX3_mileBy_8 11 rfl rfl)
theorem dX3_mileBy_200 : decode cX3_mileBy 200 = .ok (.aload_n 0, 1) := dk_42 (dk_at dksX3_mileBy_8 14 rfl rfl)
theorem dX3_mileBy_201 : decode cX3_mileBy 201 = .ok (.getfield 19, 3) := dk_180 0 19 (dk_at dksX3_mileBy_8 15 rfl rfl)
theorem dX3_mileBy_204 : decode cX3_mileBy 204 = .ok (.iload 4, 2) := dk_21 4 (dk_at dksX3_mileBy_8 18 rfl rfl)
theorem dX3_mileBy_206 : decode cX3_mileBy 206 = .ok (.iload_n 3, 1) := dk_29 (dk_at dksX3_mileBy_8 20 rfl rfl)
theorem dX3_mileBy_207 : decode cX3_mileBy 207 = .ok (.iload 4, 2) := dk_21 4 (dk_at dksX3_mileBy_8 21 rfl rfl)
theorem dX3_mileBy_209 : decode cX3_mileBy 209 = .ok (.invokestatic 390, 3) := dk_184 1 134 (dk_at dksX3_mileBy_9 0 rfl rfl)
theorem dX3_mileBy_212 : decode cX3_mileBy 212 = .ok (.ifCond .eq 7, 3) := dk_153 0 7 (dk_at dksX3_mileBy_9 3 rfl rfl)
theorem dX3_mileBy_215 : decode cX3_mileBy 215 = .ok (.iconst 2, 1) := dk_5 (dk_at dksX3_mileBy_9 6 rfl rfl)
theorem dX3_mileBy_216 : decode cX3_mileBy 216 = .ok (.goto 10, 3) := dk_167 0 10 (dk_at dksX3_mileBy_9 7 rfl rfl)
theorem dX3_mileBy_219 : decode cX3_mileBy 219 = .ok (.aload_n 0, 1) := dk_42 (dk_at dksX3_mileBy_9 10 rfl rfl)
theorem dX3_mileBy_220 : decode cX3_mileBy 220 = .ok (.getfield 19, 3) := dk_180 0 19 (dk_at dksX3_mileBy_9 11 rfl rfl)
theorem dX3_mileBy_223 : decode cX3_mileBy 223 = .ok (.iload 4, 2) := dk_21 4 (dk_at dksX3_mileBy_9 14 rfl rfl)
theorem dX3_mileBy_225 : decode cX3_mileBy 225 = .ok (.iaload, 1) := dk_46 (dk_at dksX3_mileBy_9 16 rfl rfl)
theorem dX3_mileBy_226 : decode cX3_mileBy 226 = .ok (.iastore, 1) := dk_79 (dk_at dksX3_mileBy_9 17 rfl rfl)
theorem dX3_mileBy_227 : decode cX3_mileBy 227 = .ok (.iinc 4 1, 3) := dk_132 4 1 (dk_at dksX3_mileBy_9 18 rfl rfl)
theorem dX3_mileBy_230 : decode cX3_mileBy 230 = .ok (.goto (-41), 3) := dk_167 255 215 (dk_at dksX3_mileBy_9 21 rfl rfl)
theorem dX3_mileBy_233 : decode cX3_mileBy 233 = .ok (.aload_n 0, 1) := dk_42 (dk_at dksX3_mileBy_10 0 rfl rfl)
theorem dX3_mileBy_234 : decode cX3_mileBy 234 = .ok (.iload_n 2, 1) := dk_28 (dk_at dksX3_mileBy_10 1 rfl rfl)
theorem dX3_mileBy_235 : decode cX3_mileBy 235 = .ok (.iconst 0, 1) := dk_3 (dk_at dksX3_mileBy_10 2 rfl rfl)
theorem dX3_mileBy_236 : decode cX3_mileBy 236 = .ok (.invokevirtual 456, 3) := dk_182 1 200 (dk_at dksX3_mileBy_10 3 rfl rfl)
theorem dX3_mileBy_239 : decode cX3_mileBy 239 = .ok (.pop, 1) := dk_87 (dk_at dksX3_mileBy_10 6 rfl rfl)
theorem dX3_mileBy_240 : decode cX3_mileBy 240 = .ok (.iconst 0, 1) := dk_3 (dk_at dksX3_mileBy_10 7 rfl rfl)
theorem dX3_mileBy_241 : decode cX3_mileBy 241 = .ok (.istore 4, 2) := dk_54 4 (dk_at dksX3_mileBy_10 8 rfl rfl)
theorem dX3_mileBy_243 : decode cX3_mileBy 243 = .ok (.iload 4, 2) := dk_21 4 (dk_at dksX3_mileBy_10 10 rfl rfl)
theorem dX3_mileBy_245 : decode cX3_mileBy 245 = .ok (.aload_n 0, 1) := dk_42 (dk_at dksX3_mileBy_10 12 rfl rfl)
theorem dX3_mileBy_246 : decode cX3_mileBy 246 = .ok (.getfield 9, 3) := dk_180 0 9 (dk_at dksX3_mileBy_10 13 rfl rfl)
theorem dX3_mileBy_249 : decode cX3_mileBy 249 = .ok (.iconst 3, 1) := dk_6 (dk_at dksX3_mileBy_10 16 rfl rfl)
theorem dX3_mileBy_250 : decode cX3_mileBy 250 = .ok (.iaload, 1) := dk_46 (dk_at dksX3_mileBy_10 17 rfl rfl)
theorem dX3_mileBy_251 : decode cX3_mileBy 251 = .ok (.if_icmp .ge 40, 3) := dk_162 0 40 (dk_at dksX3_mileBy_10 18 rfl rfl)
theorem dX3_mileBy_254 : decode cX3_mileBy 254 = .ok (.iload_n 2, 1) := dk_28 (dk_at dksX3_mileBy_10 21 rfl rfl)
theorem dX3_mileBy_255 : decode cX3_mileBy 255 = .ok (.iload 4, 2) := dk_21 4 (dk_at dksX3_mileBy_10 22 rfl rfl)
theorem dX3_mileBy_257 : decode cX3_mileBy 257 = .ok (.invokestatic 390, 3) := dk_184 1 134 (dk_at dksX3_mileBy_11 0 rfl rfl)
theorem dX3_mileBy_260 : decode cX3_mileBy 260 = .ok (.ifCond .eq 25, 3) := dk_153 0 25 (dk_at dksX3_mileBy_11 3 rfl rfl)
theorem dX3_mileBy_263 : decode cX3_mileBy 263 = .ok (.aload_n 0, 1) := dk_42 (dk_at dksX3_mileBy_11 6 rfl rfl)
theorem dX3_mileBy_264 : decode cX3_mileBy 264 = .ok (.getfield 34, 3) := dk_180 0 34 (dk_at dksX3_mileBy_11 7 rfl rfl)
theorem dX3_mileBy_267 : decode cX3_mileBy 267 = .ok (.iload 4, 2) := dk_21 4 (dk_at dksX3_mileBy_11 10 rfl rfl)
theorem dX3_mileBy_269 : decode cX3_mileBy 269 = .ok (.iconst 2, 1) := dk_5 (dk_at dksX3_mileBy_11 12 rfl rfl)
theorem dX3_mileBy_270 : decode cX3_mileBy 270 = .ok (.iastore, 1) := dk_79 (dk_at dksX3_mileBy_11 13 rfl rfl)
theorem dX3_mileBy_271 : decode cX3_mileBy 271 = .ok (.aload_n 0, 1) := dk_42 (dk_at dksX3_mileBy_11 14 rfl rfl)
theorem dX3_mileBy_272 : decode cX3_mileBy 272 = .ok (.getfield 37, 3) := dk_180 0 37 (dk_at dksX3_mileBy_11 15 rfl rfl)
theorem dX3_mileBy_275 : decode cX3_mileBy 275 = .ok (.iload 4, 2) := dk_21 4 (dk_at dksX3_mileBy_11 18 rfl rfl)
theorem dX3_mileBy_277 : decode cX3_mileBy 277 = .ok (.aload_n 0, 1) := dk_42 (dk_at dksX3_mileBy_11 20 rfl rfl)
theorem dX3_mileBy_278 : decode cX3_mileBy 278 = .ok (.getfield 9, 3) := dk_180 0 9 (dk_at dksX3_mileBy_11 21 rfl rfl)
theorem dX3_mileBy_281 : decode cX3_mileBy 281 = .ok (.bipush 6, 2) := dk_16 6 (dk_at dksX3_mileBy_12 0 rfl rfl)
theorem dX3_mileBy_283 : decode cX3_mileBy 283 = .ok (.iaload, 1) := dk_46 (dk_at dksX3_mileBy_12 2 rfl rfl)
theorem dX3_mileBy_284 : decode cX3_mileBy 284 = .ok (.iastore, 1) := dk_79 (dk_at dksX3_mileBy_12 3 rfl rfl)
theorem dX3_mileBy_285 : decode cX3_mileBy 285 = .ok (.iinc 4 1, 3) := dk_132 4 1 (dk_at dksX3_mileBy_12 4 rfl rfl)
theorem dX3_mileBy_288 : decode cX3_mileBy 288 = .ok (.goto (-45), 3) := dk_167 255 211 (dk_at dksX3_mileBy_12 7 rfl rfl)
theorem dX3_mileBy_291 : decode cX3_mileBy 291 = .ok (.iload_n 2, 1) := dk_28 (dk_at dksX3_mileBy_12 10 rfl rfl)
theorem dX3_mileBy_292 : decode cX3_mileBy 292 = .ok (.invokestatic 460, 3) := dk_184 1 204 (dk_at dksX3_mileBy_12 11 rfl rfl)
theorem dX3_mileBy_295 : decode cX3_mileBy 295 = .ok (.ireturn, 1) := dk_172 (dk_at dksX3_mileBy_12 14 rfl rfl)
abbrev cX3_ropeGoes : ByteArray := prog_17_method_71_code
def yX3_ropeGoes : MethodName := ⟨RX3, "ropeGoes", "(I)V"⟩
def dkwX3_ropeGoes_3 : List UInt8 := [177]
abbrev dktX3_ropeGoes_3 : List UInt8 := dkwX3_ropeGoes_3 ++ []
def dkwX3_ropeGoes_2 : List UInt8 := [180, 0, 46, 28, 4, 96, 46, 79, 132, 2, 1, 167, 255, 199, 42, 180, 0, 9, 7, 92, 46, 4, 100, 79]
abbrev dktX3_ropeGoes_2 : List UInt8 := dkwX3_ropeGoes_2 ++ dktX3_ropeGoes_3
def dkwX3_ropeGoes_1 : List UInt8 := [4, 96, 46, 79, 42, 180, 0, 43, 28, 42, 180, 0, 43, 28, 4, 96, 46, 79, 42, 180, 0, 46, 28, 42]
abbrev dktX3_ropeGoes_1 : List UInt8 := dkwX3_ropeGoes_1 ++ dktX3_ropeGoes_2
def dkwX3_ropeGoes_0 : List UInt8 := [27, 61, 28, 4, 96, 42, 180, 0, 9, 7, 46, 162, 0, 51, 42, 180, 0, 40, 28, 42, 180, 0, 40, 28]
abbrev dktX3_ropeGoes_0 : List UInt8 := dkwX3_ropeGoes_0 ++ dktX3_ropeGoes_1
theorem dksX3_ropeGoes_0 : cX3_ropeGoes.data.toList.drop 0 = dktX3_ropeGoes_0 := by decide +kernel
theorem dksX3_ropeGoes_1 : cX3_ropeGoes.data.toList.drop 24 = dktX3_ropeGoes_1 := dk_seg dksX3_ropeGoes_0 24 rfl rfl
theorem dksX3_ropeGoes_2 : cX3_ropeGoes.data.toList.drop 48 = dktX3_ropeGoes_2 := dk_seg dksX3_ropeGoes_1 24 rfl rfl
theorem dksX3_ropeGoes_3 : cX3_ropeGoes.data.toList.drop 72 = dktX3_ropeGoes_3 := dk_seg dksX3_ropeGoes_2 24 rfl rfl
theorem dX3_ropeGoes_0 : decode cX3_ropeGoes 0 = .ok (.iload_n 1, 1) := dk_27 (dk_at dksX3_ropeGoes_0 0 rfl rfl)
theorem dX3_ropeGoes_1 : decode cX3_ropeGoes 1 = .ok (.istore_n 2, 1) := dk_61 (dk_at dksX3_ropeGoes_0 1 rfl rfl)
theorem dX3_ropeGoes_2 : decode cX3_ropeGoes 2 = .ok (.iload_n 2, 1) := dk_28 (dk_at dksX3_ropeGoes_0 2 rfl rfl)
theorem dX3_ropeGoes_3 : decode cX3_ropeGoes 3 = .ok (.iconst 1, 1) := dk_4 (dk_at dksX3_ropeGoes_0 3 rfl rfl)
theorem dX3_ropeGoes_4 : decode cX3_ropeGoes 4 = .ok (.iadd, 1) := dk_96 (dk_at dksX3_ropeGoes_0 4 rfl rfl)
theorem dX3_ropeGoes_5 : decode cX3_ropeGoes 5 = .ok (.aload_n 0, 1) := dk_42 (dk_at dksX3_ropeGoes_0 5 rfl rfl)
theorem dX3_ropeGoes_6 : decode cX3_ropeGoes 6 = .ok (.getfield 9, 3) := dk_180 0 9 (dk_at dksX3_ropeGoes_0 6 rfl rfl)
theorem dX3_ropeGoes_9 : decode cX3_ropeGoes 9 = .ok (.iconst 4, 1) := dk_7 (dk_at dksX3_ropeGoes_0 9 rfl rfl)
theorem dX3_ropeGoes_10 : decode cX3_ropeGoes 10 = .ok (.iaload, 1) := dk_46 (dk_at dksX3_ropeGoes_0 10 rfl rfl)
theorem dX3_ropeGoes_11 : decode cX3_ropeGoes 11 = .ok (.if_icmp .ge 51, 3) := dk_162 0 51 (dk_at dksX3_ropeGoes_0 11 rfl rfl)
theorem dX3_ropeGoes_14 : decode cX3_ropeGoes 14 = .ok (.aload_n 0, 1) := dk_42 (dk_at dksX3_ropeGoes_0 14 rfl rfl)
theorem dX3_ropeGoes_15 : decode cX3_ropeGoes 15 = .ok (.getfield 40, 3) := dk_180 0 40 (dk_at dksX3_ropeGoes_0 15 rfl rfl)
theorem dX3_ropeGoes_18 : decode cX3_ropeGoes 18 = .ok (.iload_n 2, 1) := dk_28 (dk_at dksX3_ropeGoes_0 18 rfl rfl)
theorem dX3_ropeGoes_19 : decode cX3_ropeGoes 19 = .ok (.aload_n 0, 1) := dk_42 (dk_at dksX3_ropeGoes_0 19 rfl rfl)
theorem dX3_ropeGoes_20 : decode cX3_ropeGoes 20 = .ok (.getfield 40, 3) := dk_180 0 40 (dk_at dksX3_ropeGoes_0 20 rfl rfl)
theorem dX3_ropeGoes_23 : decode cX3_ropeGoes 23 = .ok (.iload_n 2, 1) := dk_28 (dk_at dksX3_ropeGoes_0 23 rfl rfl)
theorem dX3_ropeGoes_24 : decode cX3_ropeGoes 24 = .ok (.iconst 1, 1) := dk_4 (dk_at dksX3_ropeGoes_1 0 rfl rfl)
theorem dX3_ropeGoes_25 : decode cX3_ropeGoes 25 = .ok (.iadd, 1) := dk_96 (dk_at dksX3_ropeGoes_1 1 rfl rfl)
theorem dX3_ropeGoes_26 : decode cX3_ropeGoes 26 = .ok (.iaload, 1) := dk_46 (dk_at dksX3_ropeGoes_1 2 rfl rfl)
theorem dX3_ropeGoes_27 : decode cX3_ropeGoes 27 = .ok (.iastore, 1) := dk_79 (dk_at dksX3_ropeGoes_1 3 rfl rfl)
theorem dX3_ropeGoes_28 : decode cX3_ropeGoes 28 = .ok (.aload_n 0, 1) := dk_42 (dk_at dksX3_ropeGoes_1 4 rfl rfl)
theorem dX3_ropeGoes_29 : decode cX3_ropeGoes 29 = .ok (.getfield 43, 3) := dk_180 0 43 (dk_at dksX3_ropeGoes_1 5 rfl rfl)
theorem dX3_ropeGoes_32 : decode cX3_ropeGoes 32 = .ok (.iload_n 2, 1) := dk_28 (dk_at dksX3_ropeGoes_1 8 rfl rfl)
theorem dX3_ropeGoes_33 : decode cX3_ropeGoes 33 = .ok (.aload_n 0, 1) := dk_42 (dk_at dksX3_ropeGoes_1 9 rfl rfl)
theorem dX3_ropeGoes_34 : decode cX3_ropeGoes 34 = .ok (.getfield 43, 3) := dk_180 0 43 (dk_at dksX3_ropeGoes_1 10 rfl rfl)
theorem dX3_ropeGoes_37 : decode cX3_ropeGoes 37 = .ok (.iload_n 2, 1) := dk_28 (dk_at dksX3_ropeGoes_1 13 rfl rfl)
theorem dX3_ropeGoes_38 : decode cX3_ropeGoes 38 = .ok (.iconst 1, 1) := dk_4 (dk_at dksX3_ropeGoes_1 14 rfl rfl)
theorem dX3_ropeGoes_39 : decode cX3_ropeGoes 39 = .ok (.iadd, 1) := dk_96 (dk_at dksX3_ropeGoes_1 15 rfl rfl)
theorem dX3_ropeGoes_40 : decode cX3_ropeGoes 40 = .ok (.iaload, 1) := dk_46 (dk_at dksX3_ropeGoes_1 16 rfl rfl)
theorem dX3_ropeGoes_41 : decode cX3_ropeGoes 41 = .ok (.iastore, 1) := dk_79 (dk_at dksX3_ropeGoes_1 17 rfl rfl)
theorem dX3_ropeGoes_42 : decode cX3_ropeGoes 42 = .ok (.aload_n 0, 1) := dk_42 (dk_at dksX3_ropeGoes_1 18 rfl rfl)
theorem dX3_ropeGoes_43 : decode cX3_ropeGoes 43 = .ok (.getfield 46, 3) := dk_180 0 46 (dk_at dksX3_ropeGoes_1 19 rfl rfl)
theorem dX3_ropeGoes_46 : decode cX3_ropeGoes 46 = .ok (.iload_n 2, 1) := dk_28 (dk_at dksX3_ropeGoes_1 22 rfl rfl)
theorem dX3_ropeGoes_47 : decode cX3_ropeGoes 47 = .ok (.aload_n 0, 1) := dk_42 (dk_at dksX3_ropeGoes_1 23 rfl rfl)
theorem dX3_ropeGoes_48 : decode cX3_ropeGoes 48 = .ok (.getfield 46, 3) := dk_180 0 46 (dk_at dksX3_ropeGoes_2 0 rfl rfl)
theorem dX3_ropeGoes_51 : decode cX3_ropeGoes 51 = .ok (.iload_n 2, 1) := dk_28 (dk_at dksX3_ropeGoes_2 3 rfl rfl)
theorem dX3_ropeGoes_52 : decode cX3_ropeGoes 52 = .ok (.iconst 1, 1) := dk_4 (dk_at dksX3_ropeGoes_2 4 rfl rfl)
theorem dX3_ropeGoes_53 : decode cX3_ropeGoes 53 = .ok (.iadd, 1) := dk_96 (dk_at dksX3_ropeGoes_2 5 rfl rfl)
theorem dX3_ropeGoes_54 : decode cX3_ropeGoes 54 = .ok (.iaload, 1) := dk_46 (dk_at dksX3_ropeGoes_2 6 rfl rfl)
theorem dX3_ropeGoes_55 : decode cX3_ropeGoes 55 = .ok (.iastore, 1) := dk_79 (dk_at dksX3_ropeGoes_2 7 rfl rfl)
theorem dX3_ropeGoes_56 : decode cX3_ropeGoes 56 = .ok (.iinc 2 1, 3) := dk_132 2 1 (dk_at dksX3_ropeGoes_2 8 rfl rfl)
theorem dX3_ropeGoes_59 : decode cX3_ropeGoes 59 = .ok (.goto (-57), 3) := dk_167 255 199 (dk_at dksX3_ropeGoes_2 11 rfl rfl)
theorem dX3_ropeGoes_62 : decode cX3_ropeGoes 62 = .ok (.aload_n 0, 1) := dk_42 (dk_at dksX3_ropeGoes_2 14 rfl rfl)
theorem dX3_ropeGoes_63 : decode cX3_ropeGoes 63 = .ok (.getfield 9, 3) := dk_180 0 9 (dk_at dksX3_ropeGoes_2 15 rfl rfl)
theorem dX3_ropeGoes_66 : decode cX3_ropeGoes 66 = .ok (.iconst 4, 1) := dk_7 (dk_at dksX3_ropeGoes_2 18 rfl rfl)
theorem dX3_ropeGoes_67 : decode cX3_ropeGoes 67 = .ok (.dup2, 1) := dk_92 (dk_at dksX3_ropeGoes_2 19 rfl rfl)
theorem dX3_ropeGoes_68 : decode cX3_ropeGoes 68 = .ok (.iaload, 1) := dk_46 (dk_at dksX3_ropeGoes_2 20 rfl rfl)
theorem dX3_ropeGoes_69 : decode cX3_ropeGoes 69 = .ok (.iconst 1, 1) := dk_4 (dk_at dksX3_ropeGoes_2 21 rfl rfl)
theorem dX3_ropeGoes_70 : decode cX3_ropeGoes 70 = .ok (.isub, 1) := dk_100 (dk_at dksX3_ropeGoes_2 22 rfl rfl)
theorem dX3_ropeGoes_71 : decode cX3_ropeGoes 71 = .ok (.iastore, 1) := dk_79 (dk_at dksX3_ropeGoes_2 23 rfl rfl)
theorem dX3_ropeGoes_72 : decode cX3_ropeGoes 72 = .ok (.return_, 1) := dk_177 (dk_at dksX3_ropeGoes_3 0 rfl rfl)
abbrev cX3_lands : ByteArray := prog_17_method_77_code
def yX3_lands : MethodName := ⟨RX3, "lands", "()V"⟩
def dkwX3_lands_6 : List UInt8 := [132, 2, 1, 167, 255, 219, 42, 27, 184, 1, 204, 181, 1, 207, 177]
abbrev dktX3_lands_6 : List UInt8 := dkwX3_lands_6 ++ []
def dkwX3_lands_5 : List UInt8 := [180, 0, 34, 28, 27, 28, 184, 1, 134, 153, 0, 7, 4, 167, 0, 9, 42, 180, 0, 34, 28, 46, 79]
abbrev dktX3_lands_5 : List UInt8 := dkwX3_lands_5 ++ dktX3_lands_6
def dkwX3_lands_4 : List UInt8 := [167, 255, 164, 42, 27, 4, 182, 1, 200, 87, 3, 61, 28, 42, 180, 0, 9, 6, 46, 162, 0, 33, 42]
abbrev dktX3_lands_4 : List UInt8 := dkwX3_lands_4 ++ dktX3_lands_5
def dkwX3_lands_3 : List UInt8 := [29, 46, 28, 160, 0, 9, 4, 29, 120, 167, 0, 4, 3, 128, 60, 132, 3, 1, 167, 255, 214, 132, 2, 1]
abbrev dktX3_lands_3 : List UInt8 := dkwX3_lands_3 ++ dktX3_lands_4
def dkwX3_lands_2 : List UInt8 := [29, 42, 180, 0, 9, 6, 46, 162, 0, 38, 27, 42, 180, 0, 34, 29, 46, 154, 0, 19, 42, 180, 0, 22]
abbrev dktX3_lands_2 : List UInt8 := dkwX3_lands_2 ++ dktX3_lands_3
def dkwX3_lands_1 : List UInt8 := [180, 0, 13, 28, 46, 42, 180, 0, 9, 16, 6, 46, 160, 0, 57, 42, 180, 0, 19, 28, 4, 79, 3, 62]
abbrev dktX3_lands_1 : List UInt8 := dkwX3_lands_1 ++ dktX3_lands_2
def dkwX3_lands_0 : List UInt8 := [3, 60, 3, 61, 28, 42, 180, 0, 9, 5, 46, 162, 0, 88, 42, 180, 0, 19, 28, 46, 154, 0, 73, 42]
abbrev dktX3_lands_0 : List UInt8 := dkwX3_lands_0 ++ dktX3_lands_1
theorem dksX3_lands_0 : cX3_lands.data.toList.drop 0 = dktX3_lands_0 := by decide +kernel
theorem dksX3_lands_1 : cX3_lands.data.toList.drop 24 = dktX3_lands_1 := dk_seg dksX3_lands_0 24 rfl rfl
theorem dksX3_lands_2 : cX3_lands.data.toList.drop 48 = dktX3_lands_2 := dk_seg dksX3_lands_1 24 rfl rfl
theorem dksX3_lands_3 : cX3_lands.data.toList.drop 72 = dktX3_lands_3 := dk_seg dksX3_lands_2 24 rfl rfl
theorem dksX3_lands_4 : cX3_lands.data.toList.drop 96 = dktX3_lands_4 := dk_seg dksX3_lands_3 24 rfl rfl
theorem dksX3_lands_5 : cX3_lands.data.toList.drop 119 = dktX3_lands_5 := dk_seg dksX3_lands_4 23 rfl rfl
theorem dksX3_lands_6 : cX3_lands.data.toList.drop 142 = dktX3_lands_6 := dk_seg dksX3_lands_5 23 rfl rfl
theorem dX3_lands_0 : decode cX3_lands 0 = .ok (.iconst 0, 1) := dk_3 (dk_at dksX3_lands_0 0 rfl rfl)
theorem dX3_lands_1 : decode cX3_lands 1 = .ok (.istore_n 1, 1) := dk_60 (dk_at dksX3_lands_0 1 rfl rfl)
theorem dX3_lands_2 : decode cX3_lands 2 = .ok (.iconst 0, 1) := dk_3 (dk_at dksX3_lands_0 2 rfl rfl)
theorem dX3_lands_3 : decode cX3_lands 3 = .ok (.istore_n 2, 1) := dk_61 (dk_at dksX3_lands_0 3 rfl rfl)
theorem dX3_lands_4 : decode cX3_lands 4 = .ok (.iload_n 2, 1) := dk_28 (dk_at dksX3_lands_0 4 rfl rfl)
theorem dX3_lands_5 : decode cX3_lands 5 = .ok (.aload_n 0, 1) := dk_42 (dk_at dksX3_lands_0 5 rfl rfl)
theorem dX3_lands_6 : decode cX3_lands 6 = .ok (.getfield 9, 3) := dk_180 0 9 (dk_at dksX3_lands_0 6 rfl rfl)
theorem dX3_lands_9 : decode cX3_lands 9 = .ok (.iconst 2, 1) := dk_5 (dk_at dksX3_lands_0 9 rfl rfl)
theorem dX3_lands_10 : decode cX3_lands 10 = .ok (.iaload, 1) := dk_46 (dk_at dksX3_lands_0 10 rfl rfl)
theorem dX3_lands_11 : decode cX3_lands 11 = .ok (.if_icmp .ge 88, 3) := dk_162 0 88 (dk_at dksX3_lands_0 11 rfl rfl)
theorem dX3_lands_14 : decode cX3_lands 14 = .ok (.aload_n 0, 1) := dk_42 (dk_at dksX3_lands_0 14 rfl rfl)
theorem dX3_lands_15 : decode cX3_lands 15 = .ok (.getfield 19, 3) := dk_180 0 19 (dk_at dksX3_lands_0 15 rfl rfl)
theorem dX3_lands_18 : decode cX3_lands 18 = .ok (.iload_n 2, 1) := dk_28 (dk_at dksX3_lands_0 18 rfl rfl)
theorem dX3_lands_19 : decode cX3_lands 19 = .ok (.iaload, 1) := dk_46 (dk_at dksX3_lands_0 19 rfl rfl)
theorem dX3_lands_20 : decode cX3_lands 20 = .ok (.ifCond .ne 73, 3) := dk_154 0 73 (dk_at dksX3_lands_0 20 rfl rfl)
theorem dX3_lands_23 : decode cX3_lands 23 = .ok (.aload_n 0, 1) := dk_42 (dk_at dksX3_lands_0 23 rfl rfl)
theorem dX3_lands_24 : decode cX3_lands 24 = .ok (.getfield 13, 3) := dk_180 0 13 (dk_at dksX3_lands_1 0 rfl rfl)
theorem dX3_lands_27 : decode cX3_lands 27 = .ok (.iload_n 2, 1) := dk_28 (dk_at dksX3_lands_1 3 rfl rfl)
theorem dX3_lands_28 : decode cX3_lands 28 = .ok (.iaload, 1) := dk_46 (dk_at dksX3_lands_1 4 rfl rfl)
theorem dX3_lands_29 : decode cX3_lands 29 = .ok (.aload_n 0, 1) := dk_42 (dk_at dksX3_lands_1 5 rfl rfl)
theorem dX3_lands_30 : decode cX3_lands 30 = .ok (.getfield 9, 3) := dk_180 0 9 (dk_at dksX3_lands_1 6 rfl rfl)
theorem dX3_lands_33 : decode cX3_lands 33 = .ok (.bipush 6, 2) := dk_16 6 (dk_at dksX3_lands_1 9 rfl rfl)
theorem dX3_lands_35 : decode cX3_lands 35 = .ok (.iaload, 1) := dk_46 (dk_at dksX3_lands_1 11 rfl rfl)
theorem dX3_lands_36 : decode cX3_lands 36 = .ok (.if_icmp .ne 57, 3) := dk_160 0 57 (dk_at dksX3_lands_1 12 rfl rfl)
theorem dX3_lands_39 : decode cX3_lands 39 = .ok (.aload_n 0, 1) := dk_42 (dk_at dksX3_lands_1 15 rfl rfl)
theorem dX3_lands_40 : decode cX3_lands 40 = .ok (.getfield 19, 3) := dk_180 0 19 (dk_at dksX3_lands_1 16 rfl rfl)
theorem dX3_lands_43 : decode cX3_lands 43 = .ok (.iload_n 2, 1) := dk_28 (dk_at dksX3_lands_1 19 rfl rfl)
theorem dX3_lands_44 : decode cX3_lands 44 = .ok (.iconst 1, 1) := dk_4 (dk_at dksX3_lands_1 20 rfl rfl)
theorem dX3_lands_45 : decode cX3_lands 45 = .ok (.iastore, 1) := dk_79 (dk_at dksX3_lands_1 21 rfl rfl)
theorem dX3_lands_46 : decode cX3_lands 46 = .ok (.iconst 0, 1) := dk_3 (dk_at dksX3_lands_1 22 rfl rfl)
theorem dX3_lands_47 : decode cX3_lands 47 = .ok (.istore_n 3, 1) := dk_62 (dk_at dksX3_lands_1 23 rfl rfl)
theorem dX3_lands_48 : decode cX3_lands 48 = .ok (.iload_n 3, 1) := dk_29 (dk_at dksX3_lands_2 0 rfl rfl)
theorem dX3_lands_49 : decode cX3_lands 49 = .ok (.aload_n 0, 1) := dk_42 (dk_at dksX3_lands_2 1 rfl rfl)
theorem dX3_lands_50 : decode cX3_lands 50 = .ok (.getfield 9, 3) := dk_180 0 9 (dk_at dksX3_lands_2 2 rfl rfl)
theorem dX3_lands_53 : decode cX3_lands 53 = .ok (.iconst 3, 1) := dk_6 (dk_at dksX3_lands_2 5 rfl rfl)
theorem dX3_lands_54 : decode cX3_lands 54 = .ok (.iaload, 1) := dk_46 (dk_at dksX3_lands_2 6 rfl rfl)
theorem dX3_lands_55 : decode cX3_lands 55 = .ok (.if_icmp .ge 38, 3) := dk_162 0 38 (dk_at dksX3_lands_2 7 rfl rfl)
theorem dX3_lands_58 : decode cX3_lands 58 = .ok (.iload_n 1, 1) := dk_27 (dk_at dksX3_lands_2 10 rfl rfl)
theorem dX3_lands_59 : decode cX3_lands 59 = .ok (.aload_n 0, 1) := dk_42 (dk_at dksX3_lands_2 11 rfl rfl)
theorem dX3_lands_60 : decode cX3_lands 60 = .ok (.getfield 34, 3) := dk_180 0 34 (dk_at dksX3_lands_2 12 rfl rfl)
theorem dX3_lands_63 : decode cX3_lands 63 = .ok (.iload_n 3, 1) := dk_29 (dk_at dksX3_lands_2 15 rfl rfl)
theorem dX3_lands_64 : decode cX3_lands 64 = .ok (.iaload, 1) := dk_46 (dk_at dksX3_lands_2 16 rfl rfl)
theorem dX3_lands_65 : decode cX3_lands 65 = .ok (.ifCond .ne 19, 3) := dk_154 0 19 (dk_at dksX3_lands_2 17 rfl rfl)
theorem dX3_lands_68 : decode cX3_lands 68 = .ok (.aload_n 0, 1) := dk_42 (dk_at dksX3_lands_2 20 rfl rfl)
theorem dX3_lands_69 : decode cX3_lands 69 = .ok (.getfield 22, 3) := dk_180 0 22 (dk_at dksX3_lands_2 21 rfl rfl)
theorem dX3_lands_72 : decode cX3_lands 72 = .ok (.iload_n 3, 1) := dk_29 (dk_at dksX3_lands_3 0 rfl rfl)
theorem dX3_lands_73 : decode cX3_lands 73 = .ok (.iaload, 1) := dk_46 (dk_at dksX3_lands_3 1 rfl rfl)
theorem dX3_lands_74 : decode cX3_lands 74 = .ok (.iload_n 2, 1) := dk_28 (dk_at dksX3_lands_3 2 rfl rfl)
theorem dX3_lands_75 : decode cX3_lands 75 = .ok (.if_icmp .ne 9, 3) := dk_160 0 9 (dk_at dksX3_lands_3 3 rfl rfl)
theorem dX3_lands_78 : decode cX3_lands 78 = .ok (.iconst 1, 1) := dk_4 (dk_at dksX3_lands_3 6 rfl rfl)
theorem dX3_lands_79 : decode cX3_lands 79 = .ok (.iload_n 3, 1) := dk_29 (dk_at dksX3_lands_3 7 rfl rfl)
theorem dX3_lands_80 : decode cX3_lands 80 = .ok (.ishl, 1) := dk_120 (dk_at dksX3_lands_3 8 rfl rfl)
theorem dX3_lands_81 : decode cX3_lands 81 = .ok (.goto 4, 3) := dk_167 0 4 (dk_at dksX3_lands_3 9 rfl rfl)
theorem dX3_lands_84 : decode cX3_lands 84 = .ok (.iconst 0, 1) := dk_3 (dk_at dksX3_lands_3 12 rfl rfl)
theorem dX3_lands_85 : decode cX3_lands 85 = .ok (.ior, 1) := dk_128 (dk_at dksX3_lands_3 13 rfl rfl)
theorem dX3_lands_86 : decode cX3_lands 86 = .ok (.istore_n 1, 1) := dk_60 (dk_at dksX3_lands_3 14 rfl rfl)
theorem dX3_lands_87 : decode cX3_lands 87 = .ok (.iinc 3 1, 3) := dk_132 3 1 (dk_at dksX3_lands_3 15 rfl rfl)
theorem dX3_lands_90 : decode cX3_lands 90 = .ok (.goto (-42), 3) := dk_167 255 214 (dk_at dksX3_lands_3 18 rfl rfl)
theorem dX3_lands_93 : decode cX3_lands 93 = .ok (.iinc 2 1, 3) := dk_132 2 1 (dk_at dksX3_lands_3 21 rfl rfl)
theorem dX3_lands_96 : decode cX3_lands 96 = .ok (.goto (-92), 3) := dk_167 255 164 (dk_at dksX3_lands_4 0 rfl rfl)
theorem dX3_lands_99 : decode cX3_lands 99 = .ok (.aload_n 0, 1) := dk_42 (dk_at dksX3_lands_4 3 rfl rfl)
theorem dX3_lands_100 : decode cX3_lands 100 = .ok (.iload_n 1, 1) := dk_27 (dk_at dksX3_lands_4 4 rfl rfl)
theorem dX3_lands_101 : decode cX3_lands 101 = .ok (.iconst 1, 1) := dk_4 (dk_at dksX3_lands_4 5 rfl rfl)
theorem dX3_lands_102 : decode cX3_lands 102 = .ok (.invokevirtual 456, 3) := dk_182 1 200 (dk_at dksX3_lands_4 6 rfl rfl)
theorem dX3_lands_105 : decode cX3_lands 105 = .ok (.pop, 1) := dk_87 (dk_at dksX3_lands_4 9 rfl rfl)
theorem dX3_lands_106 : decode cX3_lands 106 = .ok (.iconst 0, 1) := dk_3 (dk_at dksX3_lands_4 10 rfl rfl)
theorem dX3_lands_107 : decode cX3_lands 107 = .ok (.istore_n 2, 1) := dk_61 (dk_at dksX3_lands_4 11 rfl rfl)
theorem dX3_lands_108 : decode cX3_lands 108 = .ok (.iload_n 2, 1) := dk_28 (dk_at dksX3_lands_4 12 rfl rfl)
theorem dX3_lands_109 : decode cX3_lands 109 = .ok (.aload_n 0, 1) := dk_42 (dk_at dksX3_lands_4 13 rfl rfl)
theorem dX3_lands_110 : decode cX3_lands 110 = .ok (.getfield 9, 3) := dk_180 0 9 (dk_at dksX3_lands_4 14 rfl rfl)
theorem dX3_lands_113 : decode cX3_lands 113 = .ok (.iconst 3, 1) := dk_6 (dk_at dksX3_lands_4 17 rfl rfl)
theorem dX3_lands_114 : decode cX3_lands 114 = .ok (.iaload, 1) := dk_46 (dk_at dksX3_lands_4 18 rfl rfl)
theorem dX3_lands_115 : decode cX3_lands 115 = .ok (.if_icmp .ge 33, 3) := dk_162 0 33 (dk_at dksX3_lands_4 19 rfl rfl)
theorem dX3_lands_118 : decode cX3_lands 118 = .ok (.aload_n 0, 1) := dk_42 (dk_at dksX3_lands_4 22 rfl rfl)
theorem dX3_lands_119 : decode cX3_lands 119 = .ok (.getfield 34, 3) := dk_180 0 34 (dk_at dksX3_lands_5 0 rfl rfl)
theorem dX3_lands_122 : decode cX3_lands 122 = .ok (.iload_n 2, 1) := dk_28 (dk_at dksX3_lands_5 3 rfl rfl)
theorem dX3_lands_123 : decode cX3_lands 123 = .ok (.iload_n 1, 1) := dk_27 (dk_at dksX3_lands_5 4 rfl rfl)
theorem dX3_lands_124 : decode cX3_lands 124 = .ok (.iload_n 2, 1) := dk_28 (dk_at dksX3_lands_5 5 rfl rfl)
theorem dX3_lands_125 : decode cX3_lands 125 = .ok (.invokestatic 390, 3) := dk_184 1 134 (dk_at dksX3_lands_5 6 rfl rfl)
theorem dX3_lands_128 : decode cX3_lands 128 = .ok (.ifCond .eq 7, 3) := dk_153 0 7 (dk_at dksX3_lands_5 9 rfl rfl)
theorem dX3_lands_131 : decode cX3_lands 131 = .ok (.iconst 1, 1) := dk_4 (dk_at dksX3_lands_5 12 rfl rfl)
theorem dX3_lands_132 : decode cX3_lands 132 = .ok (.goto 9, 3) := dk_167 0 9 (dk_at dksX3_lands_5 13 rfl rfl)
theorem dX3_lands_135 : decode cX3_lands 135 = .ok (.aload_n 0, 1) := dk_42 (dk_at dksX3_lands_5 16 rfl rfl)
theorem dX3_lands_136 : decode cX3_lands 136 = .ok (.getfield 34, 3) := dk_180 0 34 (dk_at dksX3_lands_5 17 rfl rfl)
theorem dX3_lands_139 : decode cX3_lands 139 = .ok (.iload_n 2, 1) := dk_28 (dk_at dksX3_lands_5 20 rfl rfl)
theorem dX3_lands_140 : decode cX3_lands 140 = .ok (.iaload, 1) := dk_46 (dk_at dksX3_lands_5 21 rfl rfl)
theorem dX3_lands_141 : decode cX3_lands 141 = .ok (.iastore, 1) := dk_79 (dk_at dksX3_lands_5 22 rfl rfl)
theorem dX3_lands_142 : decode cX3_lands 142 = .ok (.iinc 2 1, 3) := dk_132 2 1 (dk_at dksX3_lands_6 0 rfl rfl)
theorem dX3_lands_145 : decode cX3_lands 145 = .ok (.goto (-37), 3) := dk_167 255 219 (dk_at dksX3_lands_6 3 rfl rfl)
theorem dX3_lands_148 : decode cX3_lands 148 = .ok (.aload_n 0, 1) := dk_42 (dk_at dksX3_lands_6 6 rfl rfl)
theorem dX3_lands_149 : decode cX3_lands 149 = .ok (.iload_n 1, 1) := dk_27 (dk_at dksX3_lands_6 7 rfl rfl)
theorem dX3_lands_150 : decode cX3_lands 150 = .ok (.invokestatic 460, 3) := dk_184 1 204 (dk_at dksX3_lands_6 8 rfl rfl)
theorem dX3_lands_153 : decode cX3_lands 153 = .ok (.putfield 463, 3) := dk_181 1 207 (dk_at dksX3_lands_6 11 rfl rfl)
theorem dX3_lands_156 : decode cX3_lands 156 = .ok (.return_, 1) := dk_177 (dk_at dksX3_lands_6 14 rfl rfl)
abbrev cX3_ropesGoOf : ByteArray := prog_17_method_72_code
def yX3_ropesGoOf : MethodName := ⟨RX3, "ropesGoOf", "(IZ)I"⟩
def dkwX3_ropesGoOf_3 : List UInt8 := [21, 4, 182, 1, 183, 132, 3, 1, 132, 4, 255, 167, 255, 187, 29, 172]
abbrev dktX3_ropesGoOf_3 : List UInt8 := dkwX3_ropesGoOf_3 ++ []
def dkwX3_ropesGoOf_2 : List UInt8 := [180, 0, 9, 4, 92, 46, 28, 153, 0, 13, 42, 180, 0, 46, 21, 4, 46, 167, 0, 4, 3, 96, 79, 42]
abbrev dktX3_ropesGoOf_2 : List UInt8 := dkwX3_ropesGoOf_2 ++ dktX3_ropesGoOf_3
def dkwX3_ropesGoOf_1 : List UInt8 := [46, 184, 1, 134, 154, 0, 17, 27, 42, 180, 0, 43, 21, 4, 46, 184, 1, 134, 153, 0, 36, 42]
abbrev dktX3_ropesGoOf_1 : List UInt8 := dkwX3_ropesGoOf_1 ++ dktX3_ropesGoOf_2
def dkwX3_ropesGoOf_0 : List UInt8 := [3, 62, 42, 180, 0, 9, 7, 46, 4, 100, 54, 4, 21, 4, 155, 0, 70, 27, 42, 180, 0, 40, 21, 4]
abbrev dktX3_ropesGoOf_0 : List UInt8 := dkwX3_ropesGoOf_0 ++ dktX3_ropesGoOf_1
theorem dksX3_ropesGoOf_0 : cX3_ropesGoOf.data.toList.drop 0 = dktX3_ropesGoOf_0 := by decide +kernel
theorem dksX3_ropesGoOf_1 : cX3_ropesGoOf.data.toList.drop 24 = dktX3_ropesGoOf_1 := dk_seg dksX3_ropesGoOf_0 24 rfl rfl
theorem dksX3_ropesGoOf_2 : cX3_ropesGoOf.data.toList.drop 46 = dktX3_ropesGoOf_2 := dk_seg dksX3_ropesGoOf_1 22 rfl rfl
theorem dksX3_ropesGoOf_3 : cX3_ropesGoOf.data.toList.drop 70 = dktX3_ropesGoOf_3 := dk_seg dksX3_ropesGoOf_2 24 rfl rfl
theorem dX3_ropesGoOf_0 : decode cX3_ropesGoOf 0 = .ok (.iconst 0, 1) := dk_3 (dk_at dksX3_ropesGoOf_0 0 rfl rfl)
theorem dX3_ropesGoOf_1 : decode cX3_ropesGoOf 1 = .ok (.istore_n 3, 1) := dk_62 (dk_at dksX3_ropesGoOf_0 1 rfl rfl)
theorem dX3_ropesGoOf_2 : decode cX3_ropesGoOf 2 = .ok (.aload_n 0, 1) := dk_42 (dk_at dksX3_ropesGoOf_0 2 rfl rfl)
theorem dX3_ropesGoOf_3 : decode cX3_ropesGoOf 3 = .ok (.getfield 9, 3) := dk_180 0 9 (dk_at dksX3_ropesGoOf_0 3 rfl rfl)
theorem dX3_ropesGoOf_6 : decode cX3_ropesGoOf 6 = .ok (.iconst 4, 1) := dk_7 (dk_at dksX3_ropesGoOf_0 6 rfl rfl)
theorem dX3_ropesGoOf_7 : decode cX3_ropesGoOf 7 = .ok (.iaload, 1) := dk_46 (dk_at dksX3_ropesGoOf_0 7 rfl rfl)
theorem dX3_ropesGoOf_8 : decode cX3_ropesGoOf 8 = .ok (.iconst 1, 1) := dk_4 (dk_at dksX3_ropesGoOf_0 8 rfl rfl)
theorem dX3_ropesGoOf_9 : decode cX3_ropesGoOf 9 = .ok (.isub, 1) := dk_100 (dk_at dksX3_ropesGoOf_0 9 rfl rfl)
theorem dX3_ropesGoOf_10 : decode cX3_ropesGoOf 10 = .ok (.istore 4, 2) := dk_54 4 (dk_at dksX3_ropesGoOf_0 10 rfl rfl)
theorem dX3_ropesGoOf_12 : decode cX3_ropesGoOf 12 = .ok (.iload 4, 2) := dk_21 4 (dk_at dksX3_ropesGoOf_0 12 rfl rfl)
theorem dX3_ropesGoOf_14 : decode cX3_ropesGoOf 14 = .ok (.ifCond .lt 70, 3) := dk_155 0 70 (dk_at dksX3_ropesGoOf_0 14 rfl rfl)
theorem dX3_ropesGoOf_17 : decode cX3_ropesGoOf 17 = .ok (.iload_n 1, 1) := dk_27 (dk_at dksX3_ropesGoOf_0 17 rfl rfl)
theorem dX3_ropesGoOf_18 : decode cX3_ropesGoOf 18 = .ok (.aload_n 0, 1) := dk_42 (dk_at dksX3_ropesGoOf_0 18 rfl rfl)
theorem dX3_ropesGoOf_19 : decode cX3_ropesGoOf 19 = .ok (.getfield 40, 3) := dk_180 0 40 (dk_at dksX3_ropesGoOf_0 19 rfl rfl)
theorem dX3_ropesGoOf_22 : decode cX3_ropesGoOf 22 = .ok (.iload 4, 2) := dk_21 4 (dk_at dksX3_ropesGoOf_0 22 rfl rfl)
theorem dX3_ropesGoOf_24 : decode cX3_ropesGoOf 24 = .ok (.iaload, 1) := dk_46 (dk_at dksX3_ropesGoOf_1 0 rfl rfl)
theorem dX3_ropesGoOf_25 : decode cX3_ropesGoOf 25 = .ok (.invokestatic 390, 3) := dk_184 1 134 (dk_at dksX3_ropesGoOf_1 1 rfl rfl)
theorem dX3_ropesGoOf_28 : decode cX3_ropesGoOf 28 = .ok (.ifCond .ne 17, 3) := dk_154 0 17 (dk_at dksX3_ropesGoOf_1 4 rfl rfl)
theorem dX3_ropesGoOf_31 : decode cX3_ropesGoOf 31 = .ok (.iload_n 1, 1) := dk_27 (dk_at dksX3_ropesGoOf_1 7 rfl rfl)
theorem dX3_ropesGoOf_32 : decode cX3_ropesGoOf 32 = .ok (.aload_n 0, 1) := dk_42 (dk_at dksX3_ropesGoOf_1 8 rfl rfl)
theorem dX3_ropesGoOf_33 : decode cX3_ropesGoOf 33 = .ok (.getfield 43, 3) := dk_180 0 43 (dk_at dksX3_ropesGoOf_1 9 rfl rfl)
theorem dX3_ropesGoOf_36 : decode cX3_ropesGoOf 36 = .ok (.iload 4, 2) := dk_21 4 (dk_at dksX3_ropesGoOf_1 12 rfl rfl)
theorem dX3_ropesGoOf_38 : decode cX3_ropesGoOf 38 = .ok (.iaload, 1) := dk_46 (dk_at dksX3_ropesGoOf_1 14 rfl rfl)
theorem dX3_ropesGoOf_39 : decode cX3_ropesGoOf 39 = .ok (.invokestatic 390, 3) := dk_184 1 134 (dk_at dksX3_ropesGoOf_1 15 rfl rfl)
theorem dX3_ropesGoOf_42 : decode cX3_ropesGoOf 42 = .ok (.ifCond .eq 36, 3) := dk_153 0 36 (dk_at dksX3_ropesGoOf_1 18 rfl rfl)
theorem dX3_ropesGoOf_45 : decode cX3_ropesGoOf 45 = .ok (.aload_n 0, 1) := dk_42 (dk_at dksX3_ropesGoOf_1 21 rfl rfl)
theorem dX3_ropesGoOf_46 : decode cX3_ropesGoOf 46 = .ok (.getfield 9, 3) := dk_180 0 9 (dk_at dksX3_ropesGoOf_2 0 rfl rfl)
theorem dX3_ropesGoOf_49 : decode cX3_ropesGoOf 49 = .ok (.iconst 1, 1) := dk_4 (dk_at dksX3_ropesGoOf_2 3 rfl rfl)
theorem dX3_ropesGoOf_50 : decode cX3_ropesGoOf 50 = .ok (.dup2, 1) := dk_92 (dk_at dksX3_ropesGoOf_2 4 rfl rfl)
theorem dX3_ropesGoOf_51 : decode cX3_ropesGoOf 51 = .ok (.iaload, 1) := dk_46 (dk_at dksX3_ropesGoOf_2 5 rfl rfl)
theorem dX3_ropesGoOf_52 : decode cX3_ropesGoOf 52 = .ok (.iload_n 2, 1) := dk_28 (dk_at dksX3_ropesGoOf_2 6 rfl rfl)
theorem dX3_ropesGoOf_53 : decode cX3_ropesGoOf 53 = .ok (.ifCond .eq 13, 3) := dk_153 0 13 (dk_at dksX3_ropesGoOf_2 7 rfl rfl)
theorem dX3_ropesGoOf_56 : decode cX3_ropesGoOf 56 = .ok (.aload_n 0, 1) := dk_42 (dk_at dksX3_ropesGoOf_2 10 rfl rfl)
theorem dX3_ropesGoOf_57 : decode cX3_ropesGoOf 57 = .ok (.getfield 46, 3) := dk_180 0 46 (dk_at dksX3_ropesGoOf_2 11 rfl rfl)
theorem dX3_ropesGoOf_60 : decode cX3_ropesGoOf 60 = .ok (.iload 4, 2) := dk_21 4 (dk_at dksX3_ropesGoOf_2 14 rfl rfl)
theorem dX3_ropesGoOf_62 : decode cX3_ropesGoOf 62 = .ok (.iaload, 1) := dk_46 (dk_at dksX3_ropesGoOf_2 16 rfl rfl)
theorem dX3_ropesGoOf_63 : decode cX3_ropesGoOf 63 = .ok (.goto 4, 3) := dk_167 0 4 (dk_at dksX3_ropesGoOf_2 17 rfl rfl)
theorem dX3_ropesGoOf_66 : decode cX3_ropesGoOf 66 = .ok (.iconst 0, 1) := dk_3 (dk_at dksX3_ropesGoOf_2 20 rfl rfl)
theorem dX3_ropesGoOf_67 : decode cX3_ropesGoOf 67 = .ok (.iadd, 1) := dk_96 (dk_at dksX3_ropesGoOf_2 21 rfl rfl)
theorem dX3_ropesGoOf_68 : decode cX3_ropesGoOf 68 = .ok (.iastore, 1) := dk_79 (dk_at dksX3_ropesGoOf_2 22 rfl rfl)
theorem dX3_ropesGoOf_69 : decode cX3_ropesGoOf 69 = .ok (.aload_n 0, 1) := dk_42 (dk_at dksX3_ropesGoOf_2 23 rfl rfl)
theorem dX3_ropesGoOf_70 : decode cX3_ropesGoOf 70 = .ok (.iload 4, 2) := dk_21 4 (dk_at dksX3_ropesGoOf_3 0 rfl rfl)
theorem dX3_ropesGoOf_72 : decode cX3_ropesGoOf 72 = .ok (.invokevirtual 439, 3) := dk_182 1 183 (dk_at dksX3_ropesGoOf_3 2 rfl rfl)
theorem dX3_ropesGoOf_75 : decode cX3_ropesGoOf 75 = .ok (.iinc 3 1, 3) := dk_132 3 1 (dk_at dksX3_ropesGoOf_3 5 rfl rfl)
theorem dX3_ropesGoOf_78 : decode cX3_ropesGoOf 78 = .ok (.iinc 4 (-1), 3) := dk_132 4 255 (dk_at dksX3_ropesGoOf_3 8 rfl rfl)
theorem dX3_ropesGoOf_81 : decode cX3_ropesGoOf 81 = .ok (.goto (-69), 3) := dk_167 255 187 (dk_at dksX3_ropesGoOf_3 11 rfl rfl)
theorem dX3_ropesGoOf_84 : decode cX3_ropesGoOf 84 = .ok (.iload_n 3, 1) := dk_29 (dk_at dksX3_ropesGoOf_3 14 rfl rfl)
theorem dX3_ropesGoOf_85 : decode cX3_ropesGoOf 85 = .ok (.ireturn, 1) := dk_172 (dk_at dksX3_ropesGoOf_3 15 rfl rfl)
abbrev cX3_bits : ByteArray := prog_17_method_4_code
def yX3_bits : MethodName := ⟨RX3, "bits", "(I)I"⟩
def dkwX3_bits_1 : List UInt8 := [27, 172]
abbrev dktX3_bits_1 : List UInt8 := dkwX3_bits_1 ++ []
def dkwX3_bits_0 : List UInt8 := [3, 60, 3, 61, 28, 16, 16, 162, 0, 17, 27, 26, 28, 122, 4, 126, 96, 60, 132, 2, 1, 167, 255, 239]
abbrev dktX3_bits_0 : List UInt8 := dkwX3_bits_0 ++ dktX3_bits_1
theorem dksX3_bits_0 : cX3_bits.data.toList.drop 0 = dktX3_bits_0 := by decide +kernel
theorem dksX3_bits_1 : cX3_bits.data.toList.drop 24 = dktX3_bits_1 := dk_seg dksX3_bits_0 24 rfl rfl
theorem dX3_bits_0 : decode cX3_bits 0 = .ok (.iconst 0, 1) := dk_3 (dk_at dksX3_bits_0 0 rfl rfl)
theorem dX3_bits_1 : decode cX3_bits 1 = .ok (.istore_n 1, 1) := dk_60 (dk_at dksX3_bits_0 1 rfl rfl)
theorem dX3_bits_2 : decode cX3_bits 2 = .ok (.iconst 0, 1) := dk_3 (dk_at dksX3_bits_0 2 rfl rfl)
theorem dX3_bits_3 : decode cX3_bits 3 = .ok (.istore_n 2, 1) := dk_61 (dk_at dksX3_bits_0 3 rfl rfl)
theorem dX3_bits_4 : decode cX3_bits 4 = .ok (.iload_n 2, 1) := dk_28 (dk_at dksX3_bits_0 4 rfl rfl)
theorem dX3_bits_5 : decode cX3_bits 5 = .ok (.bipush 16, 2) := dk_16 16 (dk_at dksX3_bits_0 5 rfl rfl)
theorem dX3_bits_7 : decode cX3_bits 7 = .ok (.if_icmp .ge 17, 3) := dk_162 0 17 (dk_at dksX3_bits_0 7 rfl rfl)
theorem dX3_bits_10 : decode cX3_bits 10 = .ok (.iload_n 1, 1) := dk_27 (dk_at dksX3_bits_0 10 rfl rfl)
theorem dX3_bits_11 : decode cX3_bits 11 = .ok (.iload_n 0, 1) := dk_26 (dk_at dksX3_bits_0 11 rfl rfl)
theorem dX3_bits_12 : decode cX3_bits 12 = .ok (.iload_n 2, 1) := dk_28 (dk_at dksX3_bits_0 12 rfl rfl)
theorem dX3_bits_13 : decode cX3_bits 13 = .ok (.ishr, 1) := dk_122 (dk_at dksX3_bits_0 13 rfl rfl)
theorem dX3_bits_14 : decode cX3_bits 14 = .ok (.iconst 1, 1) := dk_4 (dk_at dksX3_bits_0 14 rfl rfl)
theorem dX3_bits_15 : decode cX3_bits 15 = .ok (.iand, 1) := dk_126 (dk_at dksX3_bits_0 15 rfl rfl)
theorem dX3_bits_16 : decode cX3_bits 16 = .ok (.iadd, 1) := dk_96 (dk_at dksX3_bits_0 16 rfl rfl)
theorem dX3_bits_17 : decode cX3_bits 17 = .ok (.istore_n 1, 1) := dk_60 (dk_at dksX3_bits_0 17 rfl rfl)
theorem dX3_bits_18 : decode cX3_bits 18 = .ok (.iinc 2 1, 3) := dk_132 2 1 (dk_at dksX3_bits_0 18 rfl rfl)
theorem dX3_bits_21 : decode cX3_bits 21 = .ok (.goto (-17), 3) := dk_167 255 239 (dk_at dksX3_bits_0 21 rfl rfl)
theorem dX3_bits_24 : decode cX3_bits 24 = .ok (.iload_n 1, 1) := dk_27 (dk_at dksX3_bits_1 0 rfl rfl)
theorem dX3_bits_25 : decode cX3_bits 25 = .ok (.ireturn, 1) := dk_172 (dk_at dksX3_bits_1 1 rfl rfl)
abbrev cX3_sinking : ByteArray := prog_17_method_64_code
def yX3_sinking : MethodName := ⟨RX3, "sinking", "(I)I"⟩
def dkwX3_sinking_3 : List UInt8 := [21, 6, 167, 0, 4, 3, 128, 62, 132, 5, 1, 167, 255, 187, 29, 172]
abbrev dktX3_sinking_3 : List UInt8 := dkwX3_sinking_3 ++ []
def dkwX3_sinking_2 : List UInt8 := [182, 1, 143, 54, 6, 21, 4, 21, 6, 128, 54, 4, 29, 42, 21, 6, 27, 182, 1, 159, 156, 0, 8]
abbrev dktX3_sinking_2 : List UInt8 := dkwX3_sinking_2 ++ dktX3_sinking_3
def dkwX3_sinking_1 : List UInt8 := [28, 21, 5, 184, 1, 134, 153, 0, 49, 21, 4, 21, 5, 184, 1, 134, 154, 0, 39, 42, 21, 5, 28, 27]
abbrev dktX3_sinking_1 : List UInt8 := dkwX3_sinking_1 ++ dktX3_sinking_2
def dkwX3_sinking_0 : List UInt8 := [42, 182, 1, 137, 61, 3, 62, 3, 54, 4, 3, 54, 5, 21, 5, 42, 180, 0, 9, 6, 46, 162, 0, 64]
abbrev dktX3_sinking_0 : List UInt8 := dkwX3_sinking_0 ++ dktX3_sinking_1
theorem dksX3_sinking_0 : cX3_sinking.data.toList.drop 0 = dktX3_sinking_0 := by decide +kernel
theorem dksX3_sinking_1 : cX3_sinking.data.toList.drop 24 = dktX3_sinking_1 := dk_seg dksX3_sinking_0 24 rfl rfl
theorem dksX3_sinking_2 : cX3_sinking.data.toList.drop 48 = dktX3_sinking_2 := dk_seg dksX3_sinking_1 24 rfl rfl
theorem dksX3_sinking_3 : cX3_sinking.data.toList.drop 71 = dktX3_sinking_3 := dk_seg dksX3_sinking_2 23 rfl rfl
theorem dX3_sinking_0 : decode cX3_sinking 0 = .ok (.aload_n 0, 1) := dk_42 (dk_at dksX3_sinking_0 0 rfl rfl)
theorem dX3_sinking_1 : decode cX3_sinking 1 = .ok (.invokevirtual 393, 3) := dk_182 1 137 (dk_at dksX3_sinking_0 1 rfl rfl)
theorem dX3_sinking_4 : decode cX3_sinking 4 = .ok (.istore_n 2, 1) := dk_61 (dk_at dksX3_sinking_0 4 rfl rfl)
theorem dX3_sinking_5 : decode cX3_sinking 5 = .ok (.iconst 0, 1) := dk_3 (dk_at dksX3_sinking_0 5 rfl rfl)
theorem dX3_sinking_6 : decode cX3_sinking 6 = .ok (.istore_n 3, 1) := dk_62 (dk_at dksX3_sinking_0 6 rfl rfl)
theorem dX3_sinking_7 : decode cX3_sinking 7 = .ok (.iconst 0, 1) := dk_3 (dk_at dksX3_sinking_0 7 rfl rfl)
theorem dX3_sinking_8 : decode cX3_sinking 8 = .ok (.istore 4, 2) := dk_54 4 (dk_at dksX3_sinking_0 8 rfl rfl)
theorem dX3_sinking_10 : decode cX3_sinking 10 = .ok (.iconst 0, 1) := dk_3 (dk_at dksX3_sinking_0 10 rfl rfl)
theorem dX3_sinking_11 : decode cX3_sinking 11 = .ok (.istore 5, 2) := dk_54 5 (dk_at dksX3_sinking_0 11 rfl rfl)
theorem dX3_sinking_13 : decode cX3_sinking 13 = .ok (.iload 5, 2) := dk_21 5 (dk_at dksX3_sinking_0 13 rfl rfl)
theorem dX3_sinking_15 : decode cX3_sinking 15 = .ok (.aload_n 0, 1) := dk_42 (dk_at dksX3_sinking_0 15 rfl rfl)
theorem dX3_sinking_16 : decode cX3_sinking 16 = .ok (.getfield 9, 3) := dk_180 0 9 (dk_at dksX3_sinking_0 16 rfl rfl)
theorem dX3_sinking_19 : decode cX3_sinking 19 = .ok (.iconst 3, 1) := dk_6 (dk_at dksX3_sinking_0 19 rfl rfl)
theorem dX3_sinking_20 : decode cX3_sinking 20 = .ok (.iaload, 1) := dk_46 (dk_at dksX3_sinking_0 20 rfl rfl)
theorem dX3_sinking_21 : decode cX3_sinking 21 = .ok (.if_icmp .ge 64, 3) := dk_162 0 64 (dk_at dksX3_sinking_0 21 rfl rfl)
theorem dX3_sinking_24 : decode cX3_sinking 24 = .ok (.iload_n 2, 1) := dk_28 (dk_at dksX3_sinking_1 0 rfl rfl)
theorem dX3_sinking_25 : decode cX3_sinking 25 = .ok (.iload 5, 2) := dk_21 5 (dk_at dksX3_sinking_1 1 rfl rfl)
theorem dX3_sinking_27 : decode cX3_sinking 27 = .ok (.invokestatic 390, 3) := dk_184 1 134 (dk_at dksX3_sinking_1 3 rfl rfl)
theorem dX3_sinking_30 : decode cX3_sinking 30 = .ok (.ifCond .eq 49, 3) := dk_153 0 49 (dk_at dksX3_sinking_1 6 rfl rfl)
theorem dX3_sinking_33 : decode cX3_sinking 33 = .ok (.iload 4, 2) := dk_21 4 (dk_at dksX3_sinking_1 9 rfl rfl)
theorem dX3_sinking_35 : decode cX3_sinking 35 = .ok (.iload 5, 2) := dk_21 5 (dk_at dksX3_sinking_1 11 rfl rfl)
theorem dX3_sinking_37 : decode cX3_sinking 37 = .ok (.invokestatic 390, 3) := dk_184 1 134 (dk_at dksX3_sinking_1 13 rfl rfl)
theorem dX3_sinking_40 : decode cX3_sinking 40 = .ok (.ifCond .ne 39, 3) := dk_154 0 39 (dk_at dksX3_sinking_1 16 rfl rfl)
theorem dX3_sinking_43 : decode cX3_sinking 43 = .ok (.aload_n 0, 1) := dk_42 (dk_at dksX3_sinking_1 19 rfl rfl)
theorem dX3_sinking_44 : decode cX3_sinking 44 = .ok (.iload 5, 2) := dk_21 5 (dk_at dksX3_sinking_1 20 rfl rfl)
theorem dX3_sinking_46 : decode cX3_sinking 46 = .ok (.iload_n 2, 1) := dk_28 (dk_at dksX3_sinking_1 22 rfl rfl)
theorem dX3_sinking_47 : decode cX3_sinking 47 = .ok (.iload_n 1, 1) := dk_27 (dk_at dksX3_sinking_1 23 rfl rfl)
theorem dX3_sinking_48 : decode cX3_sinking 48 = .ok (.invokevirtual 399, 3) := dk_182 1 143 (dk_at dksX3_sinking_2 0 rfl rfl)
theorem dX3_sinking_51 : decode cX3_sinking 51 = .ok (.istore 6, 2) := dk_54 6 (dk_at dksX3_sinking_2 3 rfl rfl)
theorem dX3_sinking_53 : decode cX3_sinking 53 = .ok (.iload 4, 2) := dk_21 4 (dk_at dksX3_sinking_2 5 rfl rfl)
theorem dX3_sinking_55 : decode cX3_sinking 55 = .ok (.iload 6, 2) := dk_21 6 (dk_at dksX3_sinking_2 7 rfl rfl)
theorem dX3_sinking_57 : decode cX3_sinking 57 = .ok (.ior, 1) := dk_128 (dk_at dksX3_sinking_2 9 rfl rfl)
theorem dX3_sinking_58 : decode cX3_sinking 58 = .ok (.istore 4, 2) := dk_54 4 (dk_at dksX3_sinking_2 10 rfl rfl)
theorem dX3_sinking_60 : decode cX3_sinking 60 = .ok (.iload_n 3, 1) := dk_29 (dk_at dksX3_sinking_2 12 rfl rfl)
theorem dX3_sinking_61 : decode cX3_sinking 61 = .ok (.aload_n 0, 1) := dk_42 (dk_at dksX3_sinking_2 13 rfl rfl)
theorem dX3_sinking_62 : decode cX3_sinking 62 = .ok (.iload 6, 2) := dk_21 6 (dk_at dksX3_sinking_2 14 rfl rfl)
theorem dX3_sinking_64 : decode cX3_sinking 64 = .ok (.iload_n 1, 1) := dk_27 (dk_at dksX3_sinking_2 16 rfl rfl)
theorem dX3_sinking_65 : decode cX3_sinking 65 = .ok (.invokevirtual 415, 3) := dk_182 1 159 (dk_at dksX3_sinking_2 17 rfl rfl)
theorem dX3_sinking_68 : decode cX3_sinking 68 = .ok (.ifCond .ge 8, 3) := dk_156 0 8 (dk_at dksX3_sinking_2 20 rfl rfl)
theorem dX3_sinking_71 : decode cX3_sinking 71 = .ok (.iload 6, 2) := dk_21 6 (dk_at dksX3_sinking_3 0 rfl rfl)
theorem dX3_sinking_73 : decode cX3_sinking 73 = .ok (.goto 4, 3) := dk_167 0 4 (dk_at dksX3_sinking_3 2 rfl rfl)
theorem dX3_sinking_76 : decode cX3_sinking 76 = .ok (.iconst 0, 1) := dk_3 (dk_at dksX3_sinking_3 5 rfl rfl)
theorem dX3_sinking_77 : decode cX3_sinking 77 = .ok (.ior, 1) := dk_128 (dk_at dksX3_sinking_3 6 rfl rfl)
theorem dX3_sinking_78 : decode cX3_sinking 78 = .ok (.istore_n 3, 1) := dk_62 (dk_at dksX3_sinking_3 7 rfl rfl)
theorem dX3_sinking_79 : decode cX3_sinking 79 = .ok (.iinc 5 1, 3) := dk_132 5 1 (dk_at dksX3_sinking_3 8 rfl rfl)
theorem dX3_sinking_82 : decode cX3_sinking 82 = .ok (.goto (-69), 3) := dk_167 255 187 (dk_at dksX3_sinking_3 11 rfl rfl)
theorem dX3_sinking_85 : decode cX3_sinking 85 = .ok (.iload_n 3, 1) := dk_29 (dk_at dksX3_sinking_3 14 rfl rfl)
theorem dX3_sinking_86 : decode cX3_sinking 86 = .ok (.ireturn, 1) := dk_172 (dk_at dksX3_sinking_3 15 rfl rfl)
abbrev cX3_bind : ByteArray := prog_17_method_85_code
def yX3_bind : MethodName := ⟨RX3, "bind", "(III)I"⟩
def dkwX3_bind_0 : List UInt8 := [42, 27, 28, 29, 182, 1, 240, 154, 0, 5, 2, 172, 42, 182, 1, 234, 42, 27, 28, 29, 182, 1, 244, 172]
abbrev dktX3_bind_0 : List UInt8 := dkwX3_bind_0 ++ []
theorem dksX3_bind_0 : cX3_bind.data.toList.drop 0 = dktX3_bind_0 := by decide +kernel
theorem dX3_bind_0 : decode cX3_bind 0 = .ok (.aload_n 0, 1) := dk_42 (dk_at dksX3_bind_0 0 rfl rfl)
theorem dX3_bind_1 : decode cX3_bind 1 = .ok (.iload_n 1, 1) := dk_27 (dk_at dksX3_bind_0 1 rfl rfl)
theorem dX3_bind_2 : decode cX3_bind 2 = .ok (.iload_n 2, 1) := dk_28 (dk_at dksX3_bind_0 2 rfl rfl)
theorem dX3_bind_3 : decode cX3_bind 3 = .ok (.iload_n 3, 1) := dk_29 (dk_at dksX3_bind_0 3 rfl rfl)
theorem dX3_bind_4 : decode cX3_bind 4 = .ok (.invokevirtual 496, 3) := dk_182 1 240 (dk_at dksX3_bind_0 4 rfl rfl)
theorem dX3_bind_7 : decode cX3_bind 7 = .ok (.ifCond .ne 5, 3) := dk_154 0 5 (dk_at dksX3_bind_0 7 rfl rfl)
theorem dX3_bind_10 : decode cX3_bind 10 = .ok (.iconst (-1), 1) := dk_2 (dk_at dksX3_bind_0 10 rfl rfl)
theorem dX3_bind_11 : decode cX3_bind 11 = .ok (.ireturn, 1) := dk_172 (dk_at dksX3_bind_0 11 rfl rfl)
theorem dX3_bind_12 : decode cX3_bind 12 = .ok (.aload_n 0, 1) := dk_42 (dk_at dksX3_bind_0 12 rfl rfl)
theorem dX3_bind_13 : decode cX3_bind 13 = .ok (.invokevirtual 490, 3) := dk_182 1 234 (dk_at dksX3_bind_0 13 rfl rfl)
theorem dX3_bind_16 : decode cX3_bind 16 = .ok (.aload_n 0, 1) := dk_42 (dk_at dksX3_bind_0 16 rfl rfl)
theorem dX3_bind_17 : decode cX3_bind 17 = .ok (.iload_n 1, 1) := dk_27 (dk_at dksX3_bind_0 17 rfl rfl)
theorem dX3_bind_18 : decode cX3_bind 18 = .ok (.iload_n 2, 1) := dk_28 (dk_at dksX3_bind_0 18 rfl rfl)
theorem dX3_bind_19 : decode cX3_bind 19 = .ok (.iload_n 3, 1) := dk_29 (dk_at dksX3_bind_0 19 rfl rfl)
theorem dX3_bind_20 : decode cX3_bind 20 = .ok (.invokevirtual 500, 3) := dk_182 1 244 (dk_at dksX3_bind_0 20 rfl rfl)
theorem dX3_bind_23 : decode cX3_bind 23 = .ok (.ireturn, 1) := dk_172 (dk_at dksX3_bind_0 23 rfl rfl)
abbrev cX3_canBind : ByteArray := prog_17_method_74_code
def yX3_canBind : MethodName := ⟨RX3, "canBind", "(III)Z"⟩
def dkwX3_canBind_2 : List UInt8 := [46, 16, 12, 162, 0, 16, 42, 27, 28, 182, 1, 188, 154, 0, 7, 4, 167, 0, 4, 3, 172]
abbrev dktX3_canBind_2 : List UInt8 := dkwX3_canBind_2 ++ []
def dkwX3_canBind_1 : List UInt8 := [20, 1, 186, 184, 0, 176, 153, 0, 37, 29, 42, 180, 0, 9, 4, 46, 163, 0, 27, 42, 180, 0, 9, 7]
abbrev dktX3_canBind_1 : List UInt8 := dkwX3_canBind_1 ++ dktX3_canBind_2
def dkwX3_canBind_0 : List UInt8 := [42, 27, 182, 1, 180, 153, 0, 62, 42, 28, 182, 1, 180, 153, 0, 54, 27, 28, 159, 0, 49, 29, 133, 10]
abbrev dktX3_canBind_0 : List UInt8 := dkwX3_canBind_0 ++ dktX3_canBind_1
theorem dksX3_canBind_0 : cX3_canBind.data.toList.drop 0 = dktX3_canBind_0 := by decide +kernel
theorem dksX3_canBind_1 : cX3_canBind.data.toList.drop 24 = dktX3_canBind_1 := dk_seg dksX3_canBind_0 24 rfl rfl
theorem dksX3_canBind_2 : cX3_canBind.data.toList.drop 48 = dktX3_canBind_2 := dk_seg dksX3_canBind_1 24 rfl rfl
theorem dX3_canBind_0 : decode cX3_canBind 0 = .ok (.aload_n 0, 1) := dk_42 (dk_at dksX3_canBind_0 0 rfl rfl)
theorem dX3_canBind_1 : decode cX3_canBind 1 = .ok (.iload_n 1, 1) := dk_27 (dk_at dksX3_canBind_0 1 rfl rfl)
theorem dX3_canBind_2 : decode cX3_canBind 2 = .ok (.invokevirtual 436, 3) := dk_182 1 180 (dk_at dksX3_canBind_0 2 rfl rfl)
theorem dX3_canBind_5 : decode cX3_canBind 5 = .ok (.ifCond .eq 62, 3) := dk_153 0 62 (dk_at dksX3_canBind_0 5 rfl rfl)
theorem dX3_canBind_8 : decode cX3_canBind 8 = .ok (.aload_n 0, 1) := dk_42 (dk_at dksX3_canBind_0 8 rfl rfl)
theorem dX3_canBind_9 : decode cX3_canBind 9 = .ok (.iload_n 2, 1) := dk_28 (dk_at dksX3_canBind_0 9 rfl rfl)
theorem dX3_canBind_10 : decode cX3_canBind 10 = .ok (.invokevirtual 436, 3) := dk_182 1 180 (dk_at dksX3_canBind_0 10 rfl rfl)
theorem dX3_canBind_13 : decode cX3_canBind 13 = .ok (.ifCond .eq 54, 3) := dk_153 0 54 (dk_at dksX3_canBind_0 13 rfl rfl)
theorem dX3_canBind_16 : decode cX3_canBind 16 = .ok (.iload_n 1, 1) := dk_27 (dk_at dksX3_canBind_0 16 rfl rfl)
theorem dX3_canBind_17 : decode cX3_canBind 17 = .ok (.iload_n 2, 1) := dk_28 (dk_at dksX3_canBind_0 17 rfl rfl)
theorem dX3_canBind_18 : decode cX3_canBind 18 = .ok (.if_icmp .eq 49, 3) := dk_159 0 49 (dk_at dksX3_canBind_0 18 rfl rfl)
theorem dX3_canBind_21 : decode cX3_canBind 21 = .ok (.iload_n 3, 1) := dk_29 (dk_at dksX3_canBind_0 21 rfl rfl)
theorem dX3_canBind_22 : decode cX3_canBind 22 = .ok (.i2l, 1) := dk_133 (dk_at dksX3_canBind_0 22 rfl rfl)
theorem dX3_canBind_23 : decode cX3_canBind 23 = .ok (.lconst 1, 1) := dk_10 (dk_at dksX3_canBind_0 23 rfl rfl)
theorem dX3_canBind_24 : decode cX3_canBind 24 = .ok (.ldc2_w 442, 3) := dk_20 1 186 (dk_at dksX3_canBind_1 0 rfl rfl)
theorem dX3_canBind_27 : decode cX3_canBind 27 = .ok (.invokestatic 176, 3) := dk_184 0 176 (dk_at dksX3_canBind_1 3 rfl rfl)
theorem dX3_canBind_30 : decode cX3_canBind 30 = .ok (.ifCond .eq 37, 3) := dk_153 0 37 (dk_at dksX3_canBind_1 6 rfl rfl)
theorem dX3_canBind_33 : decode cX3_canBind 33 = .ok (.iload_n 3, 1) := dk_29 (dk_at dksX3_canBind_1 9 rfl rfl)
theorem dX3_canBind_34 : decode cX3_canBind 34 = .ok (.aload_n 0, 1) := dk_42 (dk_at dksX3_canBind_1 10 rfl rfl)
theorem dX3_canBind_35 : decode cX3_canBind 35 = .ok (.getfield 9, 3) := dk_180 0 9 (dk_at dksX3_canBind_1 11 rfl rfl)
theorem dX3_canBind_38 : decode cX3_canBind 38 = .ok (.iconst 1, 1) := dk_4 (dk_at dksX3_canBind_1 14 rfl rfl)
theorem dX3_canBind_39 : decode cX3_canBind 39 = .ok (.iaload, 1) := dk_46 (dk_at dksX3_canBind_1 15 rfl rfl)
theorem dX3_canBind_40 : decode cX3_canBind 40 = .ok (.if_icmp .gt 27, 3) := dk_163 0 27 (dk_at dksX3_canBind_1 16 rfl rfl)
theorem dX3_canBind_43 : decode cX3_canBind 43 = .ok (.aload_n 0, 1) := dk_42 (dk_at dksX3_canBind_1 19 rfl rfl)
theorem dX3_canBind_44 : decode cX3_canBind 44 = .ok (.getfield 9, 3) := dk_180 0 9 (dk_at dksX3_canBind_1 20 rfl rfl)
theorem dX3_canBind_47 : decode cX3_canBind 47 = .ok (.iconst 4, 1) := dk_7 (dk_at dksX3_canBind_1 23 rfl rfl)
theorem dX3_canBind_48 : decode cX3_canBind 48 = .ok (.iaload, 1) := dk_46 (dk_at dksX3_canBind_2 0 rfl rfl)
theorem dX3_canBind_49 : decode cX3_canBind 49 = .ok (.bipush 12, 2) := dk_16 12 (dk_at dksX3_canBind_2 1 rfl rfl)
theorem dX3_canBind_51 : decode cX3_canBind 51 = .ok (.if_icmp .ge 16, 3) := dk_162 0 16 (dk_at dksX3_canBind_2 3 rfl rfl)
theorem dX3_canBind_54 : decode cX3_canBind 54 = .ok (.aload_n 0, 1) := dk_42 (dk_at dksX3_canBind_2 6 rfl rfl)
theorem dX3_canBind_55 : decode cX3_canBind 55 = .ok (.iload_n 1, 1) := dk_27 (dk_at dksX3_canBind_2 7 rfl rfl)
theorem dX3_canBind_56 : decode cX3_canBind 56 = .ok (.iload_n 2, 1) := dk_28 (dk_at dksX3_canBind_2 8 rfl rfl)
theorem dX3_canBind_57 : decode cX3_canBind 57 = .ok (.invokevirtual 444, 3) := dk_182 1 188 (dk_at dksX3_canBind_2 9 rfl rfl)
theorem dX3_canBind_60 : decode cX3_canBind 60 = .ok (.ifCond .ne 7, 3) := dk_154 0 7 (dk_at dksX3_canBind_2 12 rfl rfl)
theorem dX3_canBind_63 : decode cX3_canBind 63 = .ok (.iconst 1, 1) := dk_4 (dk_at dksX3_canBind_2 15 rfl rfl)
theorem dX3_canBind_64 : decode cX3_canBind 64 = .ok (.goto 4, 3) := dk_167 0 4 (dk_at dksX3_canBind_2 16 rfl rfl)
theorem dX3_canBind_67 : decode cX3_canBind 67 = .ok (.iconst 0, 1) := dk_3 (dk_at dksX3_canBind_2 19 rfl rfl)
theorem dX3_canBind_68 : decode cX3_canBind 68 = .ok (.ireturn, 1) := dk_172 (dk_at dksX3_canBind_2 20 rfl rfl)
abbrev cX3_isBound : ByteArray := prog_17_method_73_code
def yX3_isBound : MethodName := ⟨RX3, "isBound", "(II)Z"⟩
def dkwX3_isBound_2 : List UInt8 := [46, 27, 160, 0, 5, 4, 172, 132, 3, 1, 167, 255, 201, 3, 172]
abbrev dktX3_isBound_2 : List UInt8 := dkwX3_isBound_2 ++ []
def dkwX3_isBound_1 : List UInt8 := [180, 0, 43, 29, 46, 28, 159, 0, 23, 42, 180, 0, 40, 29, 46, 28, 160, 0, 15, 42, 180, 0, 43, 29]
abbrev dktX3_isBound_1 : List UInt8 := dkwX3_isBound_1 ++ dktX3_isBound_2
def dkwX3_isBound_0 : List UInt8 := [3, 62, 29, 42, 180, 0, 9, 7, 46, 162, 0, 51, 42, 180, 0, 40, 29, 46, 27, 160, 0, 13, 42]
abbrev dktX3_isBound_0 : List UInt8 := dkwX3_isBound_0 ++ dktX3_isBound_1
theorem dksX3_isBound_0 : cX3_isBound.data.toList.drop 0 = dktX3_isBound_0 := by decide +kernel
theorem dksX3_isBound_1 : cX3_isBound.data.toList.drop 23 = dktX3_isBound_1 := dk_seg dksX3_isBound_0 23 rfl rfl
theorem dksX3_isBound_2 : cX3_isBound.data.toList.drop 47 = dktX3_isBound_2 := dk_seg dksX3_isBound_1 24 rfl rfl
theorem dX3_isBound_0 : decode cX3_isBound 0 = .ok (.iconst 0, 1) := dk_3 (dk_at dksX3_isBound_0 0 rfl rfl)
theorem dX3_isBound_1 : decode cX3_isBound 1 = .ok (.istore_n 3, 1) := dk_62 (dk_at dksX3_isBound_0 1 rfl rfl)
theorem dX3_isBound_2 : decode cX3_isBound 2 = .ok (.iload_n 3, 1) := dk_29 (dk_at dksX3_isBound_0 2 rfl rfl)
theorem dX3_isBound_3 : decode cX3_isBound 3 = .ok (.aload_n 0, 1) := dk_42 (dk_at dksX3_isBound_0 3 rfl rfl)
theorem dX3_isBound_4 : decode cX3_isBound 4 = .ok (.getfield 9, 3) := dk_180 0 9 (dk_at dksX3_isBound_0 4 rfl rfl)
theorem dX3_isBound_7 : decode cX3_isBound 7 = .ok (.iconst 4, 1) := dk_7 (dk_at dksX3_isBound_0 7 rfl rfl)
theorem dX3_isBound_8 : decode cX3_isBound 8 = .ok (.iaload, 1) := dk_46 (dk_at dksX3_isBound_0 8 rfl rfl)
theorem dX3_isBound_9 : decode cX3_isBound 9 = .ok (.if_icmp .ge 51, 3) := dk_162 0 51 (dk_at dksX3_isBound_0 9 rfl rfl)
theorem dX3_isBound_12 : decode cX3_isBound 12 = .ok (.aload_n 0, 1) := dk_42 (dk_at dksX3_isBound_0 12 rfl rfl)
theorem dX3_isBound_13 : decode cX3_isBound 13 = .ok (.getfield 40, 3) := dk_180 0 40 (dk_at dksX3_isBound_0 13 rfl rfl)
theorem dX3_isBound_16 : decode cX3_isBound 16 = .ok (.iload_n 3, 1) := dk_29 (dk_at dksX3_isBound_0 16 rfl rfl)
theorem dX3_isBound_17 : decode cX3_isBound 17 = .ok (.iaload, 1) := dk_46 (dk_at dksX3_isBound_0 17 rfl rfl)
theorem dX3_isBound_18 : decode cX3_isBound 18 = .ok (.iload_n 1, 1) := dk_27 (dk_at dksX3_isBound_0 18 rfl rfl)
theorem dX3_isBound_19 : decode cX3_isBound 19 = .ok (.if_icmp .ne 13, 3) := dk_160 0 13 (dk_at dksX3_isBound_0 19 rfl rfl)
theorem dX3_isBound_22 : decode cX3_isBound 22 = .ok (.aload_n 0, 1) := dk_42 (dk_at dksX3_isBound_0 22 rfl rfl)
theorem dX3_isBound_23 : decode cX3_isBound 23 = .ok (.getfield 43, 3) := dk_180 0 43 (dk_at dksX3_isBound_1 0 rfl rfl)
theorem dX3_isBound_26 : decode cX3_isBound 26 = .ok (.iload_n 3, 1) := dk_29 (dk_at dksX3_isBound_1 3 rfl rfl)
theorem dX3_isBound_27 : decode cX3_isBound 27 = .ok (.iaload, 1) := dk_46 (dk_at dksX3_isBound_1 4 rfl rfl)
theorem dX3_isBound_28 : decode cX3_isBound 28 = .ok (.iload_n 2, 1) := dk_28 (dk_at dksX3_isBound_1 5 rfl rfl)
theorem dX3_isBound_29 : decode cX3_isBound 29 = .ok (.if_icmp .eq 23, 3) := dk_159 0 23 (dk_at dksX3_isBound_1 6 rfl rfl)
theorem dX3_isBound_32 : decode cX3_isBound 32 = .ok (.aload_n 0, 1) := dk_42 (dk_at dksX3_isBound_1 9 rfl rfl)
theorem dX3_isBound_33 : decode cX3_isBound 33 = .ok (.getfield 40, 3) := dk_180 0 40 (dk_at dksX3_isBound_1 10 rfl rfl)
theorem dX3_isBound_36 : decode cX3_isBound 36 = .ok (.iload_n 3, 1) := dk_29 (dk_at dksX3_isBound_1 13 rfl rfl)
theorem dX3_isBound_37 : decode cX3_isBound 37 = .ok (.iaload, 1) := dk_46 (dk_at dksX3_isBound_1 14 rfl rfl)
theorem dX3_isBound_38 : decode cX3_isBound 38 = .ok (.iload_n 2, 1) := dk_28 (dk_at dksX3_isBound_1 15 rfl rfl)
theorem dX3_isBound_39 : decode cX3_isBound 39 = .ok (.if_icmp .ne 15, 3) := dk_160 0 15 (dk_at dksX3_isBound_1 16 rfl rfl)
theorem dX3_isBound_42 : decode cX3_isBound 42 = .ok (.aload_n 0, 1) := dk_42 (dk_at dksX3_isBound_1 19 rfl rfl)
theorem dX3_isBound_43 : decode cX3_isBound 43 = .ok (.getfield 43, 3) := dk_180 0 43 (dk_at dksX3_isBound_1 20 rfl rfl)
theorem dX3_isBound_46 : decode cX3_isBound 46 = .ok (.iload_n 3, 1) := dk_29 (dk_at dksX3_isBound_1 23 rfl rfl)
theorem dX3_isBound_47 : decode cX3_isBound 47 = .ok (.iaload, 1) := dk_46 (dk_at dksX3_isBound_2 0 rfl rfl)
theorem dX3_isBound_48 : decode cX3_isBound 48 = .ok (.iload_n 1, 1) := dk_27 (dk_at dksX3_isBound_2 1 rfl rfl)
theorem dX3_isBound_49 : decode cX3_isBound 49 = .ok (.if_icmp .ne 5, 3) := dk_160 0 5 (dk_at dksX3_isBound_2 2 rfl rfl)
theorem dX3_isBound_52 : decode cX3_isBound 52 = .ok (.iconst 1, 1) := dk_4 (dk_at dksX3_isBound_2 5 rfl rfl)
theorem dX3_isBound_53 : decode cX3_isBound 53 = .ok (.ireturn, 1) := dk_172 (dk_at dksX3_isBound_2 6 rfl rfl)
theorem dX3_isBound_54 : decode cX3_isBound 54 = .ok (.iinc 3 1, 3) := dk_132 3 1 (dk_at dksX3_isBound_2 7 rfl rfl)
theorem dX3_isBound_57 : decode cX3_isBound 57 = .ok (.goto (-55), 3) := dk_167 255 201 (dk_at dksX3_isBound_2 10 rfl rfl)
theorem dX3_isBound_60 : decode cX3_isBound 60 = .ok (.iconst 0, 1) := dk_3 (dk_at dksX3_isBound_2 13 rfl rfl)
theorem dX3_isBound_61 : decode cX3_isBound 61 = .ok (.ireturn, 1) := dk_172 (dk_at dksX3_isBound_2 14 rfl rfl)
abbrev cX3_binds : ByteArray := prog_17_method_75_code
def yX3_binds : MethodName := ⟨RX3, "binds", "(III)I"⟩
def dkwX3_binds_3 : List UInt8 := [172]
abbrev dktX3_binds_3 : List UInt8 := dkwX3_binds_3 ++ []
def dkwX3_binds_2 : List UInt8 := [29, 79, 42, 180, 0, 9, 4, 92, 46, 29, 100, 79, 42, 180, 0, 9, 7, 92, 46, 4, 96, 79, 21, 4]
abbrev dktX3_binds_2 : List UInt8 := dkwX3_binds_2 ++ dktX3_binds_3
def dkwX3_binds_1 : List UInt8 := [79, 42, 180, 0, 43, 21, 4, 27, 28, 162, 0, 7, 28, 167, 0, 4, 27, 79, 42, 180, 0, 46, 21, 4]
abbrev dktX3_binds_1 : List UInt8 := dkwX3_binds_1 ++ dktX3_binds_2
def dkwX3_binds_0 : List UInt8 := [42, 180, 0, 9, 7, 46, 54, 4, 42, 180, 0, 40, 21, 4, 27, 28, 162, 0, 7, 27, 167, 0, 4, 28]
abbrev dktX3_binds_0 : List UInt8 := dkwX3_binds_0 ++ dktX3_binds_1
theorem dksX3_binds_0 : cX3_binds.data.toList.drop 0 = dktX3_binds_0 := by decide +kernel
theorem dksX3_binds_1 : cX3_binds.data.toList.drop 24 = dktX3_binds_1 := dk_seg dksX3_binds_0 24 rfl rfl
theorem dksX3_binds_2 : cX3_binds.data.toList.drop 48 = dktX3_binds_2 := dk_seg dksX3_binds_1 24 rfl rfl
theorem dksX3_binds_3 : cX3_binds.data.toList.drop 72 = dktX3_binds_3 := dk_seg dksX3_binds_2 24 rfl rfl
theorem dX3_binds_0 : decode cX3_binds 0 = .ok (.aload_n 0, 1) := dk_42 (dk_at dksX3_binds_0 0 rfl rfl)
theorem dX3_binds_1 : decode cX3_binds 1 = .ok (.getfield 9, 3) := dk_180 0 9 (dk_at dksX3_binds_0 1 rfl rfl)
theorem dX3_binds_4 : decode cX3_binds 4 = .ok (.iconst 4, 1) := dk_7 (dk_at dksX3_binds_0 4 rfl rfl)
theorem dX3_binds_5 : decode cX3_binds 5 = .ok (.iaload, 1) := dk_46 (dk_at dksX3_binds_0 5 rfl rfl)
theorem dX3_binds_6 : decode cX3_binds 6 = .ok (.istore 4, 2) := dk_54 4 (dk_at dksX3_binds_0 6 rfl rfl)
theorem dX3_binds_8 : decode cX3_binds 8 = .ok (.aload_n 0, 1) := dk_42 (dk_at dksX3_binds_0 8 rfl rfl)
theorem dX3_binds_9 : decode cX3_binds 9 = .ok (.getfield 40, 3) := dk_180 0 40 (dk_at dksX3_binds_0 9 rfl rfl)
theorem dX3_binds_12 : decode cX3_binds 12 = .ok (.iload 4, 2) := dk_21 4 (dk_at dksX3_binds_0 12 rfl rfl)
theorem dX3_binds_14 : decode cX3_binds 14 = .ok (.iload_n 1, 1) := dk_27 (dk_at dksX3_binds_0 14 rfl rfl)
theorem dX3_binds_15 : decode cX3_binds 15 = .ok (.iload_n 2, 1) := dk_28 (dk_at dksX3_binds_0 15 rfl rfl)
theorem dX3_binds_16 : decode cX3_binds 16 = .ok (.if_icmp .ge 7, 3) := dk_162 0 7 (dk_at dksX3_binds_0 16 rfl rfl)
theorem dX3_binds_19 : decode cX3_binds 19 = .ok (.iload_n 1, 1) := dk_27 (dk_at dksX3_binds_0 19 rfl rfl)
theorem dX3_binds_20 : decode cX3_binds 20 = .ok (.goto 4, 3) := dk_167 0 4 (dk_at dksX3_binds_0 20 rfl rfl)
theorem dX3_binds_23 : decode cX3_binds 23 = .ok (.iload_n 2, 1) := dk_28 (dk_at dksX3_binds_0 23 rfl rfl)
theorem dX3_binds_24 : decode cX3_binds 24 = .ok (.iastore, 1) := dk_79 (dk_at dksX3_binds_1 0 rfl rfl)
theorem dX3_binds_25 : decode cX3_binds 25 = .ok (.aload_n 0, 1) := dk_42 (dk_at dksX3_binds_1 1 rfl rfl)
theorem dX3_binds_26 : decode cX3_binds 26 = .ok (.getfield 43, 3) := dk_180 0 43 (dk_at dksX3_binds_1 2 rfl rfl)
theorem dX3_binds_29 : decode cX3_binds 29 = .ok (.iload 4, 2) := dk_21 4 (dk_at dksX3_binds_1 5 rfl rfl)
theorem dX3_binds_31 : decode cX3_binds 31 = .ok (.iload_n 1, 1) := dk_27 (dk_at dksX3_binds_1 7 rfl rfl)
theorem dX3_binds_32 : decode cX3_binds 32 = .ok (.iload_n 2, 1) := dk_28 (dk_at dksX3_binds_1 8 rfl rfl)
theorem dX3_binds_33 : decode cX3_binds 33 = .ok (.if_icmp .ge 7, 3) := dk_162 0 7 (dk_at dksX3_binds_1 9 rfl rfl)
theorem dX3_binds_36 : decode cX3_binds 36 = .ok (.iload_n 2, 1) := dk_28 (dk_at dksX3_binds_1 12 rfl rfl)
theorem dX3_binds_37 : decode cX3_binds 37 = .ok (.goto 4, 3) := dk_167 0 4 (dk_at dksX3_binds_1 13 rfl rfl)
theorem dX3_binds_40 : decode cX3_binds 40 = .ok (.iload_n 1, 1) := dk_27 (dk_at dksX3_binds_1 16 rfl rfl)
theorem dX3_binds_41 : decode cX3_binds 41 = .ok (.iastore, 1) := dk_79 (dk_at dksX3_binds_1 17 rfl rfl)
theorem dX3_binds_42 : decode cX3_binds 42 = .ok (.aload_n 0, 1) := dk_42 (dk_at dksX3_binds_1 18 rfl rfl)
theorem dX3_binds_43 : decode cX3_binds 43 = .ok (.getfield 46, 3) := dk_180 0 46 (dk_at dksX3_binds_1 19 rfl rfl)
theorem dX3_binds_46 : decode cX3_binds 46 = .ok (.iload 4, 2) := dk_21 4 (dk_at dksX3_binds_1 22 rfl rfl)
theorem dX3_binds_48 : decode cX3_binds 48 = .ok (.iload_n 3, 1) := dk_29 (dk_at dksX3_binds_2 0 rfl rfl)
theorem dX3_binds_49 : decode cX3_binds 49 = .ok (.iastore, 1) := dk_79 (dk_at dksX3_binds_2 1 rfl rfl)
theorem dX3_binds_50 : decode cX3_binds 50 = .ok (.aload_n 0, 1) := dk_42 (dk_at dksX3_binds_2 2 rfl rfl)
theorem dX3_binds_51 : decode cX3_binds 51 = .ok (.getfield 9, 3) := dk_180 0 9 (dk_at dksX3_binds_2 3 rfl rfl)
theorem dX3_binds_54 : decode cX3_binds 54 = .ok (.iconst 1, 1) := dk_4 (dk_at dksX3_binds_2 6 rfl rfl)
theorem dX3_binds_55 : decode cX3_binds 55 = .ok (.dup2, 1) := dk_92 (dk_at dksX3_binds_2 7 rfl rfl)
theorem dX3_binds_56 : decode cX3_binds 56 = .ok (.iaload, 1) := dk_46 (dk_at dksX3_binds_2 8 rfl rfl)
theorem dX3_binds_57 : decode cX3_binds 57 = .ok (.iload_n 3, 1) := dk_29 (dk_at dksX3_binds_2 9 rfl rfl)
theorem dX3_binds_58 : decode cX3_binds 58 = .ok (.isub, 1) := dk_100 (dk_at dksX3_binds_2 10 rfl rfl)
theorem dX3_binds_59 : decode cX3_binds 59 = .ok (.iastore, 1) := dk_79 (dk_at dksX3_binds_2 11 rfl rfl)
theorem dX3_binds_60 : decode cX3_binds 60 = .ok (.aload_n 0, 1) := dk_42 (dk_at dksX3_binds_2 12 rfl rfl)
theorem dX3_binds_61 : decode cX3_binds 61 = .ok (.getfield 9, 3) := dk_180 0 9 (dk_at dksX3_binds_2 13 rfl rfl)
theorem dX3_binds_64 : decode cX3_binds 64 = .ok (.iconst 4, 1) := dk_7 (dk_at dksX3_binds_2 16 rfl rfl)
theorem dX3_binds_65 : decode cX3_binds 65 = .ok (.dup2, 1) := dk_92 (dk_at dksX3_binds_2 17 rfl rfl)
theorem dX3_binds_66 : decode cX3_binds 66 = .ok (.iaload, 1) := dk_46 (dk_at dksX3_binds_2 18 rfl rfl)
theorem dX3_binds_67 : decode cX3_binds 67 = .ok (.iconst 1, 1) := dk_4 (dk_at dksX3_binds_2 19 rfl rfl)
theorem dX3_binds_68 : decode cX3_binds 68 = .ok (.iadd, 1) := dk_96 (dk_at dksX3_binds_2 20 rfl rfl)
theorem dX3_binds_69 : decode cX3_binds 69 = .ok (.iastore, 1) := dk_79 (dk_at dksX3_binds_2 21 rfl rfl)
theorem dX3_binds_70 : decode cX3_binds 70 = .ok (.iload 4, 2) := dk_21 4 (dk_at dksX3_binds_2 22 rfl rfl)
theorem dX3_binds_72 : decode cX3_binds 72 = .ok (.ireturn, 1) := dk_172 (dk_at dksX3_binds_3 0 rfl rfl)
abbrev cX3_cut : ByteArray := prog_17_method_86_code
def yX3_cut : MethodName := ⟨RX3, "cut", "(I)I"⟩
def dkwX3_cut_1 : List UInt8 := [180, 0, 46, 27, 46, 96, 79, 42, 27, 182, 1, 183, 42, 180, 0, 9, 4, 46, 172]
abbrev dktX3_cut_1 : List UInt8 := dkwX3_cut_1 ++ []
def dkwX3_cut_0 : List UInt8 := [42, 27, 182, 1, 171, 154, 0, 5, 2, 172, 42, 182, 1, 234, 42, 180, 0, 9, 4, 92, 46, 42]
abbrev dktX3_cut_0 : List UInt8 := dkwX3_cut_0 ++ dktX3_cut_1
theorem dksX3_cut_0 : cX3_cut.data.toList.drop 0 = dktX3_cut_0 := by decide +kernel
theorem dksX3_cut_1 : cX3_cut.data.toList.drop 22 = dktX3_cut_1 := dk_seg dksX3_cut_0 22 rfl rfl
theorem dX3_cut_0 : decode cX3_cut 0 = .ok (.aload_n 0, 1) := dk_42 (dk_at dksX3_cut_0 0 rfl rfl)
theorem dX3_cut_1 : decode cX3_cut 1 = .ok (.iload_n 1, 1) := dk_27 (dk_at dksX3_cut_0 1 rfl rfl)
theorem dX3_cut_2 : decode cX3_cut 2 = .ok (.invokevirtual 427, 3) := dk_182 1 171 (dk_at dksX3_cut_0 2 rfl rfl)
theorem dX3_cut_5 : decode cX3_cut 5 = .ok (.ifCond .ne 5, 3) := dk_154 0 5 (dk_at dksX3_cut_0 5 rfl rfl)
theorem dX3_cut_8 : decode cX3_cut 8 = .ok (.iconst (-1), 1) := dk_2 (dk_at dksX3_cut_0 8 rfl rfl)
theorem dX3_cut_9 : decode cX3_cut 9 = .ok (.ireturn, 1) := dk_172 (dk_at dksX3_cut_0 9 rfl rfl)
theorem dX3_cut_10 : decode cX3_cut 10 = .ok (.aload_n 0, 1) := dk_42 (dk_at dksX3_cut_0 10 rfl rfl)
theorem dX3_cut_11 : decode cX3_cut 11 = .ok (.invokevirtual 490, 3) := dk_182 1 234 (dk_at dksX3_cut_0 11 rfl rfl)
theorem dX3_cut_14 : decode cX3_cut 14 = .ok (.aload_n 0, 1) := dk_42 (dk_at dksX3_cut_0 14 rfl rfl)
theorem dX3_cut_15 : decode cX3_cut 15 = .ok (.getfield 9, 3) := dk_180 0 9 (dk_at dksX3_cut_0 15 rfl rfl)
theorem dX3_cut_18 : decode cX3_cut 18 = .ok (.iconst 1, 1) := dk_4 (dk_at dksX3_cut_0 18 rfl rfl)
theorem dX3_cut_19 : decode cX3_cut 19 = .ok (.dup2, 1) := dk_92 (dk_at dksX3_cut_0 19 rfl rfl)
theorem dX3_cut_20 : decode cX3_cut 20 = .ok (.iaload, 1) := dk_46 (dk_at dksX3_cut_0 20 rfl rfl)
theorem dX3_cut_21 : decode cX3_cut 21 = .ok (.aload_n 0, 1) := dk_42 (dk_at dksX3_cut_0 21 rfl rfl)
theorem dX3_cut_22 : decode cX3_cut 22 = .ok (.getfield 46, 3) := dk_180 0 46 (dk_at dksX3_cut_1 0 rfl rfl)
theorem dX3_cut_25 : decode cX3_cut 25 = .ok (.iload_n 1, 1) := dk_27 (dk_at dksX3_cut_1 3 rfl rfl)
theorem dX3_cut_26 : decode cX3_cut 26 = .ok (.iaload, 1) := dk_46 (dk_at dksX3_cut_1 4 rfl rfl)
theorem dX3_cut_27 : decode cX3_cut 27 = .ok (.iadd, 1) := dk_96 (dk_at dksX3_cut_1 5 rfl rfl)
theorem dX3_cut_28 : decode cX3_cut 28 = .ok (.iastore, 1) := dk_79 (dk_at dksX3_cut_1 6 rfl rfl)
theorem dX3_cut_29 : decode cX3_cut 29 = .ok (.aload_n 0, 1) := dk_42 (dk_at dksX3_cut_1 7 rfl rfl)
theorem dX3_cut_30 : decode cX3_cut 30 = .ok (.iload_n 1, 1) := dk_27 (dk_at dksX3_cut_1 8 rfl rfl)
theorem dX3_cut_31 : decode cX3_cut 31 = .ok (.invokevirtual 439, 3) := dk_182 1 183 (dk_at dksX3_cut_1 9 rfl rfl)
theorem dX3_cut_34 : decode cX3_cut 34 = .ok (.aload_n 0, 1) := dk_42 (dk_at dksX3_cut_1 12 rfl rfl)
theorem dX3_cut_35 : decode cX3_cut 35 = .ok (.getfield 9, 3) := dk_180 0 9 (dk_at dksX3_cut_1 13 rfl rfl)
theorem dX3_cut_38 : decode cX3_cut 38 = .ok (.iconst 1, 1) := dk_4 (dk_at dksX3_cut_1 16 rfl rfl)
theorem dX3_cut_39 : decode cX3_cut 39 = .ok (.iaload, 1) := dk_46 (dk_at dksX3_cut_1 17 rfl rfl)
theorem dX3_cut_40 : decode cX3_cut 40 = .ok (.ireturn, 1) := dk_172 (dk_at dksX3_cut_1 18 rfl rfl)
abbrev cX3_saw : ByteArray := prog_17_method_87_code
def yX3_saw : MethodName := ⟨RX3, "saw", "(I)I"⟩
def dkwX3_saw_0 : List UInt8 := [42, 27, 182, 1, 180, 154, 0, 5, 2, 172, 42, 182, 1, 234, 42, 4, 27, 120, 3, 182, 1, 200, 172]
abbrev dktX3_saw_0 : List UInt8 := dkwX3_saw_0 ++ []
theorem dksX3_saw_0 : cX3_saw.data.toList.drop 0 = dktX3_saw_0 := by decide +kernel
theorem dX3_saw_0 : decode cX3_saw 0 = .ok (.aload_n 0, 1) := dk_42 (dk_at dksX3_saw_0 0 rfl rfl)
theorem dX3_saw_1 : decode cX3_saw 1 = .ok (.iload_n 1, 1) := dk_27 (dk_at dksX3_saw_0 1 rfl rfl)
theorem dX3_saw_2 : decode cX3_saw 2 = .ok (.invokevirtual 436, 3) := dk_182 1 180 (dk_at dksX3_saw_0 2 rfl rfl)
theorem dX3_saw_5 : decode cX3_saw 5 = .ok (.ifCond .ne 5, 3) := dk_154 0 5 (dk_at dksX3_saw_0 5 rfl rfl)
theorem dX3_saw_8 : decode cX3_saw 8 = .ok (.iconst (-1), 1) := dk_2 (dk_at dksX3_saw_0 8 rfl rfl)
theorem dX3_saw_9 : decode cX3_saw 9 = .ok (.ireturn, 1) := dk_172 (dk_at dksX3_saw_0 9 rfl rfl)
theorem dX3_saw_10 : decode cX3_saw 10 = .ok (.aload_n 0, 1) := dk_42 (dk_at dksX3_saw_0 10 rfl rfl)
theorem dX3_saw_11 : decode cX3_saw 11 = .ok (.invokevirtual 490, 3) := dk_182 1 234 (dk_at dksX3_saw_0 11 rfl rfl)
theorem dX3_saw_14 : decode cX3_saw 14 = .ok (.aload_n 0, 1) := dk_42 (dk_at dksX3_saw_0 14 rfl rfl)
theorem dX3_saw_15 : decode cX3_saw 15 = .ok (.iconst 1, 1) := dk_4 (dk_at dksX3_saw_0 15 rfl rfl)
theorem dX3_saw_16 : decode cX3_saw 16 = .ok (.iload_n 1, 1) := dk_27 (dk_at dksX3_saw_0 16 rfl rfl)
theorem dX3_saw_17 : decode cX3_saw 17 = .ok (.ishl, 1) := dk_120 (dk_at dksX3_saw_0 17 rfl rfl)
theorem dX3_saw_18 : decode cX3_saw 18 = .ok (.iconst 0, 1) := dk_3 (dk_at dksX3_saw_0 18 rfl rfl)
theorem dX3_saw_19 : decode cX3_saw 19 = .ok (.invokevirtual 456, 3) := dk_182 1 200 (dk_at dksX3_saw_0 19 rfl rfl)
theorem dX3_saw_22 : decode cX3_saw 22 = .ok (.ireturn, 1) := dk_172 (dk_at dksX3_saw_0 22 rfl rfl)
abbrev cX3_push : ByteArray := prog_17_method_88_code
def yX3_push : MethodName := ⟨RX3, "push", "(II)I"⟩
def dkwX3_push_2 : List UInt8 := [172]
abbrev dktX3_push_2 : List UInt8 := dkwX3_push_2 ++ []
def dkwX3_push_1 : List UInt8 := [160, 0, 5, 2, 172, 42, 182, 1, 234, 42, 180, 0, 22, 27, 46, 62, 42, 180, 0, 22, 27, 28, 79, 29]
abbrev dktX3_push_1 : List UInt8 := dkwX3_push_1 ++ dktX3_push_2
def dkwX3_push_0 : List UInt8 := [42, 27, 182, 1, 180, 153, 0, 21, 42, 28, 182, 1, 162, 153, 0, 13, 42, 180, 0, 22, 27, 46, 28]
abbrev dktX3_push_0 : List UInt8 := dkwX3_push_0 ++ dktX3_push_1
theorem dksX3_push_0 : cX3_push.data.toList.drop 0 = dktX3_push_0 := by decide +kernel
theorem dksX3_push_1 : cX3_push.data.toList.drop 23 = dktX3_push_1 := dk_seg dksX3_push_0 23 rfl rfl
theorem dksX3_push_2 : cX3_push.data.toList.drop 47 = dktX3_push_2 := dk_seg dksX3_push_1 24 rfl rfl
theorem dX3_push_0 : decode cX3_push 0 = .ok (.aload_n 0, 1) := dk_42 (dk_at dksX3_push_0 0 rfl rfl)
theorem dX3_push_1 : decode cX3_push 1 = .ok (.iload_n 1, 1) := dk_27 (dk_at dksX3_push_0 1 rfl rfl)
theorem dX3_push_2 : decode cX3_push 2 = .ok (.invokevirtual 436, 3) := dk_182 1 180 (dk_at dksX3_push_0 2 rfl rfl)
theorem dX3_push_5 : decode cX3_push 5 = .ok (.ifCond .eq 21, 3) := dk_153 0 21 (dk_at dksX3_push_0 5 rfl rfl)
theorem dX3_push_8 : decode cX3_push 8 = .ok (.aload_n 0, 1) := dk_42 (dk_at dksX3_push_0 8 rfl rfl)
theorem dX3_push_9 : decode cX3_push 9 = .ok (.iload_n 2, 1) := dk_28 (dk_at dksX3_push_0 9 rfl rfl)
theorem dX3_push_10 : decode cX3_push 10 = .ok (.invokevirtual 418, 3) := dk_182 1 162 (dk_at dksX3_push_0 10 rfl rfl)
theorem dX3_push_13 : decode cX3_push 13 = .ok (.ifCond .eq 13, 3) := dk_153 0 13 (dk_at dksX3_push_0 13 rfl rfl)
theorem dX3_push_16 : decode cX3_push 16 = .ok (.aload_n 0, 1) := dk_42 (dk_at dksX3_push_0 16 rfl rfl)
theorem dX3_push_17 : decode cX3_push 17 = .ok (.getfield 22, 3) := dk_180 0 22 (dk_at dksX3_push_0 17 rfl rfl)
theorem dX3_push_20 : decode cX3_push 20 = .ok (.iload_n 1, 1) := dk_27 (dk_at dksX3_push_0 20 rfl rfl)
theorem dX3_push_21 : decode cX3_push 21 = .ok (.iaload, 1) := dk_46 (dk_at dksX3_push_0 21 rfl rfl)
theorem dX3_push_22 : decode cX3_push 22 = .ok (.iload_n 2, 1) := dk_28 (dk_at dksX3_push_0 22 rfl rfl)
theorem dX3_push_23 : decode cX3_push 23 = .ok (.if_icmp .ne 5, 3) := dk_160 0 5 (dk_at dksX3_push_1 0 rfl rfl)
theorem dX3_push_26 : decode cX3_push 26 = .ok (.iconst (-1), 1) := dk_2 (dk_at dksX3_push_1 3 rfl rfl)
theorem dX3_push_27 : decode cX3_push 27 = .ok (.ireturn, 1) := dk_172 (dk_at dksX3_push_1 4 rfl rfl)
theorem dX3_push_28 : decode cX3_push 28 = .ok (.aload_n 0, 1) := dk_42 (dk_at dksX3_push_1 5 rfl rfl)
theorem dX3_push_29 : decode cX3_push 29 = .ok (.invokevirtual 490, 3) := dk_182 1 234 (dk_at dksX3_push_1 6 rfl rfl)
theorem dX3_push_32 : decode cX3_push 32 = .ok (.aload_n 0, 1) := dk_42 (dk_at dksX3_push_1 9 rfl rfl)
theorem dX3_push_33 : decode cX3_push 33 = .ok (.getfield 22, 3) := dk_180 0 22 (dk_at dksX3_push_1 10 rfl rfl)
theorem dX3_push_36 : decode cX3_push 36 = .ok (.iload_n 1, 1) := dk_27 (dk_at dksX3_push_1 13 rfl rfl)
theorem dX3_push_37 : decode cX3_push 37 = .ok (.iaload, 1) := dk_46 (dk_at dksX3_push_1 14 rfl rfl)
theorem dX3_push_38 : decode cX3_push 38 = .ok (.istore_n 3, 1) := dk_62 (dk_at dksX3_push_1 15 rfl rfl)
theorem dX3_push_39 : decode cX3_push 39 = .ok (.aload_n 0, 1) := dk_42 (dk_at dksX3_push_1 16 rfl rfl)
theorem dX3_push_40 : decode cX3_push 40 = .ok (.getfield 22, 3) := dk_180 0 22 (dk_at dksX3_push_1 17 rfl rfl)
theorem dX3_push_43 : decode cX3_push 43 = .ok (.iload_n 1, 1) := dk_27 (dk_at dksX3_push_1 20 rfl rfl)
theorem dX3_push_44 : decode cX3_push 44 = .ok (.iload_n 2, 1) := dk_28 (dk_at dksX3_push_1 21 rfl rfl)
theorem dX3_push_45 : decode cX3_push 45 = .ok (.iastore, 1) := dk_79 (dk_at dksX3_push_1 22 rfl rfl)
theorem dX3_push_46 : decode cX3_push 46 = .ok (.iload_n 3, 1) := dk_29 (dk_at dksX3_push_1 23 rfl rfl)
theorem dX3_push_47 : decode cX3_push 47 = .ok (.ireturn, 1) := dk_172 (dk_at dksX3_push_2 0 rfl rfl)
abbrev cX3_run : ByteArray := prog_17_method_91_code
def yX3_run : MethodName := ⟨RX3, "run", "(III)I"⟩
def dkwX3_run_3 : List UInt8 := [182, 1, 237, 96, 54, 4, 132, 5, 1, 167, 255, 232, 21, 4, 172]
abbrev dktX3_run_3 : List UInt8 := dkwX3_run_3 ++ []
def dkwX3_run_2 : List UInt8 := [181, 1, 103, 3, 54, 4, 3, 54, 5, 21, 5, 28, 162, 0, 24, 42, 27, 29, 182, 2, 1, 21, 4, 42]
abbrev dktX3_run_2 : List UInt8 := dkwX3_run_2 ++ dktX3_run_3
def dkwX3_run_1 : List UInt8 := [184, 0, 176, 153, 0, 15, 29, 133, 10, 20, 1, 186, 184, 0, 176, 154, 0, 5, 2, 172, 42, 3]
abbrev dktX3_run_1 : List UInt8 := dkwX3_run_1 ++ dktX3_run_2
def dkwX3_run_0 : List UInt8 := [42, 182, 1, 174, 153, 0, 37, 42, 27, 182, 1, 254, 153, 0, 29, 28, 133, 10, 42, 182, 1, 231, 133]
abbrev dktX3_run_0 : List UInt8 := dkwX3_run_0 ++ dktX3_run_1
theorem dksX3_run_0 : cX3_run.data.toList.drop 0 = dktX3_run_0 := by decide +kernel
theorem dksX3_run_1 : cX3_run.data.toList.drop 23 = dktX3_run_1 := dk_seg dksX3_run_0 23 rfl rfl
theorem dksX3_run_2 : cX3_run.data.toList.drop 45 = dktX3_run_2 := dk_seg dksX3_run_1 22 rfl rfl
theorem dksX3_run_3 : cX3_run.data.toList.drop 69 = dktX3_run_3 := dk_seg dksX3_run_2 24 rfl rfl
theorem dX3_run_0 : decode cX3_run 0 = .ok (.aload_n 0, 1) := dk_42 (dk_at dksX3_run_0 0 rfl rfl)
theorem dX3_run_1 : decode cX3_run 1 = .ok (.invokevirtual 430, 3) := dk_182 1 174 (dk_at dksX3_run_0 1 rfl rfl)
theorem dX3_run_4 : decode cX3_run 4 = .ok (.ifCond .eq 37, 3) := dk_153 0 37 (dk_at dksX3_run_0 4 rfl rfl)
theorem dX3_run_7 : decode cX3_run 7 = .ok (.aload_n 0, 1) := dk_42 (dk_at dksX3_run_0 7 rfl rfl)
theorem dX3_run_8 : decode cX3_run 8 = .ok (.iload_n 1, 1) := dk_27 (dk_at dksX3_run_0 8 rfl rfl)
theorem dX3_run_9 : decode cX3_run 9 = .ok (.invokevirtual 510, 3) := dk_182 1 254 (dk_at dksX3_run_0 9 rfl rfl)
theorem dX3_run_12 : decode cX3_run 12 = .ok (.ifCond .eq 29, 3) := dk_153 0 29 (dk_at dksX3_run_0 12 rfl rfl)
theorem dX3_run_15 : decode cX3_run 15 = .ok (.iload_n 2, 1) := dk_28 (dk_at dksX3_run_0 15 rfl rfl)
theorem dX3_run_16 : decode cX3_run 16 = .ok (.i2l, 1) := dk_133 (dk_at dksX3_run_0 16 rfl rfl)
theorem dX3_run_17 : decode cX3_run 17 = .ok (.lconst 1, 1) := dk_10 (dk_at dksX3_run_0 17 rfl rfl)
theorem dX3_run_18 : decode cX3_run 18 = .ok (.aload_n 0, 1) := dk_42 (dk_at dksX3_run_0 18 rfl rfl)
theorem dX3_run_19 : decode cX3_run 19 = .ok (.invokevirtual 487, 3) := dk_182 1 231 (dk_at dksX3_run_0 19 rfl rfl)
theorem dX3_run_22 : decode cX3_run 22 = .ok (.i2l, 1) := dk_133 (dk_at dksX3_run_0 22 rfl rfl)
theorem dX3_run_23 : decode cX3_run 23 = .ok (.invokestatic 176, 3) := dk_184 0 176 (dk_at dksX3_run_1 0 rfl rfl)
theorem dX3_run_26 : decode cX3_run 26 = .ok (.ifCond .eq 15, 3) := dk_153 0 15 (dk_at dksX3_run_1 3 rfl rfl)
theorem dX3_run_29 : decode cX3_run 29 = .ok (.iload_n 3, 1) := dk_29 (dk_at dksX3_run_1 6 rfl rfl)
theorem dX3_run_30 : decode cX3_run 30 = .ok (.i2l, 1) := dk_133 (dk_at dksX3_run_1 7 rfl rfl)
theorem dX3_run_31 : decode cX3_run 31 = .ok (.lconst 1, 1) := dk_10 (dk_at dksX3_run_1 8 rfl rfl)
theorem dX3_run_32 : decode cX3_run 32 = .ok (.ldc2_w 442, 3) := dk_20 1 186 (dk_at dksX3_run_1 9 rfl rfl)
theorem dX3_run_35 : decode cX3_run 35 = .ok (.invokestatic 176, 3) := dk_184 0 176 (dk_at dksX3_run_1 12 rfl rfl)
theorem dX3_run_38 : decode cX3_run 38 = .ok (.ifCond .ne 5, 3) := dk_154 0 5 (dk_at dksX3_run_1 15 rfl rfl)
theorem dX3_run_41 : decode cX3_run 41 = .ok (.iconst (-1), 1) := dk_2 (dk_at dksX3_run_1 18 rfl rfl)
theorem dX3_run_42 : decode cX3_run 42 = .ok (.ireturn, 1) := dk_172 (dk_at dksX3_run_1 19 rfl rfl)
theorem dX3_run_43 : decode cX3_run 43 = .ok (.aload_n 0, 1) := dk_42 (dk_at dksX3_run_1 20 rfl rfl)
theorem dX3_run_44 : decode cX3_run 44 = .ok (.iconst 0, 1) := dk_3 (dk_at dksX3_run_1 21 rfl rfl)
theorem dX3_run_45 : decode cX3_run 45 = .ok (.putfield 359, 3) := dk_181 1 103 (dk_at dksX3_run_2 0 rfl rfl)
theorem dX3_run_48 : decode cX3_run 48 = .ok (.iconst 0, 1) := dk_3 (dk_at dksX3_run_2 3 rfl rfl)
theorem dX3_run_49 : decode cX3_run 49 = .ok (.istore 4, 2) := dk_54 4 (dk_at dksX3_run_2 4 rfl rfl)
theorem dX3_run_51 : decode cX3_run 51 = .ok (.iconst 0, 1) := dk_3 (dk_at dksX3_run_2 6 rfl rfl)
theorem dX3_run_52 : decode cX3_run 52 = .ok (.istore 5, 2) := dk_54 5 (dk_at dksX3_run_2 7 rfl rfl)
theorem dX3_run_54 : decode cX3_run 54 = .ok (.iload 5, 2) := dk_21 5 (dk_at dksX3_run_2 9 rfl rfl)
theorem dX3_run_56 : decode cX3_run 56 = .ok (.iload_n 2, 1) := dk_28 (dk_at dksX3_run_2 11 rfl rfl)
theorem dX3_run_57 : decode cX3_run 57 = .ok (.if_icmp .ge 24, 3) := dk_162 0 24 (dk_at dksX3_run_2 12 rfl rfl)
theorem dX3_run_60 : decode cX3_run 60 = .ok (.aload_n 0, 1) := dk_42 (dk_at dksX3_run_2 15 rfl rfl)
theorem dX3_run_61 : decode cX3_run 61 = .ok (.iload_n 1, 1) := dk_27 (dk_at dksX3_run_2 16 rfl rfl)
theorem dX3_run_62 : decode cX3_run 62 = .ok (.iload_n 3, 1) := dk_29 (dk_at dksX3_run_2 17 rfl rfl)
theorem dX3_run_63 : decode cX3_run 63 = .ok (.invokevirtual 513, 3) := dk_182 2 1 (dk_at dksX3_run_2 18 rfl rfl)
theorem dX3_run_66 : decode cX3_run 66 = .ok (.iload 4, 2) := dk_21 4 (dk_at dksX3_run_2 21 rfl rfl)
theorem dX3_run_68 : decode cX3_run 68 = .ok (.aload_n 0, 1) := dk_42 (dk_at dksX3_run_2 23 rfl rfl)
theorem dX3_run_69 : decode cX3_run 69 = .ok (.invokevirtual 493, 3) := dk_182 1 237 (dk_at dksX3_run_3 0 rfl rfl)
theorem dX3_run_72 : decode cX3_run 72 = .ok (.iadd, 1) := dk_96 (dk_at dksX3_run_3 3 rfl rfl)
theorem dX3_run_73 : decode cX3_run 73 = .ok (.istore 4, 2) := dk_54 4 (dk_at dksX3_run_3 4 rfl rfl)
theorem dX3_run_75 : decode cX3_run 75 = .ok (.iinc 5 1, 3) := dk_132 5 1 (dk_at dksX3_run_3 6 rfl rfl)
theorem dX3_run_78 : decode cX3_run 78 = .ok (.goto (-24), 3) := dk_167 255 232 (dk_at dksX3_run_3 9 rfl rfl)
theorem dX3_run_81 : decode cX3_run 81 = .ok (.iload 4, 2) := dk_21 4 (dk_at dksX3_run_3 12 rfl rfl)
theorem dX3_run_83 : decode cX3_run 83 = .ok (.ireturn, 1) := dk_172 (dk_at dksX3_run_3 14 rfl rfl)
abbrev cX3_isRule : ByteArray := prog_17_method_50_code
def yX3_isRule : MethodName := ⟨RX3, "isRule", "(I)Z"⟩
def dkwX3_isRule_0 : List UInt8 := [27, 133, 9, 42, 180, 1, 116, 4, 100, 133, 184, 0, 176, 172]
abbrev dktX3_isRule_0 : List UInt8 := dkwX3_isRule_0 ++ []
theorem dksX3_isRule_0 : cX3_isRule.data.toList.drop 0 = dktX3_isRule_0 := by decide +kernel
theorem dX3_isRule_0 : decode cX3_isRule 0 = .ok (.iload_n 1, 1) := dk_27 (dk_at dksX3_isRule_0 0 rfl rfl)
theorem dX3_isRule_1 : decode cX3_isRule 1 = .ok (.i2l, 1) := dk_133 (dk_at dksX3_isRule_0 1 rfl rfl)
theorem dX3_isRule_2 : decode cX3_isRule 2 = .ok (.lconst 0, 1) := dk_9 (dk_at dksX3_isRule_0 2 rfl rfl)
theorem dX3_isRule_3 : decode cX3_isRule 3 = .ok (.aload_n 0, 1) := dk_42 (dk_at dksX3_isRule_0 3 rfl rfl)
theorem dX3_isRule_4 : decode cX3_isRule 4 = .ok (.getfield 372, 3) := dk_180 1 116 (dk_at dksX3_isRule_0 4 rfl rfl)
theorem dX3_isRule_7 : decode cX3_isRule 7 = .ok (.iconst 1, 1) := dk_4 (dk_at dksX3_isRule_0 7 rfl rfl)
theorem dX3_isRule_8 : decode cX3_isRule 8 = .ok (.isub, 1) := dk_100 (dk_at dksX3_isRule_0 8 rfl rfl)
theorem dX3_isRule_9 : decode cX3_isRule 9 = .ok (.i2l, 1) := dk_133 (dk_at dksX3_isRule_0 9 rfl rfl)
theorem dX3_isRule_10 : decode cX3_isRule 10 = .ok (.invokestatic 176, 3) := dk_184 0 176 (dk_at dksX3_isRule_0 10 rfl rfl)
theorem dX3_isRule_13 : decode cX3_isRule 13 = .ok (.ireturn, 1) := dk_172 (dk_at dksX3_isRule_0 13 rfl rfl)
abbrev cX3_tiesBy : ByteArray := prog_17_method_90_code
def yX3_tiesBy : MethodName := ⟨RX3, "tiesBy", "(II)V"⟩
def dkwX3_tiesBy_4 : List UInt8 := [167, 255, 173, 29, 2, 159, 0, 12, 42, 29, 21, 4, 28, 182, 1, 244, 87, 177]
abbrev dktX3_tiesBy_4 : List UInt8 := dkwX3_tiesBy_4 ++ []
def dkwX3_tiesBy_3 : List UInt8 := [158, 0, 14, 22, 9, 55, 5, 21, 7, 62, 21, 8, 54, 4, 132, 8, 1, 167, 255, 196, 132, 7, 1]
abbrev dktX3_tiesBy_3 : List UInt8 := dkwX3_tiesBy_3 ++ dktX3_tiesBy_4
def dkwX3_tiesBy_2 : List UInt8 := [153, 0, 37, 42, 21, 7, 21, 8, 182, 1, 247, 42, 27, 182, 1, 250, 55, 9, 22, 9, 22, 5, 148]
abbrev dktX3_tiesBy_2 : List UInt8 := dkwX3_tiesBy_2 ++ dktX3_tiesBy_3
def dkwX3_tiesBy_1 : List UInt8 := [4, 96, 54, 8, 21, 8, 42, 180, 0, 9, 6, 46, 162, 0, 55, 42, 21, 7, 21, 8, 28, 182, 1, 240]
abbrev dktX3_tiesBy_1 : List UInt8 := dkwX3_tiesBy_1 ++ dktX3_tiesBy_2
def dkwX3_tiesBy_0 : List UInt8 := [2, 62, 2, 54, 4, 9, 55, 5, 3, 54, 7, 21, 7, 42, 180, 0, 9, 6, 46, 162, 0, 78, 21, 7]
abbrev dktX3_tiesBy_0 : List UInt8 := dkwX3_tiesBy_0 ++ dktX3_tiesBy_1
theorem dksX3_tiesBy_0 : cX3_tiesBy.data.toList.drop 0 = dktX3_tiesBy_0 := by decide +kernel
theorem dksX3_tiesBy_1 : cX3_tiesBy.data.toList.drop 24 = dktX3_tiesBy_1 := dk_seg dksX3_tiesBy_0 24 rfl rfl
theorem dksX3_tiesBy_2 : cX3_tiesBy.data.toList.drop 48 = dktX3_tiesBy_2 := dk_seg dksX3_tiesBy_1 24 rfl rfl
theorem dksX3_tiesBy_3 : cX3_tiesBy.data.toList.drop 71 = dktX3_tiesBy_3 := dk_seg dksX3_tiesBy_2 23 rfl rfl
theorem dksX3_tiesBy_4 : cX3_tiesBy.data.toList.drop 94 = dktX3_tiesBy_4 := dk_seg dksX3_tiesBy_3 23 rfl rfl
theorem dX3_tiesBy_0 : decode cX3_tiesBy 0 = .ok (.iconst (-1), 1) := dk_2 (dk_at dksX3_tiesBy_0 0 rfl rfl)
theorem dX3_tiesBy_1 : decode cX3_tiesBy 1 = .ok (.istore_n 3, 1) := dk_62 (dk_at dksX3_tiesBy_0 1 rfl rfl)
theorem dX3_tiesBy_2 : decode cX3_tiesBy 2 = .ok (.iconst (-1), 1) := dk_2 (dk_at dksX3_tiesBy_0 2 rfl rfl)
theorem dX3_tiesBy_3 : decode cX3_tiesBy 3 = .ok (.istore 4, 2) := dk_54 4 (dk_at dksX3_tiesBy_0 3 rfl rfl)
theorem dX3_tiesBy_5 : decode cX3_tiesBy 5 = .ok (.lconst 0, 1) := dk_9 (dk_at dksX3_tiesBy_0 5 rfl rfl)
theorem dX3_tiesBy_6 : decode cX3_tiesBy 6 = .ok (.lstore 5, 2) := dk_55 5 (dk_at dksX3_tiesBy_0 6 rfl rfl)
theorem dX3_tiesBy_8 : decode cX3_tiesBy 8 = .ok (.iconst 0, 1) := dk_3 (dk_at dksX3_tiesBy_0 8 rfl rfl)
theorem dX3_tiesBy_9 : decode cX3_tiesBy 9 = .ok (.istore 7, 2) := dk_54 7 (dk_at dksX3_tiesBy_0 9 rfl rfl)
theorem dX3_tiesBy_11 : decode cX3_tiesBy 11 = .ok (.iload 7, 2) := dk_21 7 (dk_at dksX3_tiesBy_0 11 rfl rfl)
theorem dX3_tiesBy_13 : decode cX3_tiesBy 13 = .ok (.aload_n 0, 1) := dk_42 (dk_at dksX3_tiesBy_0 13 rfl rfl)
theorem dX3_tiesBy_14 : decode cX3_tiesBy 14 = .ok (.getfield 9, 3) := dk_180 0 9 (dk_at dksX3_tiesBy_0 14 rfl rfl)
theorem dX3_tiesBy_17 : decode cX3_tiesBy 17 = .ok (.iconst 3, 1) := dk_6 (dk_at dksX3_tiesBy_0 17 rfl rfl)
theorem dX3_tiesBy_18 : decode cX3_tiesBy 18 = .ok (.iaload, 1) := dk_46 (dk_at dksX3_tiesBy_0 18 rfl rfl)
theorem dX3_tiesBy_19 : decode cX3_tiesBy 19 = .ok (.if_icmp .ge 78, 3) := dk_162 0 78 (dk_at dksX3_tiesBy_0 19 rfl rfl)
theorem dX3_tiesBy_22 : decode cX3_tiesBy 22 = .ok (.iload 7, 2) := dk_21 7 (dk_at dksX3_tiesBy_0 22 rfl rfl)
theorem dX3_tiesBy_24 : decode cX3_tiesBy 24 = .ok (.iconst 1, 1) := dk_4 (dk_at dksX3_tiesBy_1 0 rfl rfl)
theorem dX3_tiesBy_25 : decode cX3_tiesBy 25 = .ok (.iadd, 1) := dk_96 (dk_at dksX3_tiesBy_1 1 rfl rfl)
theorem dX3_tiesBy_26 : decode cX3_tiesBy 26 = .ok (.istore 8, 2) := dk_54 8 (dk_at dksX3_tiesBy_1 2 rfl rfl)
theorem dX3_tiesBy_28 : decode cX3_tiesBy 28 = .ok (.iload 8, 2) := dk_21 8 (dk_at dksX3_tiesBy_1 4 rfl rfl)
theorem dX3_tiesBy_30 : decode cX3_tiesBy 30 = .ok (.aload_n 0, 1) := dk_42 (dk_at dksX3_tiesBy_1 6 rfl rfl)
theorem dX3_tiesBy_31 : decode cX3_tiesBy 31 = .ok (.getfield 9, 3) := dk_180 0 9 (dk_at dksX3_tiesBy_1 7 rfl rfl)
theorem dX3_tiesBy_34 : decode cX3_tiesBy 34 = .ok (.iconst 3, 1) := dk_6 (dk_at dksX3_tiesBy_1 10 rfl rfl)
theorem dX3_tiesBy_35 : decode cX3_tiesBy 35 = .ok (.iaload, 1) := dk_46 (dk_at dksX3_tiesBy_1 11 rfl rfl)
theorem dX3_tiesBy_36 : decode cX3_tiesBy 36 = .ok (.if_icmp .ge 55, 3) := dk_162 0 55 (dk_at dksX3_tiesBy_1 12 rfl rfl)
theorem dX3_tiesBy_39 : decode cX3_tiesBy 39 = .ok (.aload_n 0, 1) := dk_42 (dk_at dksX3_tiesBy_1 15 rfl rfl)
theorem dX3_tiesBy_40 : decode cX3_tiesBy 40 = .ok (.iload 7, 2) := dk_21 7 (dk_at dksX3_tiesBy_1 16 rfl rfl)
theorem dX3_tiesBy_42 : decode cX3_tiesBy 42 = .ok (.iload 8, 2) := dk_21 8 (dk_at dksX3_tiesBy_1 18 rfl rfl)
theorem dX3_tiesBy_44 : decode cX3_tiesBy 44 = .ok (.iload_n 2, 1) := dk_28 (dk_at dksX3_tiesBy_1 20 rfl rfl)
theorem dX3_tiesBy_45 : decode cX3_tiesBy 45 = .ok (.invokevirtual 496, 3) := dk_182 1 240 (dk_at dksX3_tiesBy_1 21 rfl rfl)
theorem dX3_tiesBy_48 : decode cX3_tiesBy 48 = .ok (.ifCond .eq 37, 3) := dk_153 0 37 (dk_at dksX3_tiesBy_2 0 rfl rfl)
theorem dX3_tiesBy_51 : decode cX3_tiesBy 51 = .ok (.aload_n 0, 1) := dk_42 (dk_at dksX3_tiesBy_2 3 rfl rfl)
theorem dX3_tiesBy_52 : decode cX3_tiesBy 52 = .ok (.iload 7, 2) := dk_21 7 (dk_at dksX3_tiesBy_2 4 rfl rfl)
theorem dX3_tiesBy_54 : decode cX3_tiesBy 54 = .ok (.iload 8, 2) := dk_21 8 (dk_at dksX3_tiesBy_2 6 rfl rfl)
theorem dX3_tiesBy_56 : decode cX3_tiesBy 56 = .ok (.invokevirtual 503, 3) := dk_182 1 247 (dk_at dksX3_tiesBy_2 8 rfl rfl)
theorem dX3_tiesBy_59 : decode cX3_tiesBy 59 = .ok (.aload_n 0, 1) := dk_42 (dk_at dksX3_tiesBy_2 11 rfl rfl)
theorem dX3_tiesBy_60 : decode cX3_tiesBy 60 = .ok (.iload_n 1, 1) := dk_27 (dk_at dksX3_tiesBy_2 12 rfl rfl)
theorem dX3_tiesBy_61 : decode cX3_tiesBy 61 = .ok (.invokevirtual 506, 3) := dk_182 1 250 (dk_at dksX3_tiesBy_2 13 rfl rfl)
theorem dX3_tiesBy_64 : decode cX3_tiesBy 64 = .ok (.lstore 9, 2) := dk_55 9 (dk_at dksX3_tiesBy_2 16 rfl rfl)
theorem dX3_tiesBy_66 : decode cX3_tiesBy 66 = .ok (.lload 9, 2) := dk_22 9 (dk_at dksX3_tiesBy_2 18 rfl rfl)
theorem dX3_tiesBy_68 : decode cX3_tiesBy 68 = .ok (.lload 5, 2) := dk_22 5 (dk_at dksX3_tiesBy_2 20 rfl rfl)
theorem dX3_tiesBy_70 : decode cX3_tiesBy 70 = .ok (.lcmp, 1) := dk_148 (dk_at dksX3_tiesBy_2 22 rfl rfl)
theorem dX3_tiesBy_71 : decode cX3_tiesBy 71 = .ok (.ifCond .le 14, 3) := dk_158 0 14 (dk_at dksX3_tiesBy_3 0 rfl rfl)
theorem dX3_tiesBy_74 : decode cX3_tiesBy 74 = .ok (.lload 9, 2) := dk_22 9 (dk_at dksX3_tiesBy_3 3 rfl rfl)
theorem dX3_tiesBy_76 : decode cX3_tiesBy 76 = .ok (.lstore 5, 2) := dk_55 5 (dk_at dksX3_tiesBy_3 5 rfl rfl)
theorem dX3_tiesBy_78 : decode cX3_tiesBy 78 = .ok (.iload 7, 2) := dk_21 7 (dk_at dksX3_tiesBy_3 7 rfl rfl)
theorem dX3_tiesBy_80 : decode cX3_tiesBy 80 = .ok (.istore_n 3, 1) := dk_62 (dk_at dksX3_tiesBy_3 9 rfl rfl)
theorem dX3_tiesBy_81 : decode cX3_tiesBy 81 = .ok (.iload 8, 2) := dk_21 8 (dk_at dksX3_tiesBy_3 10 rfl rfl)
theorem dX3_tiesBy_83 : decode cX3_tiesBy 83 = .ok (.istore 4, 2) := dk_54 4 (dk_at dksX3_tiesBy_3 12 rfl rfl)
theorem dX3_tiesBy_85 : decode cX3_tiesBy 85 = .ok (.iinc 8 1, 3) := dk_132 8 1 (dk_at dksX3_tiesBy_3 14 rfl rfl)
theorem dX3_tiesBy_88 : decode cX3_tiesBy 88 = .ok (.goto (-60), 3) := dk_167 255 196 (dk_at dksX3_tiesBy_3 17 rfl rfl)
theorem dX3_tiesBy_91 : decode cX3_tiesBy 91 = .ok (.iinc 7 1, 3) := dk_132 7 1 (dk_at dksX3_tiesBy_3 20 rfl rfl)
theorem dX3_tiesBy_94 : decode cX3_tiesBy 94 = .ok (.goto (-83), 3) := dk_167 255 173 (dk_at dksX3_tiesBy_4 0 rfl rfl)
theorem dX3_tiesBy_97 : decode cX3_tiesBy 97 = .ok (.iload_n 3, 1) := dk_29 (dk_at dksX3_tiesBy_4 3 rfl rfl)
theorem dX3_tiesBy_98 : decode cX3_tiesBy 98 = .ok (.iconst (-1), 1) := dk_2 (dk_at dksX3_tiesBy_4 4 rfl rfl)
theorem dX3_tiesBy_99 : decode cX3_tiesBy 99 = .ok (.if_icmp .eq 12, 3) := dk_159 0 12 (dk_at dksX3_tiesBy_4 5 rfl rfl)
theorem dX3_tiesBy_102 : decode cX3_tiesBy 102 = .ok (.aload_n 0, 1) := dk_42 (dk_at dksX3_tiesBy_4 8 rfl rfl)
theorem dX3_tiesBy_103 : decode cX3_tiesBy 103 = .ok (.iload_n 3, 1) := dk_29 (dk_at dksX3_tiesBy_4 9 rfl rfl)
theorem dX3_tiesBy_104 : decode cX3_tiesBy 104 = .ok (.iload 4, 2) := dk_21 4 (dk_at dksX3_tiesBy_4 10 rfl rfl)
theorem dX3_tiesBy_106 : decode cX3_tiesBy 106 = .ok (.iload_n 2, 1) := dk_28 (dk_at dksX3_tiesBy_4 12 rfl rfl)
theorem dX3_tiesBy_107 : decode cX3_tiesBy 107 = .ok (.invokevirtual 500, 3) := dk_182 1 244 (dk_at dksX3_tiesBy_4 13 rfl rfl)
theorem dX3_tiesBy_110 : decode cX3_tiesBy 110 = .ok (.pop, 1) := dk_87 (dk_at dksX3_tiesBy_4 16 rfl rfl)
theorem dX3_tiesBy_111 : decode cX3_tiesBy 111 = .ok (.return_, 1) := dk_177 (dk_at dksX3_tiesBy_4 17 rfl rfl)
abbrev cX3_asks : ByteArray := prog_17_method_89_code
def yX3_asks : MethodName := ⟨RX3, "asks", "(II)V"⟩
def dkwX3_asks_13 : List UInt8 := [182, 1, 137, 184, 1, 204, 133, 80, 177]
abbrev dktX3_asks_13 : List UInt8 := dkwX3_asks_13 ++ []
def dkwX3_asks_12 : List UInt8 := [133, 167, 0, 15, 42, 180, 0, 13, 42, 180, 0, 22, 28, 46, 46, 133, 80, 42, 180, 0, 129, 16, 11, 42]
abbrev dktX3_asks_12 : List UInt8 := dkwX3_asks_12 ++ dktX3_asks_13
def dkwX3_asks_11 : List UInt8 := [180, 0, 13, 42, 180, 0, 22, 28, 46, 46, 162, 0, 18, 42, 180, 0, 13, 42, 180, 0, 22, 27, 46, 46]
abbrev dktX3_asks_11 : List UInt8 := dkwX3_asks_11 ++ dktX3_asks_12
def dkwX3_asks_10 : List UInt8 := [16, 6, 46, 133, 80, 42, 180, 0, 129, 16, 10, 42, 180, 0, 13, 42, 180, 0, 22, 27, 46, 46, 42]
abbrev dktX3_asks_10 : List UInt8 := dkwX3_asks_10 ++ dktX3_asks_11
def dkwX3_asks_9 : List UInt8 := [180, 0, 129, 16, 8, 42, 180, 0, 9, 4, 46, 133, 80, 42, 180, 0, 129, 16, 9, 42, 180, 0, 9]
abbrev dktX3_asks_9 : List UInt8 := dkwX3_asks_9 ++ dktX3_asks_10
def dkwX3_asks_8 : List UInt8 := [184, 1, 134, 153, 0, 7, 9, 167, 0, 4, 10, 80, 42, 180, 0, 129, 16, 7, 29, 133, 80, 42]
abbrev dktX3_asks_8 : List UInt8 := dkwX3_asks_8 ++ dktX3_asks_9
def dkwX3_asks_7 : List UInt8 := [46, 160, 0, 7, 10, 167, 0, 4, 9, 80, 42, 180, 0, 129, 16, 6, 42, 27, 182, 1, 168, 28]
abbrev dktX3_asks_7 : List UInt8 := dkwX3_asks_7 ++ dktX3_asks_8
def dkwX3_asks_6 : List UInt8 := [180, 0, 31, 28, 46, 96, 133, 80, 42, 180, 0, 129, 8, 42, 180, 0, 22, 27, 46, 42, 180, 0, 22, 28]
abbrev dktX3_asks_6 : List UInt8 := dkwX3_asks_6 ++ dktX3_asks_7
def dkwX3_asks_5 : List UInt8 := [27, 46, 42, 180, 0, 25, 28, 46, 96, 133, 80, 42, 180, 0, 129, 7, 42, 180, 0, 31, 27, 46, 42]
abbrev dktX3_asks_5 : List UInt8 := dkwX3_asks_5 ++ dktX3_asks_6
def dkwX3_asks_4 : List UInt8 := [42, 180, 0, 28, 27, 46, 42, 180, 0, 28, 28, 46, 96, 133, 80, 42, 180, 0, 129, 6, 42, 180, 0, 25]
abbrev dktX3_asks_4 : List UInt8 := dkwX3_asks_4 ++ dktX3_asks_5
def dkwX3_asks_3 : List UInt8 := [167, 255, 190, 42, 180, 0, 129, 3, 27, 133, 80, 42, 180, 0, 129, 4, 28, 133, 80, 42, 180, 0, 129, 5]
abbrev dktX3_asks_3 : List UInt8 := dkwX3_asks_3 ++ dktX3_asks_4
def dkwX3_asks_2 : List UInt8 := [159, 0, 14, 42, 180, 0, 43, 21, 4, 46, 28, 160, 0, 7, 4, 167, 0, 4, 3, 96, 62, 132, 4, 1]
abbrev dktX3_asks_2 : List UInt8 := dkwX3_asks_2 ++ dktX3_asks_3
def dkwX3_asks_1 : List UInt8 := [27, 159, 0, 36, 42, 180, 0, 43, 21, 4, 46, 27, 159, 0, 25, 42, 180, 0, 40, 21, 4, 46, 28]
abbrev dktX3_asks_1 : List UInt8 := dkwX3_asks_1 ++ dktX3_asks_2
def dkwX3_asks_0 : List UInt8 := [3, 62, 3, 54, 4, 21, 4, 42, 180, 0, 9, 7, 46, 162, 0, 61, 29, 42, 180, 0, 40, 21, 4, 46]
abbrev dktX3_asks_0 : List UInt8 := dkwX3_asks_0 ++ dktX3_asks_1
theorem dksX3_asks_0 : cX3_asks.data.toList.drop 0 = dktX3_asks_0 := by decide +kernel
theorem dksX3_asks_1 : cX3_asks.data.toList.drop 24 = dktX3_asks_1 := dk_seg dksX3_asks_0 24 rfl rfl
theorem dksX3_asks_2 : cX3_asks.data.toList.drop 47 = dktX3_asks_2 := dk_seg dksX3_asks_1 23 rfl rfl
theorem dksX3_asks_3 : cX3_asks.data.toList.drop 71 = dktX3_asks_3 := dk_seg dksX3_asks_2 24 rfl rfl
theorem dksX3_asks_4 : cX3_asks.data.toList.drop 95 = dktX3_asks_4 := dk_seg dksX3_asks_3 24 rfl rfl
theorem dksX3_asks_5 : cX3_asks.data.toList.drop 119 = dktX3_asks_5 := dk_seg dksX3_asks_4 24 rfl rfl
theorem dksX3_asks_6 : cX3_asks.data.toList.drop 142 = dktX3_asks_6 := dk_seg dksX3_asks_5 23 rfl rfl
theorem dksX3_asks_7 : cX3_asks.data.toList.drop 166 = dktX3_asks_7 := dk_seg dksX3_asks_6 24 rfl rfl
theorem dksX3_asks_8 : cX3_asks.data.toList.drop 188 = dktX3_asks_8 := dk_seg dksX3_asks_7 22 rfl rfl
theorem dksX3_asks_9 : cX3_asks.data.toList.drop 210 = dktX3_asks_9 := dk_seg dksX3_asks_8 22 rfl rfl
theorem dksX3_asks_10 : cX3_asks.data.toList.drop 233 = dktX3_asks_10 := dk_seg dksX3_asks_9 23 rfl rfl
theorem dksX3_asks_11 : cX3_asks.data.toList.drop 256 = dktX3_asks_11 := dk_seg dksX3_asks_10 23 rfl rfl
theorem dksX3_asks_12 : cX3_asks.data.toList.drop 280 = dktX3_asks_12 := dk_seg dksX3_asks_11 24 rfl rfl
theorem dksX3_asks_13 : cX3_asks.data.toList.drop 304 = dktX3_asks_13 := dk_seg dksX3_asks_12 24 rfl rfl
theorem dX3_asks_0 : decode cX3_asks 0 = .ok (.iconst 0, 1) := dk_3 (dk_at dksX3_asks_0 0 rfl rfl)
theorem dX3_asks_1 : decode cX3_asks 1 = .ok (.istore_n 3, 1) := dk_62 (dk_at dksX3_asks_0 1 rfl rfl)
theorem dX3_asks_2 : decode cX3_asks 2 = .ok (.iconst 0, 1) := dk_3 (dk_at dksX3_asks_0 2 rfl rfl)
theorem dX3_asks_3 : decode cX3_asks 3 = .ok (.istore 4, 2) := dk_54 4 (dk_at dksX3_asks_0 3 rfl rfl)
theorem dX3_asks_5 : decode cX3_asks 5 = .ok (.iload 4, 2) := dk_21 4 (dk_at dksX3_asks_0 5 rfl rfl)
theorem dX3_asks_7 : decode cX3_asks 7 = .ok (.aload_n 0, 1) := dk_42 (dk_at dksX3_asks_0 7 rfl rfl)
theorem dX3_asks_8 : decode cX3_asks 8 = .ok (.getfield 9, 3) := dk_180 0 9 (dk_at dksX3_asks_0 8 rfl rfl)
theorem dX3_asks_11 : decode cX3_asks 11 = .ok (.iconst 4, 1) := dk_7 (dk_at dksX3_asks_0 11 rfl rfl)
theorem dX3_asks_12 : decode cX3_asks 12 = .ok (.iaload, 1) := dk_46 (dk_at dksX3_asks_0 12 rfl rfl)
theorem dX3_asks_13 : decode cX3_asks 13 = .ok (.if_icmp .ge 61, 3) := dk_162 0 61 (dk_at dksX3_asks_0 13 rfl rfl)
theorem dX3_asks_16 : decode cX3_asks 16 = .ok (.iload_n 3, 1) := dk_29 (dk_at dksX3_asks_0 16 rfl rfl)
theorem dX3_asks_17 : decode cX3_asks 17 = .ok (.aload_n 0, 1) := dk_42 (dk_at dksX3_asks_0 17 rfl rfl)
theorem dX3_asks_18 : decode cX3_asks 18 = .ok (.getfield 40, 3) := dk_180 0 40 (dk_at dksX3_asks_0 18 rfl rfl)
theorem dX3_asks_21 : decode cX3_asks 21 = .ok (.iload 4, 2) := dk_21 4 (dk_at dksX3_asks_0 21 rfl rfl)
theorem dX3_asks_23 : decode cX3_asks 23 = .ok (.iaload, 1) := dk_46 (dk_at dksX3_asks_0 23 rfl rfl)
theorem dX3_asks_24 : decode cX3_asks 24 = .ok (.iload_n 1, 1) := dk_27 (dk_at dksX3_asks_1 0 rfl rfl)
theorem dX3_asks_25 : decode cX3_asks 25 = .ok (.if_icmp .eq 36, 3) := dk_159 0 36 (dk_at dksX3_asks_1 1 rfl rfl)
theorem dX3_asks_28 : decode cX3_asks 28 = .ok (.aload_n 0, 1) := dk_42 (dk_at dksX3_asks_1 4 rfl rfl)
theorem dX3_asks_29 : decode cX3_asks 29 = .ok (.getfield 43, 3) := dk_180 0 43 (dk_at dksX3_asks_1 5 rfl rfl)
theorem dX3_asks_32 : decode cX3_asks 32 = .ok (.iload 4, 2) := dk_21 4 (dk_at dksX3_asks_1 8 rfl rfl)
theorem dX3_asks_34 : decode cX3_asks 34 = .ok (.iaload, 1) := dk_46 (dk_at dksX3_asks_1 10 rfl rfl)
theorem dX3_asks_35 : decode cX3_asks 35 = .ok (.iload_n 1, 1) := dk_27 (dk_at dksX3_asks_1 11 rfl rfl)
theorem dX3_asks_36 : decode cX3_asks 36 = .ok (.if_icmp .eq 25, 3) := dk_159 0 25 (dk_at dksX3_asks_1 12 rfl rfl)
theorem dX3_asks_39 : decode cX3_asks 39 = .ok (.aload_n 0, 1) := dk_42 (dk_at dksX3_asks_1 15 rfl rfl)
theorem dX3_asks_40 : decode cX3_asks 40 = .ok (.getfield 40, 3) := dk_180 0 40 (dk_at dksX3_asks_1 16 rfl rfl)
theorem dX3_asks_43 : decode cX3_asks 43 = .ok (.iload 4, 2) := dk_21 4 (dk_at dksX3_asks_1 19 rfl rfl)
theorem dX3_asks_45 : decode cX3_asks 45 = .ok (.iaload, 1) := dk_46 (dk_at dksX3_asks_1 21 rfl rfl)
theorem dX3_asks_46 : decode cX3_asks 46 = .ok (.iload_n 2, 1) := dk_28 (dk_at dksX3_asks_1 22 rfl rfl)
theorem dX3_asks_47 : decode cX3_asks 47 = .ok (.if_icmp .eq 14, 3) := dk_159 0 14 (dk_at dksX3_asks_2 0 rfl rfl)
theorem dX3_asks_50 : decode cX3_asks 50 = .ok (.aload_n 0, 1) := dk_42 (dk_at dksX3_asks_2 3 rfl rfl)
theorem dX3_asks_51 : decode cX3_asks 51 = .ok (.getfield 43, 3) := dk_180 0 43 (dk_at dksX3_asks_2 4 rfl rfl)
theorem dX3_asks_54 : decode cX3_asks 54 = .ok (.iload 4, 2) := dk_21 4 (dk_at dksX3_asks_2 7 rfl rfl)
theorem dX3_asks_56 : decode cX3_asks 56 = .ok (.iaload, 1) := dk_46 (dk_at dksX3_asks_2 9 rfl rfl)
theorem dX3_asks_57 : decode cX3_asks 57 = .ok (.iload_n 2, 1) := dk_28 (dk_at dksX3_asks_2 10 rfl rfl)
theorem dX3_asks_58 : decode cX3_asks 58 = .ok (.if_icmp .ne 7, 3) := dk_160 0 7 (dk_at dksX3_asks_2 11 rfl rfl)
theorem dX3_asks_61 : decode cX3_asks 61 = .ok (.iconst 1, 1) := dk_4 (dk_at dksX3_asks_2 14 rfl rfl)
theorem dX3_asks_62 : decode cX3_asks 62 = .ok (.goto 4, 3) := dk_167 0 4 (dk_at dksX3_asks_2 15 rfl rfl)
theorem dX3_asks_65 : decode cX3_asks 65 = .ok (.iconst 0, 1) := dk_3 (dk_at dksX3_asks_2 18 rfl rfl)
theorem dX3_asks_66 : decode cX3_asks 66 = .ok (.iadd, 1) := dk_96 (dk_at dksX3_asks_2 19 rfl rfl)
theorem dX3_asks_67 : decode cX3_asks 67 = .ok (.istore_n 3, 1) := dk_62 (dk_at dksX3_asks_2 20 rfl rfl)
theorem dX3_asks_68 : decode cX3_asks 68 = .ok (.iinc 4 1, 3) := dk_132 4 1 (dk_at dksX3_asks_2 21 rfl rfl)
theorem dX3_asks_71 : decode cX3_asks 71 = .ok (.goto (-66), 3) := dk_167 255 190 (dk_at dksX3_asks_3 0 rfl rfl)
theorem dX3_asks_74 : decode cX3_asks 74 = .ok (.aload_n 0, 1) := dk_42 (dk_at dksX3_asks_3 3 rfl rfl)
theorem dX3_asks_75 : decode cX3_asks 75 = .ok (.getfield 129, 3) := dk_180 0 129 (dk_at dksX3_asks_3 4 rfl rfl)
theorem dX3_asks_78 : decode cX3_asks 78 = .ok (.iconst 0, 1) := dk_3 (dk_at dksX3_asks_3 7 rfl rfl)
theorem dX3_asks_79 : decode cX3_asks 79 = .ok (.iload_n 1, 1) := dk_27 (dk_at dksX3_asks_3 8 rfl rfl)
theorem dX3_asks_80 : decode cX3_asks 80 = .ok (.i2l, 1) := dk_133 (dk_at dksX3_asks_3 9 rfl rfl)
theorem dX3_asks_81 : decode cX3_asks 81 = .ok (.lastore, 1) := dk_80 (dk_at dksX3_asks_3 10 rfl rfl)
theorem dX3_asks_82 : decode cX3_asks 82 = .ok (.aload_n 0, 1) := dk_42 (dk_at dksX3_asks_3 11 rfl rfl)
theorem dX3_asks_83 : decode cX3_asks 83 = .ok (.getfield 129, 3) := dk_180 0 129 (dk_at dksX3_asks_3 12 rfl rfl)
theorem dX3_asks_86 : decode cX3_asks 86 = .ok (.iconst 1, 1) := dk_4 (dk_at dksX3_asks_3 15 rfl rfl)
theorem dX3_asks_87 : decode cX3_asks 87 = .ok (.iload_n 2, 1) := dk_28 (dk_at dksX3_asks_3 16 rfl rfl)
theorem dX3_asks_88 : decode cX3_asks 88 = .ok (.i2l, 1) := dk_133 (dk_at dksX3_asks_3 17 rfl rfl)
theorem dX3_asks_89 : decode cX3_asks 89 = .ok (.lastore, 1) := dk_80 (dk_at dksX3_asks_3 18 rfl rfl)
theorem dX3_asks_90 : decode cX3_asks 90 = .ok (.aload_n 0, 1) := dk_42 (dk_at dksX3_asks_3 19 rfl rfl)
theorem dX3_asks_91 : decode cX3_asks 91 = .ok (.getfield 129, 3) := dk_180 0 129 (dk_at dksX3_asks_3 20 rfl rfl)
theorem dX3_asks_94 : decode cX3_asks 94 = .ok (.iconst 2, 1) := dk_5 (dk_at dksX3_asks_3 23 rfl rfl)
theorem dX3_asks_95 : decode cX3_asks 95 = .ok (.aload_n 0, 1) := dk_42 (dk_at dksX3_asks_4 0 rfl rfl)
theorem dX3_asks_96 : decode cX3_asks 96 = .ok (.getfield 28, 3) := dk_180 0 28 (dk_at dksX3_asks_4 1 rfl rfl)
theorem dX3_asks_99 : decode cX3_asks 99 = .ok (.iload_n 1, 1) := dk_27 (dk_at dksX3_asks_4 4 rfl rfl)
theorem dX3_asks_100 : decode cX3_asks 100 = .ok (.iaload, 1) := dk_46 (dk_at dksX3_asks_4 5 rfl rfl)
theorem dX3_asks_101 : decode cX3_asks 101 = .ok (.aload_n 0, 1) := dk_42 (dk_at dksX3_asks_4 6 rfl rfl)
theorem dX3_asks_102 : decode cX3_asks 102 = .ok (.getfield 28, 3) := dk_180 0 28 (dk_at dksX3_asks_4 7 rfl rfl)
theorem dX3_asks_105 : decode cX3_asks 105 = .ok (.iload_n 2, 1) := dk_28 (dk_at dksX3_asks_4 10 rfl rfl)
theorem dX3_asks_106 : decode cX3_asks 106 = .ok (.iaload, 1) := dk_46 (dk_at dksX3_asks_4 11 rfl rfl)
theorem dX3_asks_107 : decode cX3_asks 107 = .ok (.iadd, 1) := dk_96 (dk_at dksX3_asks_4 12 rfl rfl)
theorem dX3_asks_108 : decode cX3_asks 108 = .ok (.i2l, 1) := dk_133 (dk_at dksX3_asks_4 13 rfl rfl)
theorem dX3_asks_109 : decode cX3_asks 109 = .ok (.lastore, 1) := dk_80 (dk_at dksX3_asks_4 14 rfl rfl)
theorem dX3_asks_110 : decode cX3_asks 110 = .ok (.aload_n 0, 1) := dk_42 (dk_at dksX3_asks_4 15 rfl rfl)
theorem dX3_asks_111 : decode cX3_asks 111 = .ok (.getfield 129, 3) := dk_180 0 129 (dk_at dksX3_asks_4 16 rfl rfl)
theorem dX3_asks_114 : decode cX3_asks 114 = .ok (.iconst 3, 1) := dk_6 (dk_at dksX3_asks_4 19 rfl rfl)
theorem dX3_asks_115 : decode cX3_asks 115 = .ok (.aload_n 0, 1) := dk_42 (dk_at dksX3_asks_4 20 rfl rfl)
theorem dX3_asks_116 : decode cX3_asks 116 = .ok (.getfield 25, 3) := dk_180 0 25 (dk_at dksX3_asks_4 21 rfl rfl)
theorem dX3_asks_119 : decode cX3_asks 119 = .ok (.iload_n 1, 1) := dk_27 (dk_at dksX3_asks_5 0 rfl rfl)
theorem dX3_asks_120 : decode cX3_asks 120 = .ok (.iaload, 1) := dk_46 (dk_at dksX3_asks_5 1 rfl rfl)
theorem dX3_asks_121 : decode cX3_asks 121 = .ok (.aload_n 0, 1) := dk_42 (dk_at dksX3_asks_5 2 rfl rfl)
theorem dX3_asks_122 : decode cX3_asks 122 = .ok (.getfield 25, 3) := dk_180 0 25 (dk_at dksX3_asks_5 3 rfl rfl)
theorem dX3_asks_125 : decode cX3_asks 125 = .ok (.iload_n 2, 1) := dk_28 (dk_at dksX3_asks_5 6 rfl rfl)
theorem dX3_asks_126 : decode cX3_asks 126 = .ok (.iaload, 1) := dk_46 (dk_at dksX3_asks_5 7 rfl rfl)
theorem dX3_asks_127 : decode cX3_asks 127 = .ok (.iadd, 1) := dk_96 (dk_at dksX3_asks_5 8 rfl rfl)
theorem dX3_asks_128 : decode cX3_asks 128 = .ok (.i2l, 1) := dk_133 (dk_at dksX3_asks_5 9 rfl rfl)
theorem dX3_asks_129 : decode cX3_asks 129 = .ok (.lastore, 1) := dk_80 (dk_at dksX3_asks_5 10 rfl rfl)
theorem dX3_asks_130 : decode cX3_asks 130 = .ok (.aload_n 0, 1) := dk_42 (dk_at dksX3_asks_5 11 rfl rfl)
theorem dX3_asks_131 : decode cX3_asks 131 = .ok (.getfield 129, 3) := dk_180 0 129 (dk_at dksX3_asks_5 12 rfl rfl)
theorem dX3_asks_134 : decode cX3_asks 134 = .ok (.iconst 4, 1) := dk_7 (dk_at dksX3_asks_5 15 rfl rfl)
theorem dX3_asks_135 : decode cX3_asks 135 = .ok (.aload_n 0, 1) := dk_42 (dk_at dksX3_asks_5 16 rfl rfl)
theorem dX3_asks_136 : decode cX3_asks 136 = .ok (.getfield 31, 3) := dk_180 0 31 (dk_at dksX3_asks_5 17 rfl rfl)
theorem dX3_asks_139 : decode cX3_asks 139 = .ok (.iload_n 1, 1) := dk_27 (dk_at dksX3_asks_5 20 rfl rfl)
theorem dX3_asks_140 : decode cX3_asks 140 = .ok (.iaload, 1) := dk_46 (dk_at dksX3_asks_5 21 rfl rfl)
theorem dX3_asks_141 : decode cX3_asks 141 = .ok (.aload_n 0, 1) := dk_42 (dk_at dksX3_asks_5 22 rfl rfl)
theorem dX3_asks_142 : decode cX3_asks 142 = .ok (.getfield 31, 3) := dk_180 0 31 (dk_at dksX3_asks_6 0 rfl rfl)
theorem dX3_asks_145 : decode cX3_asks 145 = .ok (.iload_n 2, 1) := dk_28 (dk_at dksX3_asks_6 3 rfl rfl)
theorem dX3_asks_146 : decode cX3_asks 146 = .ok (.iaload, 1) := dk_46 (dk_at dksX3_asks_6 4 rfl rfl)
theorem dX3_asks_147 : decode cX3_asks 147 = .ok (.iadd, 1) := dk_96 (dk_at dksX3_asks_6 5 rfl rfl)
theorem dX3_asks_148 : decode cX3_asks 148 = .ok (.i2l, 1) := dk_133 (dk_at dksX3_asks_6 6 rfl rfl)
theorem dX3_asks_149 : decode cX3_asks 149 = .ok (.lastore, 1) := dk_80 (dk_at dksX3_asks_6 7 rfl rfl)
theorem dX3_asks_150 : decode cX3_asks 150 = .ok (.aload_n 0, 1) := dk_42 (dk_at dksX3_asks_6 8 rfl rfl)
theorem dX3_asks_151 : decode cX3_asks 151 = .ok (.getfield 129, 3) := dk_180 0 129 (dk_at dksX3_asks_6 9 rfl rfl)
theorem dX3_asks_154 : decode cX3_asks 154 = .ok (.iconst 5, 1) := dk_8 (dk_at dksX3_asks_6 12 rfl rfl)
theorem dX3_asks_155 : decode cX3_asks 155 = .ok (.aload_n 0, 1) := dk_42 (dk_at dksX3_asks_6 13 rfl rfl)
theorem dX3_asks_156 : decode cX3_asks 156 = .ok (.getfield 22, 3) := dk_180 0 22 (dk_at dksX3_asks_6 14 rfl rfl)
theorem dX3_asks_159 : decode cX3_asks 159 = .ok (.iload_n 1, 1) := dk_27 (dk_at dksX3_asks_6 17 rfl rfl)
theorem dX3_asks_160 : decode cX3_asks 160 = .ok (.iaload, 1) := dk_46 (dk_at dksX3_asks_6 18 rfl rfl)
theorem dX3_asks_161 : decode cX3_asks 161 = .ok (.aload_n 0, 1) := dk_42 (dk_at dksX3_asks_6 19 rfl rfl)
theorem dX3_asks_162 : decode cX3_asks 162 = .ok (.getfield 22, 3) := dk_180 0 22 (dk_at dksX3_asks_6 20 rfl rfl)
theorem dX3_asks_165 : decode cX3_asks 165 = .ok (.iload_n 2, 1) := dk_28 (dk_at dksX3_asks_6 23 rfl rfl)
theorem dX3_asks_166 : decode cX3_asks 166 = .ok (.iaload, 1) := dk_46 (dk_at dksX3_asks_7 0 rfl rfl)
theorem dX3_asks_167 : decode cX3_asks 167 = .ok (.if_icmp .ne 7, 3) := dk_160 0 7 (dk_at dksX3_asks_7 1 rfl rfl)
theorem dX3_asks_170 : decode cX3_asks 170 = .ok (.lconst 1, 1) := dk_10 (dk_at dksX3_asks_7 4 rfl rfl)
theorem dX3_asks_171 : decode cX3_asks 171 = .ok (.goto 4, 3) := dk_167 0 4 (dk_at dksX3_asks_7 5 rfl rfl)
theorem dX3_asks_174 : decode cX3_asks 174 = .ok (.lconst 0, 1) := dk_9 (dk_at dksX3_asks_7 8 rfl rfl)
theorem dX3_asks_175 : decode cX3_asks 175 = .ok (.lastore, 1) := dk_80 (dk_at dksX3_asks_7 9 rfl rfl)
theorem dX3_asks_176 : decode cX3_asks 176 = .ok (.aload_n 0, 1) := dk_42 (dk_at dksX3_asks_7 10 rfl rfl)
theorem dX3_asks_177 : decode cX3_asks 177 = .ok (.getfield 129, 3) := dk_180 0 129 (dk_at dksX3_asks_7 11 rfl rfl)
theorem dX3_asks_180 : decode cX3_asks 180 = .ok (.bipush 6, 2) := dk_16 6 (dk_at dksX3_asks_7 14 rfl rfl)
theorem dX3_asks_182 : decode cX3_asks 182 = .ok (.aload_n 0, 1) := dk_42 (dk_at dksX3_asks_7 16 rfl rfl)
theorem dX3_asks_183 : decode cX3_asks 183 = .ok (.iload_n 1, 1) := dk_27 (dk_at dksX3_asks_7 17 rfl rfl)
theorem dX3_asks_184 : decode cX3_asks 184 = .ok (.invokevirtual 424, 3) := dk_182 1 168 (dk_at dksX3_asks_7 18 rfl rfl)
theorem dX3_asks_187 : decode cX3_asks 187 = .ok (.iload_n 2, 1) := dk_28 (dk_at dksX3_asks_7 21 rfl rfl)
theorem dX3_asks_188 : decode cX3_asks 188 = .ok (.invokestatic 390, 3) := dk_184 1 134 (dk_at dksX3_asks_8 0 rfl rfl)
theorem dX3_asks_191 : decode cX3_asks 191 = .ok (.ifCond .eq 7, 3) := dk_153 0 7 (dk_at dksX3_asks_8 3 rfl rfl)
theorem dX3_asks_194 : decode cX3_asks 194 = .ok (.lconst 0, 1) := dk_9 (dk_at dksX3_asks_8 6 rfl rfl)
theorem dX3_asks_195 : decode cX3_asks 195 = .ok (.goto 4, 3) := dk_167 0 4 (dk_at dksX3_asks_8 7 rfl rfl)
theorem dX3_asks_198 : decode cX3_asks 198 = .ok (.lconst 1, 1) := dk_10 (dk_at dksX3_asks_8 10 rfl rfl)
theorem dX3_asks_199 : decode cX3_asks 199 = .ok (.lastore, 1) := dk_80 (dk_at dksX3_asks_8 11 rfl rfl)
theorem dX3_asks_200 : decode cX3_asks 200 = .ok (.aload_n 0, 1) := dk_42 (dk_at dksX3_asks_8 12 rfl rfl)
theorem dX3_asks_201 : decode cX3_asks 201 = .ok (.getfield 129, 3) := dk_180 0 129 (dk_at dksX3_asks_8 13 rfl rfl)
theorem dX3_asks_204 : decode cX3_asks 204 = .ok (.bipush 7, 2) := dk_16 7 (dk_at dksX3_asks_8 16 rfl rfl)
theorem dX3_asks_206 : decode cX3_asks 206 = .ok (.iload_n 3, 1) := dk_29 (dk_at dksX3_asks_8 18 rfl rfl)
theorem dX3_asks_207 : decode cX3_asks 207 = .ok (.i2l, 1) := dk_133 (dk_at dksX3_asks_8 19 rfl rfl)
theorem dX3_asks_208 : decode cX3_asks 208 = .ok (.lastore, 1) := dk_80 (dk_at dksX3_asks_8 20 rfl rfl)
theorem dX3_asks_209 : decode cX3_asks 209 = .ok (.aload_n 0, 1) := dk_42 (dk_at dksX3_asks_8 21 rfl rfl)
theorem dX3_asks_210 : decode cX3_asks 210 = .ok (.getfield 129, 3) := dk_180 0 129 (dk_at dksX3_asks_9 0 rfl rfl)
theorem dX3_asks_213 : decode cX3_asks 213 = .ok (.bipush 8, 2) := dk_16 8 (dk_at dksX3_asks_9 3 rfl rfl)
theorem dX3_asks_215 : decode cX3_asks 215 = .ok (.aload_n 0, 1) := dk_42 (dk_at dksX3_asks_9 5 rfl rfl)
theorem dX3_asks_216 : decode cX3_asks 216 = .ok (.getfield 9, 3) := dk_180 0 9 (dk_at dksX3_asks_9 6 rfl rfl)
theorem dX3_asks_219 : decode cX3_asks 219 = .ok (.iconst 1, 1) := dk_4 (dk_at dksX3_asks_9 9 rfl rfl)
theorem dX3_asks_220 : decode cX3_asks 220 = .ok (.iaload, 1) := dk_46 (dk_at dksX3_asks_9 10 rfl rfl)
theorem dX3_asks_221 : decode cX3_asks 221 = .ok (.i2l, 1) := dk_133 (dk_at dksX3_asks_9 11 rfl rfl)
theorem dX3_asks_222 : decode cX3_asks 222 = .ok (.lastore, 1) := dk_80 (dk_at dksX3_asks_9 12 rfl rfl)
theorem dX3_asks_223 : decode cX3_asks 223 = .ok (.aload_n 0, 1) := dk_42 (dk_at dksX3_asks_9 13 rfl rfl)
theorem dX3_asks_224 : decode cX3_asks 224 = .ok (.getfield 129, 3) := dk_180 0 129 (dk_at dksX3_asks_9 14 rfl rfl)
theorem dX3_asks_227 : decode cX3_asks 227 = .ok (.bipush 9, 2) := dk_16 9 (dk_at dksX3_asks_9 17 rfl rfl)
theorem dX3_asks_229 : decode cX3_asks 229 = .ok (.aload_n 0, 1) := dk_42 (dk_at dksX3_asks_9 19 rfl rfl)
theorem dX3_asks_230 : decode cX3_asks 230 = .ok (.getfield 9, 3) := dk_180 0 9 (dk_at dksX3_asks_9 20 rfl rfl)
theorem dX3_asks_233 : decode cX3_asks 233 = .ok (.bipush 6, 2) := dk_16 6 (dk_at dksX3_asks_10 0 rfl rfl)
theorem dX3_asks_235 : decode cX3_asks 235 = .ok (.iaload, 1) := dk_46 (dk_at dksX3_asks_10 2 rfl rfl)
theorem dX3_asks_236 : decode cX3_asks 236 = .ok (.i2l, 1) := dk_133 (dk_at dksX3_asks_10 3 rfl rfl)
theorem dX3_asks_237 : decode cX3_asks 237 = .ok (.lastore, 1) := dk_80 (dk_at dksX3_asks_10 4 rfl rfl)
theorem dX3_asks_238 : decode cX3_asks 238 = .ok (.aload_n 0, 1) := dk_42 (dk_at dksX3_asks_10 5 rfl rfl)
theorem dX3_asks_239 : decode cX3_asks 239 = .ok (.getfield 129, 3) := dk_180 0 129 (dk_at dksX3_asks_10 6 rfl rfl)
theorem dX3_asks_242 : decode cX3_asks 242 = .ok (.bipush 10, 2) := dk_16 10 (dk_at dksX3_asks_10 9 rfl rfl)
theorem dX3_asks_244 : decode cX3_asks 244 = .ok (.aload_n 0, 1) := dk_42 (dk_at dksX3_asks_10 11 rfl rfl)
theorem dX3_asks_245 : decode cX3_asks 245 = .ok (.getfield 13, 3) := dk_180 0 13 (dk_at dksX3_asks_10 12 rfl rfl)
theorem dX3_asks_248 : decode cX3_asks 248 = .ok (.aload_n 0, 1) := dk_42 (dk_at dksX3_asks_10 15 rfl rfl)
theorem dX3_asks_249 : decode cX3_asks 249 = .ok (.getfield 22, 3) := dk_180 0 22 (dk_at dksX3_asks_10 16 rfl rfl)
theorem dX3_asks_252 : decode cX3_asks 252 = .ok (.iload_n 1, 1) := dk_27 (dk_at dksX3_asks_10 19 rfl rfl)
theorem dX3_asks_253 : decode cX3_asks 253 = .ok (.iaload, 1) := dk_46 (dk_at dksX3_asks_10 20 rfl rfl)
theorem dX3_asks_254 : decode cX3_asks 254 = .ok (.iaload, 1) := dk_46 (dk_at dksX3_asks_10 21 rfl rfl)
theorem dX3_asks_255 : decode cX3_asks 255 = .ok (.aload_n 0, 1) := dk_42 (dk_at dksX3_asks_10 22 rfl rfl)
theorem dX3_asks_256 : decode cX3_asks 256 = .ok (.getfield 13, 3) := dk_180 0 13 (dk_at dksX3_asks_11 0 rfl rfl)
theorem dX3_asks_259 : decode cX3_asks 259 = .ok (.aload_n 0, 1) := dk_42 (dk_at dksX3_asks_11 3 rfl rfl)
theorem dX3_asks_260 : decode cX3_asks 260 = .ok (.getfield 22, 3) := dk_180 0 22 (dk_at dksX3_asks_11 4 rfl rfl)
theorem dX3_asks_263 : decode cX3_asks 263 = .ok (.iload_n 2, 1) := dk_28 (dk_at dksX3_asks_11 7 rfl rfl)
theorem dX3_asks_264 : decode cX3_asks 264 = .ok (.iaload, 1) := dk_46 (dk_at dksX3_asks_11 8 rfl rfl)
theorem dX3_asks_265 : decode cX3_asks 265 = .ok (.iaload, 1) := dk_46 (dk_at dksX3_asks_11 9 rfl rfl)
theorem dX3_asks_266 : decode cX3_asks 266 = .ok (.if_icmp .ge 18, 3) := dk_162 0 18 (dk_at dksX3_asks_11 10 rfl rfl)
theorem dX3_asks_269 : decode cX3_asks 269 = .ok (.aload_n 0, 1) := dk_42 (dk_at dksX3_asks_11 13 rfl rfl)
theorem dX3_asks_270 : decode cX3_asks 270 = .ok (.getfield 13, 3) := dk_180 0 13 (dk_at dksX3_asks_11 14 rfl rfl)
theorem dX3_asks_273 : decode cX3_asks 273 = .ok (.aload_n 0, 1) := dk_42 (dk_at dksX3_asks_11 17 rfl rfl)
theorem dX3_asks_274 : decode cX3_asks 274 = .ok (.getfield 22, 3) := dk_180 0 22 (dk_at dksX3_asks_11 18 rfl rfl)
theorem dX3_asks_277 : decode cX3_asks 277 = .ok (.iload_n 1, 1) := dk_27 (dk_at dksX3_asks_11 21 rfl rfl)
theorem dX3_asks_278 : decode cX3_asks 278 = .ok (.iaload, 1) := dk_46 (dk_at dksX3_asks_11 22 rfl rfl)
theorem dX3_asks_279 : decode cX3_asks 279 = .ok (.iaload, 1) := dk_46 (dk_at dksX3_asks_11 23 rfl rfl)
theorem dX3_asks_280 : decode cX3_asks 280 = .ok (.i2l, 1) := dk_133 (dk_at dksX3_asks_12 0 rfl rfl)
theorem dX3_asks_281 : decode cX3_asks 281 = .ok (.goto 15, 3) := dk_167 0 15 (dk_at dksX3_asks_12 1 rfl rfl)
theorem dX3_asks_284 : decode cX3_asks 284 = .ok (.aload_n 0, 1) := dk_42 (dk_at dksX3_asks_12 4 rfl rfl)
theorem dX3_asks_285 : decode cX3_asks 285 = .ok (.getfield 13, 3) := dk_180 0 13 (dk_at dksX3_asks_12 5 rfl rfl)
theorem dX3_asks_288 : decode cX3_asks 288 = .ok (.aload_n 0, 1) := dk_42 (dk_at dksX3_asks_12 8 rfl rfl)
theorem dX3_asks_289 : decode cX3_asks 289 = .ok (.getfield 22, 3) := dk_180 0 22 (dk_at dksX3_asks_12 9 rfl rfl)
theorem dX3_asks_292 : decode cX3_asks 292 = .ok (.iload_n 2, 1) := dk_28 (dk_at dksX3_asks_12 12 rfl rfl)
theorem dX3_asks_293 : decode cX3_asks 293 = .ok (.iaload, 1) := dk_46 (dk_at dksX3_asks_12 13 rfl rfl)
theorem dX3_asks_294 : decode cX3_asks 294 = .ok (.iaload, 1) := dk_46 (dk_at dksX3_asks_12 14 rfl rfl)
theorem dX3_asks_295 : decode cX3_asks 295 = .ok (.i2l, 1) := dk_133 (dk_at dksX3_asks_12 15 rfl rfl)
theorem dX3_asks_296 : decode cX3_asks 296 = .ok (.lastore, 1) := dk_80 (dk_at dksX3_asks_12 16 rfl rfl)
theorem dX3_asks_297 : decode cX3_asks 297 = .ok (.aload_n 0, 1) := dk_42 (dk_at dksX3_asks_12 17 rfl rfl)
theorem dX3_asks_298 : decode cX3_asks 298 = .ok (.getfield 129, 3) := dk_180 0 129 (dk_at dksX3_asks_12 18 rfl rfl)
theorem dX3_asks_301 : decode cX3_asks 301 = .ok (.bipush 11, 2) := dk_16 11 (dk_at dksX3_asks_12 21 rfl rfl)
theorem dX3_asks_303 : decode cX3_asks 303 = .ok (.aload_n 0, 1) := dk_42 (dk_at dksX3_asks_12 23 rfl rfl)
theorem dX3_asks_304 : decode cX3_asks 304 = .ok (.invokevirtual 393, 3) := dk_182 1 137 (dk_at dksX3_asks_13 0 rfl rfl)
theorem dX3_asks_307 : decode cX3_asks 307 = .ok (.invokestatic 460, 3) := dk_184 1 204 (dk_at dksX3_asks_13 3 rfl rfl)
theorem dX3_asks_310 : decode cX3_asks 310 = .ok (.i2l, 1) := dk_133 (dk_at dksX3_asks_13 6 rfl rfl)
theorem dX3_asks_311 : decode cX3_asks 311 = .ok (.lastore, 1) := dk_80 (dk_at dksX3_asks_13 7 rfl rfl)
theorem dX3_asks_312 : decode cX3_asks 312 = .ok (.return_, 1) := dk_177 (dk_at dksX3_asks_13 8 rfl rfl)
abbrev cX3_wanted : ByteArray := prog_17_method_49_code
def yX3_wanted : MethodName := ⟨RX3, "wanted", "(I)J"⟩
def dkwX3_wanted_3 : List UInt8 := [182, 1, 122, 173, 132, 2, 1, 167, 255, 183, 9, 173]
abbrev dktX3_wanted_3 : List UInt8 := dkwX3_wanted_3 ++ []
def dkwX3_wanted_2 : List UInt8 := [46, 182, 1, 122, 10, 148, 154, 0, 21, 42, 27, 42, 180, 0, 117, 28, 46, 42, 180, 0, 120, 28, 46]
abbrev dktX3_wanted_2 : List UInt8 := dkwX3_wanted_2 ++ dktX3_wanted_3
def dkwX3_wanted_1 : List UInt8 := [28, 46, 42, 180, 0, 123, 28, 46, 159, 0, 25, 42, 27, 42, 180, 0, 120, 28, 46, 42, 180, 0, 123, 28]
abbrev dktX3_wanted_1 : List UInt8 := dkwX3_wanted_1 ++ dktX3_wanted_2
def dkwX3_wanted_0 : List UInt8 := [16, 12, 27, 104, 61, 28, 16, 12, 27, 104, 42, 180, 0, 114, 27, 46, 96, 162, 0, 64, 42, 180, 0, 120]
abbrev dktX3_wanted_0 : List UInt8 := dkwX3_wanted_0 ++ dktX3_wanted_1
theorem dksX3_wanted_0 : cX3_wanted.data.toList.drop 0 = dktX3_wanted_0 := by decide +kernel
theorem dksX3_wanted_1 : cX3_wanted.data.toList.drop 24 = dktX3_wanted_1 := dk_seg dksX3_wanted_0 24 rfl rfl
theorem dksX3_wanted_2 : cX3_wanted.data.toList.drop 48 = dktX3_wanted_2 := dk_seg dksX3_wanted_1 24 rfl rfl
theorem dksX3_wanted_3 : cX3_wanted.data.toList.drop 71 = dktX3_wanted_3 := dk_seg dksX3_wanted_2 23 rfl rfl
theorem dX3_wanted_0 : decode cX3_wanted 0 = .ok (.bipush 12, 2) := dk_16 12 (dk_at dksX3_wanted_0 0 rfl rfl)
theorem dX3_wanted_2 : decode cX3_wanted 2 = .ok (.iload_n 1, 1) := dk_27 (dk_at dksX3_wanted_0 2 rfl rfl)
theorem dX3_wanted_3 : decode cX3_wanted 3 = .ok (.imul, 1) := dk_104 (dk_at dksX3_wanted_0 3 rfl rfl)
theorem dX3_wanted_4 : decode cX3_wanted 4 = .ok (.istore_n 2, 1) := dk_61 (dk_at dksX3_wanted_0 4 rfl rfl)
theorem dX3_wanted_5 : decode cX3_wanted 5 = .ok (.iload_n 2, 1) := dk_28 (dk_at dksX3_wanted_0 5 rfl rfl)
theorem dX3_wanted_6 : decode cX3_wanted 6 = .ok (.bipush 12, 2) := dk_16 12 (dk_at dksX3_wanted_0 6 rfl rfl)
theorem dX3_wanted_8 : decode cX3_wanted 8 = .ok (.iload_n 1, 1) := dk_27 (dk_at dksX3_wanted_0 8 rfl rfl)
theorem dX3_wanted_9 : decode cX3_wanted 9 = .ok (.imul, 1) := dk_104 (dk_at dksX3_wanted_0 9 rfl rfl)
theorem dX3_wanted_10 : decode cX3_wanted 10 = .ok (.aload_n 0, 1) := dk_42 (dk_at dksX3_wanted_0 10 rfl rfl)
theorem dX3_wanted_11 : decode cX3_wanted 11 = .ok (.getfield 114, 3) := dk_180 0 114 (dk_at dksX3_wanted_0 11 rfl rfl)
theorem dX3_wanted_14 : decode cX3_wanted 14 = .ok (.iload_n 1, 1) := dk_27 (dk_at dksX3_wanted_0 14 rfl rfl)
theorem dX3_wanted_15 : decode cX3_wanted 15 = .ok (.iaload, 1) := dk_46 (dk_at dksX3_wanted_0 15 rfl rfl)
theorem dX3_wanted_16 : decode cX3_wanted 16 = .ok (.iadd, 1) := dk_96 (dk_at dksX3_wanted_0 16 rfl rfl)
theorem dX3_wanted_17 : decode cX3_wanted 17 = .ok (.if_icmp .ge 64, 3) := dk_162 0 64 (dk_at dksX3_wanted_0 17 rfl rfl)
theorem dX3_wanted_20 : decode cX3_wanted 20 = .ok (.aload_n 0, 1) := dk_42 (dk_at dksX3_wanted_0 20 rfl rfl)
theorem dX3_wanted_21 : decode cX3_wanted 21 = .ok (.getfield 120, 3) := dk_180 0 120 (dk_at dksX3_wanted_0 21 rfl rfl)
theorem dX3_wanted_24 : decode cX3_wanted 24 = .ok (.iload_n 2, 1) := dk_28 (dk_at dksX3_wanted_1 0 rfl rfl)
theorem dX3_wanted_25 : decode cX3_wanted 25 = .ok (.iaload, 1) := dk_46 (dk_at dksX3_wanted_1 1 rfl rfl)
theorem dX3_wanted_26 : decode cX3_wanted 26 = .ok (.aload_n 0, 1) := dk_42 (dk_at dksX3_wanted_1 2 rfl rfl)
theorem dX3_wanted_27 : decode cX3_wanted 27 = .ok (.getfield 123, 3) := dk_180 0 123 (dk_at dksX3_wanted_1 3 rfl rfl)
theorem dX3_wanted_30 : decode cX3_wanted 30 = .ok (.iload_n 2, 1) := dk_28 (dk_at dksX3_wanted_1 6 rfl rfl)
theorem dX3_wanted_31 : decode cX3_wanted 31 = .ok (.iaload, 1) := dk_46 (dk_at dksX3_wanted_1 7 rfl rfl)
theorem dX3_wanted_32 : decode cX3_wanted 32 = .ok (.if_icmp .eq 25, 3) := dk_159 0 25 (dk_at dksX3_wanted_1 8 rfl rfl)
theorem dX3_wanted_35 : decode cX3_wanted 35 = .ok (.aload_n 0, 1) := dk_42 (dk_at dksX3_wanted_1 11 rfl rfl)
theorem dX3_wanted_36 : decode cX3_wanted 36 = .ok (.iload_n 1, 1) := dk_27 (dk_at dksX3_wanted_1 12 rfl rfl)
theorem dX3_wanted_37 : decode cX3_wanted 37 = .ok (.aload_n 0, 1) := dk_42 (dk_at dksX3_wanted_1 13 rfl rfl)
theorem dX3_wanted_38 : decode cX3_wanted 38 = .ok (.getfield 120, 3) := dk_180 0 120 (dk_at dksX3_wanted_1 14 rfl rfl)
theorem dX3_wanted_41 : decode cX3_wanted 41 = .ok (.iload_n 2, 1) := dk_28 (dk_at dksX3_wanted_1 17 rfl rfl)
theorem dX3_wanted_42 : decode cX3_wanted 42 = .ok (.iaload, 1) := dk_46 (dk_at dksX3_wanted_1 18 rfl rfl)
theorem dX3_wanted_43 : decode cX3_wanted 43 = .ok (.aload_n 0, 1) := dk_42 (dk_at dksX3_wanted_1 19 rfl rfl)
theorem dX3_wanted_44 : decode cX3_wanted 44 = .ok (.getfield 123, 3) := dk_180 0 123 (dk_at dksX3_wanted_1 20 rfl rfl)
theorem dX3_wanted_47 : decode cX3_wanted 47 = .ok (.iload_n 2, 1) := dk_28 (dk_at dksX3_wanted_1 23 rfl rfl)
theorem dX3_wanted_48 : decode cX3_wanted 48 = .ok (.iaload, 1) := dk_46 (dk_at dksX3_wanted_2 0 rfl rfl)
theorem dX3_wanted_49 : decode cX3_wanted 49 = .ok (.invokevirtual 378, 3) := dk_182 1 122 (dk_at dksX3_wanted_2 1 rfl rfl)
theorem dX3_wanted_52 : decode cX3_wanted 52 = .ok (.lconst 1, 1) := dk_10 (dk_at dksX3_wanted_2 4 rfl rfl)
theorem dX3_wanted_53 : decode cX3_wanted 53 = .ok (.lcmp, 1) := dk_148 (dk_at dksX3_wanted_2 5 rfl rfl)
theorem dX3_wanted_54 : decode cX3_wanted 54 = .ok (.ifCond .ne 21, 3) := dk_154 0 21 (dk_at dksX3_wanted_2 6 rfl rfl)
theorem dX3_wanted_57 : decode cX3_wanted 57 = .ok (.aload_n 0, 1) := dk_42 (dk_at dksX3_wanted_2 9 rfl rfl)
theorem dX3_wanted_58 : decode cX3_wanted 58 = .ok (.iload_n 1, 1) := dk_27 (dk_at dksX3_wanted_2 10 rfl rfl)
theorem dX3_wanted_59 : decode cX3_wanted 59 = .ok (.aload_n 0, 1) := dk_42 (dk_at dksX3_wanted_2 11 rfl rfl)
theorem dX3_wanted_60 : decode cX3_wanted 60 = .ok (.getfield 117, 3) := dk_180 0 117 (dk_at dksX3_wanted_2 12 rfl rfl)
theorem dX3_wanted_63 : decode cX3_wanted 63 = .ok (.iload_n 2, 1) := dk_28 (dk_at dksX3_wanted_2 15 rfl rfl)
theorem dX3_wanted_64 : decode cX3_wanted 64 = .ok (.iaload, 1) := dk_46 (dk_at dksX3_wanted_2 16 rfl rfl)
theorem dX3_wanted_65 : decode cX3_wanted 65 = .ok (.aload_n 0, 1) := dk_42 (dk_at dksX3_wanted_2 17 rfl rfl)
theorem dX3_wanted_66 : decode cX3_wanted 66 = .ok (.getfield 120, 3) := dk_180 0 120 (dk_at dksX3_wanted_2 18 rfl rfl)
theorem dX3_wanted_69 : decode cX3_wanted 69 = .ok (.iload_n 2, 1) := dk_28 (dk_at dksX3_wanted_2 21 rfl rfl)
theorem dX3_wanted_70 : decode cX3_wanted 70 = .ok (.iaload, 1) := dk_46 (dk_at dksX3_wanted_2 22 rfl rfl)
theorem dX3_wanted_71 : decode cX3_wanted 71 = .ok (.invokevirtual 378, 3) := dk_182 1 122 (dk_at dksX3_wanted_3 0 rfl rfl)
theorem dX3_wanted_74 : decode cX3_wanted 74 = .ok (.lreturn, 1) := dk_173 (dk_at dksX3_wanted_3 3 rfl rfl)
theorem dX3_wanted_75 : decode cX3_wanted 75 = .ok (.iinc 2 1, 3) := dk_132 2 1 (dk_at dksX3_wanted_3 4 rfl rfl)
theorem dX3_wanted_78 : decode cX3_wanted 78 = .ok (.goto (-73), 3) := dk_167 255 183 (dk_at dksX3_wanted_3 7 rfl rfl)
theorem dX3_wanted_81 : decode cX3_wanted 81 = .ok (.lconst 0, 1) := dk_9 (dk_at dksX3_wanted_3 10 rfl rfl)
theorem dX3_wanted_82 : decode cX3_wanted 82 = .ok (.lreturn, 1) := dk_173 (dk_at dksX3_wanted_3 11 rfl rfl)
abbrev cX3_answer : ByteArray := prog_17_method_53_code
def yX3_answer : MethodName := ⟨RX3, "answer", "(III)J"⟩
def dkwX3_answer_6 : List UInt8 := [47, 184, 1, 130, 80, 132, 5, 1, 167, 255, 112, 42, 180, 0, 133, 3, 47, 173]
abbrev dktX3_answer_6 : List UInt8 := dkwX3_answer_6 ++ []
def dkwX3_answer_5 : List UInt8 := [180, 0, 133, 21, 4, 4, 100, 21, 6, 42, 180, 0, 133, 21, 4, 4, 100, 47, 42, 180, 0, 133, 21, 4]
abbrev dktX3_answer_5 : List UInt8 := dkwX3_answer_5 ++ dktX3_answer_6
def dkwX3_answer_4 : List UInt8 := [21, 4, 4, 100, 10, 42, 180, 0, 133, 21, 4, 4, 100, 47, 101, 80, 167, 0, 36, 132, 4, 255, 42]
abbrev dktX3_answer_4 : List UInt8 := dkwX3_answer_4 ++ dktX3_answer_5
def dkwX3_answer_3 : List UInt8 := [180, 0, 129, 21, 7, 47, 80, 132, 4, 1, 167, 0, 66, 21, 6, 16, 9, 160, 0, 26, 42, 180, 0, 133]
abbrev dktX3_answer_3 : List UInt8 := dkwX3_answer_3 ++ dktX3_answer_4
def dkwX3_answer_2 : List UInt8 := [21, 6, 4, 160, 0, 34, 42, 180, 0, 133, 21, 4, 21, 6, 154, 0, 9, 21, 7, 133, 167, 0, 10, 42]
abbrev dktX3_answer_2 : List UInt8 := dkwX3_answer_2 ++ dktX3_answer_3
def dkwX3_answer_1 : List UInt8 := [46, 54, 6, 42, 180, 0, 111, 17, 1, 44, 27, 104, 21, 5, 96, 46, 54, 7, 21, 6, 153, 0, 9]
abbrev dktX3_answer_1 : List UInt8 := dkwX3_answer_1 ++ dktX3_answer_2
def dkwX3_answer_0 : List UInt8 := [3, 54, 4, 28, 54, 5, 21, 5, 29, 162, 0, 144, 42, 180, 0, 108, 17, 1, 44, 27, 104, 21, 5, 96]
abbrev dktX3_answer_0 : List UInt8 := dkwX3_answer_0 ++ dktX3_answer_1
theorem dksX3_answer_0 : cX3_answer.data.toList.drop 0 = dktX3_answer_0 := by decide +kernel
theorem dksX3_answer_1 : cX3_answer.data.toList.drop 24 = dktX3_answer_1 := dk_seg dksX3_answer_0 24 rfl rfl
theorem dksX3_answer_2 : cX3_answer.data.toList.drop 47 = dktX3_answer_2 := dk_seg dksX3_answer_1 23 rfl rfl
theorem dksX3_answer_3 : cX3_answer.data.toList.drop 71 = dktX3_answer_3 := dk_seg dksX3_answer_2 24 rfl rfl
theorem dksX3_answer_4 : cX3_answer.data.toList.drop 95 = dktX3_answer_4 := dk_seg dksX3_answer_3 24 rfl rfl
theorem dksX3_answer_5 : cX3_answer.data.toList.drop 118 = dktX3_answer_5 := dk_seg dksX3_answer_4 23 rfl rfl
theorem dksX3_answer_6 : cX3_answer.data.toList.drop 142 = dktX3_answer_6 := dk_seg dksX3_answer_5 24 rfl rfl
theorem dX3_answer_0 : decode cX3_answer 0 = .ok (.iconst 0, 1) := dk_3 (dk_at dksX3_answer_0 0 rfl rfl)
theorem dX3_answer_1 : decode cX3_answer 1 = .ok (.istore 4, 2) := dk_54 4 (dk_at dksX3_answer_0 1 rfl rfl)
theorem dX3_answer_3 : decode cX3_answer 3 = .ok (.iload_n 2, 1) := dk_28 (dk_at dksX3_answer_0 3 rfl rfl)
theorem dX3_answer_4 : decode cX3_answer 4 = .ok (.istore 5, 2) := dk_54 5 (dk_at dksX3_answer_0 4 rfl rfl)
theorem dX3_answer_6 : decode cX3_answer 6 = .ok (.iload 5, 2) := dk_21 5 (dk_at dksX3_answer_0 6 rfl rfl)
theorem dX3_answer_8 : decode cX3_answer 8 = .ok (.iload_n 3, 1) := dk_29 (dk_at dksX3_answer_0 8 rfl rfl)
theorem dX3_answer_9 : decode cX3_answer 9 = .ok (.if_icmp .ge 144, 3) := dk_162 0 144 (dk_at dksX3_answer_0 9 rfl rfl)
theorem dX3_answer_12 : decode cX3_answer 12 = .ok (.aload_n 0, 1) := dk_42 (dk_at dksX3_answer_0 12 rfl rfl)
theorem dX3_answer_13 : decode cX3_answer 13 = .ok (.getfield 108, 3) := dk_180 0 108 (dk_at dksX3_answer_0 13 rfl rfl)
theorem dX3_answer_16 : decode cX3_answer 16 = .ok (.sipush 300, 3) := dk_17 1 44 (dk_at dksX3_answer_0 16 rfl rfl)
theorem dX3_answer_19 : decode cX3_answer 19 = .ok (.iload_n 1, 1) := dk_27 (dk_at dksX3_answer_0 19 rfl rfl)
theorem dX3_answer_20 : decode cX3_answer 20 = .ok (.imul, 1) := dk_104 (dk_at dksX3_answer_0 20 rfl rfl)
theorem dX3_answer_21 : decode cX3_answer 21 = .ok (.iload 5, 2) := dk_21 5 (dk_at dksX3_answer_0 21 rfl rfl)
theorem dX3_answer_23 : decode cX3_answer 23 = .ok (.iadd, 1) := dk_96 (dk_at dksX3_answer_0 23 rfl rfl)
theorem dX3_answer_24 : decode cX3_answer 24 = .ok (.iaload, 1) := dk_46 (dk_at dksX3_answer_1 0 rfl rfl)
theorem dX3_answer_25 : decode cX3_answer 25 = .ok (.istore 6, 2) := dk_54 6 (dk_at dksX3_answer_1 1 rfl rfl)
theorem dX3_answer_27 : decode cX3_answer 27 = .ok (.aload_n 0, 1) := dk_42 (dk_at dksX3_answer_1 3 rfl rfl)
theorem dX3_answer_28 : decode cX3_answer 28 = .ok (.getfield 111, 3) := dk_180 0 111 (dk_at dksX3_answer_1 4 rfl rfl)
theorem dX3_answer_31 : decode cX3_answer 31 = .ok (.sipush 300, 3) := dk_17 1 44 (dk_at dksX3_answer_1 7 rfl rfl)
theorem dX3_answer_34 : decode cX3_answer 34 = .ok (.iload_n 1, 1) := dk_27 (dk_at dksX3_answer_1 10 rfl rfl)
theorem dX3_answer_35 : decode cX3_answer 35 = .ok (.imul, 1) := dk_104 (dk_at dksX3_answer_1 11 rfl rfl)
theorem dX3_answer_36 : decode cX3_answer 36 = .ok (.iload 5, 2) := dk_21 5 (dk_at dksX3_answer_1 12 rfl rfl)
theorem dX3_answer_38 : decode cX3_answer 38 = .ok (.iadd, 1) := dk_96 (dk_at dksX3_answer_1 14 rfl rfl)
theorem dX3_answer_39 : decode cX3_answer 39 = .ok (.iaload, 1) := dk_46 (dk_at dksX3_answer_1 15 rfl rfl)
theorem dX3_answer_40 : decode cX3_answer 40 = .ok (.istore 7, 2) := dk_54 7 (dk_at dksX3_answer_1 16 rfl rfl)
theorem dX3_answer_42 : decode cX3_answer 42 = .ok (.iload 6, 2) := dk_21 6 (dk_at dksX3_answer_1 18 rfl rfl)
theorem dX3_answer_44 : decode cX3_answer 44 = .ok (.ifCond .eq 9, 3) := dk_153 0 9 (dk_at dksX3_answer_1 20 rfl rfl)
theorem dX3_answer_47 : decode cX3_answer 47 = .ok (.iload 6, 2) := dk_21 6 (dk_at dksX3_answer_2 0 rfl rfl)
theorem dX3_answer_49 : decode cX3_answer 49 = .ok (.iconst 1, 1) := dk_4 (dk_at dksX3_answer_2 2 rfl rfl)
theorem dX3_answer_50 : decode cX3_answer 50 = .ok (.if_icmp .ne 34, 3) := dk_160 0 34 (dk_at dksX3_answer_2 3 rfl rfl)
theorem dX3_answer_53 : decode cX3_answer 53 = .ok (.aload_n 0, 1) := dk_42 (dk_at dksX3_answer_2 6 rfl rfl)
theorem dX3_answer_54 : decode cX3_answer 54 = .ok (.getfield 133, 3) := dk_180 0 133 (dk_at dksX3_answer_2 7 rfl rfl)
theorem dX3_answer_57 : decode cX3_answer 57 = .ok (.iload 4, 2) := dk_21 4 (dk_at dksX3_answer_2 10 rfl rfl)
theorem dX3_answer_59 : decode cX3_answer 59 = .ok (.iload 6, 2) := dk_21 6 (dk_at dksX3_answer_2 12 rfl rfl)
theorem dX3_answer_61 : decode cX3_answer 61 = .ok (.ifCond .ne 9, 3) := dk_154 0 9 (dk_at dksX3_answer_2 14 rfl rfl)
theorem dX3_answer_64 : decode cX3_answer 64 = .ok (.iload 7, 2) := dk_21 7 (dk_at dksX3_answer_2 17 rfl rfl)
theorem dX3_answer_66 : decode cX3_answer 66 = .ok (.i2l, 1) := dk_133 (dk_at dksX3_answer_2 19 rfl rfl)
theorem dX3_answer_67 : decode cX3_answer 67 = .ok (.goto 10, 3) := dk_167 0 10 (dk_at dksX3_answer_2 20 rfl rfl)
theorem dX3_answer_70 : decode cX3_answer 70 = .ok (.aload_n 0, 1) := dk_42 (dk_at dksX3_answer_2 23 rfl rfl)
theorem dX3_answer_71 : decode cX3_answer 71 = .ok (.getfield 129, 3) := dk_180 0 129 (dk_at dksX3_answer_3 0 rfl rfl)
theorem dX3_answer_74 : decode cX3_answer 74 = .ok (.iload 7, 2) := dk_21 7 (dk_at dksX3_answer_3 3 rfl rfl)
theorem dX3_answer_76 : decode cX3_answer 76 = .ok (.laload, 1) := dk_47 (dk_at dksX3_answer_3 5 rfl rfl)
theorem dX3_answer_77 : decode cX3_answer 77 = .ok (.lastore, 1) := dk_80 (dk_at dksX3_answer_3 6 rfl rfl)
theorem dX3_answer_78 : decode cX3_answer 78 = .ok (.iinc 4 1, 3) := dk_132 4 1 (dk_at dksX3_answer_3 7 rfl rfl)
theorem dX3_answer_81 : decode cX3_answer 81 = .ok (.goto 66, 3) := dk_167 0 66 (dk_at dksX3_answer_3 10 rfl rfl)
theorem dX3_answer_84 : decode cX3_answer 84 = .ok (.iload 6, 2) := dk_21 6 (dk_at dksX3_answer_3 13 rfl rfl)
theorem dX3_answer_86 : decode cX3_answer 86 = .ok (.bipush 9, 2) := dk_16 9 (dk_at dksX3_answer_3 15 rfl rfl)
theorem dX3_answer_88 : decode cX3_answer 88 = .ok (.if_icmp .ne 26, 3) := dk_160 0 26 (dk_at dksX3_answer_3 17 rfl rfl)
theorem dX3_answer_91 : decode cX3_answer 91 = .ok (.aload_n 0, 1) := dk_42 (dk_at dksX3_answer_3 20 rfl rfl)
theorem dX3_answer_92 : decode cX3_answer 92 = .ok (.getfield 133, 3) := dk_180 0 133 (dk_at dksX3_answer_3 21 rfl rfl)
theorem dX3_answer_95 : decode cX3_answer 95 = .ok (.iload 4, 2) := dk_21 4 (dk_at dksX3_answer_4 0 rfl rfl)
theorem dX3_answer_97 : decode cX3_answer 97 = .ok (.iconst 1, 1) := dk_4 (dk_at dksX3_answer_4 2 rfl rfl)
theorem dX3_answer_98 : decode cX3_answer 98 = .ok (.isub, 1) := dk_100 (dk_at dksX3_answer_4 3 rfl rfl)
theorem dX3_answer_99 : decode cX3_answer 99 = .ok (.lconst 1, 1) := dk_10 (dk_at dksX3_answer_4 4 rfl rfl)
theorem dX3_answer_100 : decode cX3_answer 100 = .ok (.aload_n 0, 1) := dk_42 (dk_at dksX3_answer_4 5 rfl rfl)
theorem dX3_answer_101 : decode cX3_answer 101 = .ok (.getfield 133, 3) := dk_180 0 133 (dk_at dksX3_answer_4 6 rfl rfl)
theorem dX3_answer_104 : decode cX3_answer 104 = .ok (.iload 4, 2) := dk_21 4 (dk_at dksX3_answer_4 9 rfl rfl)
theorem dX3_answer_106 : decode cX3_answer 106 = .ok (.iconst 1, 1) := dk_4 (dk_at dksX3_answer_4 11 rfl rfl)
theorem dX3_answer_107 : decode cX3_answer 107 = .ok (.isub, 1) := dk_100 (dk_at dksX3_answer_4 12 rfl rfl)
theorem dX3_answer_108 : decode cX3_answer 108 = .ok (.laload, 1) := dk_47 (dk_at dksX3_answer_4 13 rfl rfl)
theorem dX3_answer_109 : decode cX3_answer 109 = .ok (.lsub, 1) := dk_101 (dk_at dksX3_answer_4 14 rfl rfl)
theorem dX3_answer_110 : decode cX3_answer 110 = .ok (.lastore, 1) := dk_80 (dk_at dksX3_answer_4 15 rfl rfl)
theorem dX3_answer_111 : decode cX3_answer 111 = .ok (.goto 36, 3) := dk_167 0 36 (dk_at dksX3_answer_4 16 rfl rfl)
theorem dX3_answer_114 : decode cX3_answer 114 = .ok (.iinc 4 (-1), 3) := dk_132 4 255 (dk_at dksX3_answer_4 19 rfl rfl)
theorem dX3_answer_117 : decode cX3_answer 117 = .ok (.aload_n 0, 1) := dk_42 (dk_at dksX3_answer_4 22 rfl rfl)
theorem dX3_answer_118 : decode cX3_answer 118 = .ok (.getfield 133, 3) := dk_180 0 133 (dk_at dksX3_answer_5 0 rfl rfl)
theorem dX3_answer_121 : decode cX3_answer 121 = .ok (.iload 4, 2) := dk_21 4 (dk_at dksX3_answer_5 3 rfl rfl)
theorem dX3_answer_123 : decode cX3_answer 123 = .ok (.iconst 1, 1) := dk_4 (dk_at dksX3_answer_5 5 rfl rfl)
theorem dX3_answer_124 : decode cX3_answer 124 = .ok (.isub, 1) := dk_100 (dk_at dksX3_answer_5 6 rfl rfl)
theorem dX3_answer_125 : decode cX3_answer 125 = .ok (.iload 6, 2) := dk_21 6 (dk_at dksX3_answer_5 7 rfl rfl)
theorem dX3_answer_127 : decode cX3_answer 127 = .ok (.aload_n 0, 1) := dk_42 (dk_at dksX3_answer_5 9 rfl rfl)
theorem dX3_answer_128 : decode cX3_answer 128 = .ok (.getfield 133, 3) := dk_180 0 133 (dk_at dksX3_answer_5 10 rfl rfl)
theorem dX3_answer_131 : decode cX3_answer 131 = .ok (.iload 4, 2) := dk_21 4 (dk_at dksX3_answer_5 13 rfl rfl)
theorem dX3_answer_133 : decode cX3_answer 133 = .ok (.iconst 1, 1) := dk_4 (dk_at dksX3_answer_5 15 rfl rfl)
theorem dX3_answer_134 : decode cX3_answer 134 = .ok (.isub, 1) := dk_100 (dk_at dksX3_answer_5 16 rfl rfl)
theorem dX3_answer_135 : decode cX3_answer 135 = .ok (.laload, 1) := dk_47 (dk_at dksX3_answer_5 17 rfl rfl)
theorem dX3_answer_136 : decode cX3_answer 136 = .ok (.aload_n 0, 1) := dk_42 (dk_at dksX3_answer_5 18 rfl rfl)
theorem dX3_answer_137 : decode cX3_answer 137 = .ok (.getfield 133, 3) := dk_180 0 133 (dk_at dksX3_answer_5 19 rfl rfl)
theorem dX3_answer_140 : decode cX3_answer 140 = .ok (.iload 4, 2) := dk_21 4 (dk_at dksX3_answer_5 22 rfl rfl)
theorem dX3_answer_142 : decode cX3_answer 142 = .ok (.laload, 1) := dk_47 (dk_at dksX3_answer_6 0 rfl rfl)
theorem dX3_answer_143 : decode cX3_answer 143 = .ok (.invokestatic 386, 3) := dk_184 1 130 (dk_at dksX3_answer_6 1 rfl rfl)
theorem dX3_answer_146 : decode cX3_answer 146 = .ok (.lastore, 1) := dk_80 (dk_at dksX3_answer_6 4 rfl rfl)
theorem dX3_answer_147 : decode cX3_answer 147 = .ok (.iinc 5 1, 3) := dk_132 5 1 (dk_at dksX3_answer_6 5 rfl rfl)
theorem dX3_answer_150 : decode cX3_answer 150 = .ok (.goto (-144), 3) := dk_167 255 112 (dk_at dksX3_answer_6 8 rfl rfl)
theorem dX3_answer_153 : decode cX3_answer 153 = .ok (.aload_n 0, 1) := dk_42 (dk_at dksX3_answer_6 11 rfl rfl)
theorem dX3_answer_154 : decode cX3_answer 154 = .ok (.getfield 133, 3) := dk_180 0 133 (dk_at dksX3_answer_6 12 rfl rfl)
theorem dX3_answer_157 : decode cX3_answer 157 = .ok (.iconst 0, 1) := dk_3 (dk_at dksX3_answer_6 15 rfl rfl)
theorem dX3_answer_158 : decode cX3_answer 158 = .ok (.laload, 1) := dk_47 (dk_at dksX3_answer_6 16 rfl rfl)
theorem dX3_answer_159 : decode cX3_answer 159 = .ok (.lreturn, 1) := dk_173 (dk_at dksX3_answer_6 17 rfl rfl)
abbrev cX3_both : ByteArray := prog_17_method_52_code
def yX3_both : MethodName := ⟨RX3, "both", "(IJJ)J"⟩
def dkwX3_both_7 : List UInt8 := [31, 33, 129, 173]
abbrev dktX3_both_7 : List UInt8 := dkwX3_both_7 ++ []
def dkwX3_both_6 : List UInt8 := [3, 184, 1, 126, 173, 31, 33, 148, 158, 0, 7, 4, 167, 0, 4, 3, 184, 1, 126, 173, 31, 33, 127, 173]
abbrev dktX3_both_6 : List UInt8 := dkwX3_both_6 ++ dktX3_both_7
def dkwX3_both_5 : List UInt8 := [33, 148, 154, 0, 7, 4, 167, 0, 4, 3, 184, 1, 126, 173, 31, 33, 148, 155, 0, 7, 4, 167, 0, 4]
abbrev dktX3_both_5 : List UInt8 := dkwX3_both_5 ++ dktX3_both_6
def dkwX3_both_4 : List UInt8 := [167, 0, 4, 3, 184, 1, 126, 173, 31, 33, 148, 157, 0, 7, 4, 167, 0, 4, 3, 184, 1, 126, 173, 31]
abbrev dktX3_both_4 : List UInt8 := dkwX3_both_4 ++ dktX3_both_5
def dkwX3_both_3 : List UInt8 := [109, 173, 33, 9, 148, 154, 0, 7, 9, 167, 0, 6, 31, 33, 113, 173, 31, 33, 148, 156, 0, 7, 4]
abbrev dktX3_both_3 : List UInt8 := dkwX3_both_3 ++ dktX3_both_4
def dkwX3_both_2 : List UInt8 := [31, 33, 97, 173, 31, 33, 101, 173, 31, 33, 105, 173, 33, 9, 148, 154, 0, 7, 9, 167, 0, 6, 31, 33]
abbrev dktX3_both_2 : List UInt8 := dkwX3_both_2 ++ dktX3_both_3
def dkwX3_both_1 : List UInt8 := [170, 0, 0, 0, 0, 0, 190, 0, 0, 0, 2, 0, 0, 0, 15, 0, 0, 0, 71, 0, 0, 0, 75, 0, 0, 0, 111, 0, 0, 0, 126, 0, 0, 0, 141, 0, 0, 0, 156, 0, 0, 0, 171, 0, 0, 0, 190, 0, 0, 0, 186, 0, 0, 0, 190, 0, 0, 0, 190, 0, 0, 0, 79, 0, 0, 0, 83, 0, 0, 0, 97]
abbrev dktX3_both_1 : List UInt8 := dkwX3_both_1 ++ dktX3_both_2
def dkwX3_both_0 : List UInt8 := [26]
abbrev dktX3_both_0 : List UInt8 := dkwX3_both_0 ++ dktX3_both_1
theorem dksX3_both_0 : cX3_both.data.toList.drop 0 = dktX3_both_0 := by decide +kernel
theorem dksX3_both_1 : cX3_both.data.toList.drop 1 = dktX3_both_1 := dk_seg dksX3_both_0 1 rfl rfl
theorem dksX3_both_2 : cX3_both.data.toList.drop 72 = dktX3_both_2 := dk_seg dksX3_both_1 71 rfl rfl
theorem dksX3_both_3 : cX3_both.data.toList.drop 96 = dktX3_both_3 := dk_seg dksX3_both_2 24 rfl rfl
theorem dksX3_both_4 : cX3_both.data.toList.drop 119 = dktX3_both_4 := dk_seg dksX3_both_3 23 rfl rfl
theorem dksX3_both_5 : cX3_both.data.toList.drop 143 = dktX3_both_5 := dk_seg dksX3_both_4 24 rfl rfl
theorem dksX3_both_6 : cX3_both.data.toList.drop 167 = dktX3_both_6 := dk_seg dksX3_both_5 24 rfl rfl
theorem dksX3_both_7 : cX3_both.data.toList.drop 191 = dktX3_both_7 := dk_seg dksX3_both_6 24 rfl rfl
theorem dX3_both_0 : decode cX3_both 0 = .ok (.iload_n 0, 1) := dk_26 (dk_at dksX3_both_0 0 rfl rfl)
theorem dX3_both_1 : decode cX3_both 1 = .ok (.tableswitch 190 2 15 #[71, 75, 111, 126, 141, 156, 171, 190, 186, 190, 190, 79, 83, 97], 71) := by decide +kernel
theorem dX3_both_72 : decode cX3_both 72 = .ok (.lload_n 1, 1) := dk_31 (dk_at dksX3_both_2 0 rfl rfl)
theorem dX3_both_73 : decode cX3_both 73 = .ok (.lload_n 3, 1) := dk_33 (dk_at dksX3_both_2 1 rfl rfl)
theorem dX3_both_74 : decode cX3_both 74 = .ok (.ladd, 1) := dk_97 (dk_at dksX3_both_2 2 rfl rfl)
theorem dX3_both_75 : decode cX3_both 75 = .ok (.lreturn, 1) := dk_173 (dk_at dksX3_both_2 3 rfl rfl)
theorem dX3_both_76 : decode cX3_both 76 = .ok (.lload_n 1, 1) := dk_31 (dk_at dksX3_both_2 4 rfl rfl)
theorem dX3_both_77 : decode cX3_both 77 = .ok (.lload_n 3, 1) := dk_33 (dk_at dksX3_both_2 5 rfl rfl)
theorem dX3_both_78 : decode cX3_both 78 = .ok (.lsub, 1) := dk_101 (dk_at dksX3_both_2 6 rfl rfl)
theorem dX3_both_79 : decode cX3_both 79 = .ok (.lreturn, 1) := dk_173 (dk_at dksX3_both_2 7 rfl rfl)
theorem dX3_both_80 : decode cX3_both 80 = .ok (.lload_n 1, 1) := dk_31 (dk_at dksX3_both_2 8 rfl rfl)
theorem dX3_both_81 : decode cX3_both 81 = .ok (.lload_n 3, 1) := dk_33 (dk_at dksX3_both_2 9 rfl rfl)
theorem dX3_both_82 : decode cX3_both 82 = .ok (.lmul, 1) := dk_105 (dk_at dksX3_both_2 10 rfl rfl)
theorem dX3_both_83 : decode cX3_both 83 = .ok (.lreturn, 1) := dk_173 (dk_at dksX3_both_2 11 rfl rfl)
theorem dX3_both_84 : decode cX3_both 84 = .ok (.lload_n 3, 1) := dk_33 (dk_at dksX3_both_2 12 rfl rfl)
theorem dX3_both_85 : decode cX3_both 85 = .ok (.lconst 0, 1) := dk_9 (dk_at dksX3_both_2 13 rfl rfl)
theorem dX3_both_86 : decode cX3_both 86 = .ok (.lcmp, 1) := dk_148 (dk_at dksX3_both_2 14 rfl rfl)
theorem dX3_both_87 : decode cX3_both 87 = .ok (.ifCond .ne 7, 3) := dk_154 0 7 (dk_at dksX3_both_2 15 rfl rfl)
theorem dX3_both_90 : decode cX3_both 90 = .ok (.lconst 0, 1) := dk_9 (dk_at dksX3_both_2 18 rfl rfl)
theorem dX3_both_91 : decode cX3_both 91 = .ok (.goto 6, 3) := dk_167 0 6 (dk_at dksX3_both_2 19 rfl rfl)
theorem dX3_both_94 : decode cX3_both 94 = .ok (.lload_n 1, 1) := dk_31 (dk_at dksX3_both_2 22 rfl rfl)
theorem dX3_both_95 : decode cX3_both 95 = .ok (.lload_n 3, 1) := dk_33 (dk_at dksX3_both_2 23 rfl rfl)
theorem dX3_both_96 : decode cX3_both 96 = .ok (.ldiv, 1) := dk_109 (dk_at dksX3_both_3 0 rfl rfl)
theorem dX3_both_97 : decode cX3_both 97 = .ok (.lreturn, 1) := dk_173 (dk_at dksX3_both_3 1 rfl rfl)
theorem dX3_both_98 : decode cX3_both 98 = .ok (.lload_n 3, 1) := dk_33 (dk_at dksX3_both_3 2 rfl rfl)
theorem dX3_both_99 : decode cX3_both 99 = .ok (.lconst 0, 1) := dk_9 (dk_at dksX3_both_3 3 rfl rfl)
theorem dX3_both_100 : decode cX3_both 100 = .ok (.lcmp, 1) := dk_148 (dk_at dksX3_both_3 4 rfl rfl)
theorem dX3_both_101 : decode cX3_both 101 = .ok (.ifCond .ne 7, 3) := dk_154 0 7 (dk_at dksX3_both_3 5 rfl rfl)
theorem dX3_both_104 : decode cX3_both 104 = .ok (.lconst 0, 1) := dk_9 (dk_at dksX3_both_3 8 rfl rfl)
theorem dX3_both_105 : decode cX3_both 105 = .ok (.goto 6, 3) := dk_167 0 6 (dk_at dksX3_both_3 9 rfl rfl)
theorem dX3_both_108 : decode cX3_both 108 = .ok (.lload_n 1, 1) := dk_31 (dk_at dksX3_both_3 12 rfl rfl)
theorem dX3_both_109 : decode cX3_both 109 = .ok (.lload_n 3, 1) := dk_33 (dk_at dksX3_both_3 13 rfl rfl)
theorem dX3_both_110 : decode cX3_both 110 = .ok (.lrem, 1) := dk_113 (dk_at dksX3_both_3 14 rfl rfl)
theorem dX3_both_111 : decode cX3_both 111 = .ok (.lreturn, 1) := dk_173 (dk_at dksX3_both_3 15 rfl rfl)
theorem dX3_both_112 : decode cX3_both 112 = .ok (.lload_n 1, 1) := dk_31 (dk_at dksX3_both_3 16 rfl rfl)
theorem dX3_both_113 : decode cX3_both 113 = .ok (.lload_n 3, 1) := dk_33 (dk_at dksX3_both_3 17 rfl rfl)
theorem dX3_both_114 : decode cX3_both 114 = .ok (.lcmp, 1) := dk_148 (dk_at dksX3_both_3 18 rfl rfl)
theorem dX3_both_115 : decode cX3_both 115 = .ok (.ifCond .ge 7, 3) := dk_156 0 7 (dk_at dksX3_both_3 19 rfl rfl)
theorem dX3_both_118 : decode cX3_both 118 = .ok (.iconst 1, 1) := dk_4 (dk_at dksX3_both_3 22 rfl rfl)
theorem dX3_both_119 : decode cX3_both 119 = .ok (.goto 4, 3) := dk_167 0 4 (dk_at dksX3_both_4 0 rfl rfl)
theorem dX3_both_122 : decode cX3_both 122 = .ok (.iconst 0, 1) := dk_3 (dk_at dksX3_both_4 3 rfl rfl)
theorem dX3_both_123 : decode cX3_both 123 = .ok (.invokestatic 382, 3) := dk_184 1 126 (dk_at dksX3_both_4 4 rfl rfl)
theorem dX3_both_126 : decode cX3_both 126 = .ok (.lreturn, 1) := dk_173 (dk_at dksX3_both_4 7 rfl rfl)
theorem dX3_both_127 : decode cX3_both 127 = .ok (.lload_n 1, 1) := dk_31 (dk_at dksX3_both_4 8 rfl rfl)
theorem dX3_both_128 : decode cX3_both 128 = .ok (.lload_n 3, 1) := dk_33 (dk_at dksX3_both_4 9 rfl rfl)
theorem dX3_both_129 : decode cX3_both 129 = .ok (.lcmp, 1) := dk_148 (dk_at dksX3_both_4 10 rfl rfl)
theorem dX3_both_130 : decode cX3_both 130 = .ok (.ifCond .gt 7, 3) := dk_157 0 7 (dk_at dksX3_both_4 11 rfl rfl)
theorem dX3_both_133 : decode cX3_both 133 = .ok (.iconst 1, 1) := dk_4 (dk_at dksX3_both_4 14 rfl rfl)
theorem dX3_both_134 : decode cX3_both 134 = .ok (.goto 4, 3) := dk_167 0 4 (dk_at dksX3_both_4 15 rfl rfl)
theorem dX3_both_137 : decode cX3_both 137 = .ok (.iconst 0, 1) := dk_3 (dk_at dksX3_both_4 18 rfl rfl)
theorem dX3_both_138 : decode cX3_both 138 = .ok (.invokestatic 382, 3) := dk_184 1 126 (dk_at dksX3_both_4 19 rfl rfl)
theorem dX3_both_141 : decode cX3_both 141 = .ok (.lreturn, 1) := dk_173 (dk_at dksX3_both_4 22 rfl rfl)
theorem dX3_both_142 : decode cX3_both 142 = .ok (.lload_n 1, 1) := dk_31 (dk_at dksX3_both_4 23 rfl rfl)
theorem dX3_both_143 : decode cX3_both 143 = .ok (.lload_n 3, 1) := dk_33 (dk_at dksX3_both_5 0 rfl rfl)
theorem dX3_both_144 : decode cX3_both 144 = .ok (.lcmp, 1) := dk_148 (dk_at dksX3_both_5 1 rfl rfl)
theorem dX3_both_145 : decode cX3_both 145 = .ok (.ifCond .ne 7, 3) := dk_154 0 7 (dk_at dksX3_both_5 2 rfl rfl)
theorem dX3_both_148 : decode cX3_both 148 = .ok (.iconst 1, 1) := dk_4 (dk_at dksX3_both_5 5 rfl rfl)
theorem dX3_both_149 : decode cX3_both 149 = .ok (.goto 4, 3) := dk_167 0 4 (dk_at dksX3_both_5 6 rfl rfl)
theorem dX3_both_152 : decode cX3_both 152 = .ok (.iconst 0, 1) := dk_3 (dk_at dksX3_both_5 9 rfl rfl)
theorem dX3_both_153 : decode cX3_both 153 = .ok (.invokestatic 382, 3) := dk_184 1 126 (dk_at dksX3_both_5 10 rfl rfl)
theorem dX3_both_156 : decode cX3_both 156 = .ok (.lreturn, 1) := dk_173 (dk_at dksX3_both_5 13 rfl rfl)
theorem dX3_both_157 : decode cX3_both 157 = .ok (.lload_n 1, 1) := dk_31 (dk_at dksX3_both_5 14 rfl rfl)
theorem dX3_both_158 : decode cX3_both 158 = .ok (.lload_n 3, 1) := dk_33 (dk_at dksX3_both_5 15 rfl rfl)
theorem dX3_both_159 : decode cX3_both 159 = .ok (.lcmp, 1) := dk_148 (dk_at dksX3_both_5 16 rfl rfl)
theorem dX3_both_160 : decode cX3_both 160 = .ok (.ifCond .lt 7, 3) := dk_155 0 7 (dk_at dksX3_both_5 17 rfl rfl)
theorem dX3_both_163 : decode cX3_both 163 = .ok (.iconst 1, 1) := dk_4 (dk_at dksX3_both_5 20 rfl rfl)
theorem dX3_both_164 : decode cX3_both 164 = .ok (.goto 4, 3) := dk_167 0 4 (dk_at dksX3_both_5 21 rfl rfl)
theorem dX3_both_167 : decode cX3_both 167 = .ok (.iconst 0, 1) := dk_3 (dk_at dksX3_both_6 0 rfl rfl)
theorem dX3_both_168 : decode cX3_both 168 = .ok (.invokestatic 382, 3) := dk_184 1 126 (dk_at dksX3_both_6 1 rfl rfl)
theorem dX3_both_171 : decode cX3_both 171 = .ok (.lreturn, 1) := dk_173 (dk_at dksX3_both_6 4 rfl rfl)
theorem dX3_both_172 : decode cX3_both 172 = .ok (.lload_n 1, 1) := dk_31 (dk_at dksX3_both_6 5 rfl rfl)
theorem dX3_both_173 : decode cX3_both 173 = .ok (.lload_n 3, 1) := dk_33 (dk_at dksX3_both_6 6 rfl rfl)
theorem dX3_both_174 : decode cX3_both 174 = .ok (.lcmp, 1) := dk_148 (dk_at dksX3_both_6 7 rfl rfl)
theorem dX3_both_175 : decode cX3_both 175 = .ok (.ifCond .le 7, 3) := dk_158 0 7 (dk_at dksX3_both_6 8 rfl rfl)
theorem dX3_both_178 : decode cX3_both 178 = .ok (.iconst 1, 1) := dk_4 (dk_at dksX3_both_6 11 rfl rfl)
theorem dX3_both_179 : decode cX3_both 179 = .ok (.goto 4, 3) := dk_167 0 4 (dk_at dksX3_both_6 12 rfl rfl)
theorem dX3_both_182 : decode cX3_both 182 = .ok (.iconst 0, 1) := dk_3 (dk_at dksX3_both_6 15 rfl rfl)
theorem dX3_both_183 : decode cX3_both 183 = .ok (.invokestatic 382, 3) := dk_184 1 126 (dk_at dksX3_both_6 16 rfl rfl)
theorem dX3_both_186 : decode cX3_both 186 = .ok (.lreturn, 1) := dk_173 (dk_at dksX3_both_6 19 rfl rfl)
theorem dX3_both_187 : decode cX3_both 187 = .ok (.lload_n 1, 1) := dk_31 (dk_at dksX3_both_6 20 rfl rfl)
theorem dX3_both_188 : decode cX3_both 188 = .ok (.lload_n 3, 1) := dk_33 (dk_at dksX3_both_6 21 rfl rfl)
theorem dX3_both_189 : decode cX3_both 189 = .ok (.land, 1) := dk_127 (dk_at dksX3_both_6 22 rfl rfl)
theorem dX3_both_190 : decode cX3_both 190 = .ok (.lreturn, 1) := dk_173 (dk_at dksX3_both_6 23 rfl rfl)
theorem dX3_both_191 : decode cX3_both 191 = .ok (.lload_n 1, 1) := dk_31 (dk_at dksX3_both_7 0 rfl rfl)
theorem dX3_both_192 : decode cX3_both 192 = .ok (.lload_n 3, 1) := dk_33 (dk_at dksX3_both_7 1 rfl rfl)
theorem dX3_both_193 : decode cX3_both 193 = .ok (.lor, 1) := dk_129 (dk_at dksX3_both_7 2 rfl rfl)
theorem dX3_both_194 : decode cX3_both 194 = .ok (.lreturn, 1) := dk_173 (dk_at dksX3_both_7 3 rfl rfl)
abbrev cX3_truth : ByteArray := prog_17_method_51_code
def yX3_truth : MethodName := ⟨RX3, "truth", "(Z)J"⟩
def dkwX3_truth_0 : List UInt8 := [26, 153, 0, 7, 10, 167, 0, 4, 9, 173]
abbrev dktX3_truth_0 : List UInt8 := dkwX3_truth_0 ++ []
theorem dksX3_truth_0 : cX3_truth.data.toList.drop 0 = dktX3_truth_0 := by decide +kernel
theorem dX3_truth_0 : decode cX3_truth 0 = .ok (.iload_n 0, 1) := dk_26 (dk_at dksX3_truth_0 0 rfl rfl)
theorem dX3_truth_1 : decode cX3_truth 1 = .ok (.ifCond .eq 7, 3) := dk_153 0 7 (dk_at dksX3_truth_0 1 rfl rfl)
theorem dX3_truth_4 : decode cX3_truth 4 = .ok (.lconst 1, 1) := dk_10 (dk_at dksX3_truth_0 4 rfl rfl)
theorem dX3_truth_5 : decode cX3_truth 5 = .ok (.goto 4, 3) := dk_167 0 4 (dk_at dksX3_truth_0 5 rfl rfl)
theorem dX3_truth_8 : decode cX3_truth 8 = .ok (.lconst 0, 1) := dk_9 (dk_at dksX3_truth_0 8 rfl rfl)
theorem dX3_truth_9 : decode cX3_truth 9 = .ok (.lreturn, 1) := dk_173 (dk_at dksX3_truth_0 9 rfl rfl)
abbrev cX3_ahead : ByteArray := prog_17_method_95_code
def yX3_ahead : MethodName := ⟨RX3, "ahead", "(II)I"⟩
def dkwX3_ahead_5 : List UInt8 := [167, 255, 215, 42, 182, 2, 15, 29, 172]
abbrev dktX3_ahead_5 : List UInt8 := dkwX3_ahead_5 ++ []
def dkwX3_ahead_4 : List UInt8 := [180, 0, 19, 21, 4, 46, 5, 160, 0, 10, 4, 21, 4, 120, 167, 0, 4, 3, 128, 62, 132, 4, 1]
abbrev dktX3_ahead_4 : List UInt8 := dkwX3_ahead_4 ++ dktX3_ahead_5
def dkwX3_ahead_3 : List UInt8 := [62, 3, 54, 4, 21, 4, 42, 180, 0, 9, 5, 46, 162, 0, 36, 28, 6, 160, 0, 31, 29, 42]
abbrev dktX3_ahead_3 : List UInt8 := dkwX3_ahead_3 ++ dktX3_ahead_4
def dkwX3_ahead_2 : List UInt8 := [182, 1, 237, 87, 132, 3, 1, 167, 255, 243, 28, 6, 162, 0, 11, 42, 28, 182, 2, 12, 167, 0, 4, 3]
abbrev dktX3_ahead_2 : List UInt8 := dkwX3_ahead_2 ++ dktX3_ahead_3
def dkwX3_ahead_1 : List UInt8 := [20, 2, 7, 184, 0, 176, 154, 0, 5, 2, 172, 42, 182, 2, 9, 3, 62, 29, 27, 162, 0, 14, 42]
abbrev dktX3_ahead_1 : List UInt8 := dkwX3_ahead_1 ++ dktX3_ahead_2
def dkwX3_ahead_0 : List UInt8 := [42, 182, 1, 174, 153, 0, 29, 27, 133, 9, 42, 182, 1, 231, 133, 184, 0, 176, 153, 0, 15, 28, 133, 9]
abbrev dktX3_ahead_0 : List UInt8 := dkwX3_ahead_0 ++ dktX3_ahead_1
theorem dksX3_ahead_0 : cX3_ahead.data.toList.drop 0 = dktX3_ahead_0 := by decide +kernel
theorem dksX3_ahead_1 : cX3_ahead.data.toList.drop 24 = dktX3_ahead_1 := dk_seg dksX3_ahead_0 24 rfl rfl
theorem dksX3_ahead_2 : cX3_ahead.data.toList.drop 47 = dktX3_ahead_2 := dk_seg dksX3_ahead_1 23 rfl rfl
theorem dksX3_ahead_3 : cX3_ahead.data.toList.drop 71 = dktX3_ahead_3 := dk_seg dksX3_ahead_2 24 rfl rfl
theorem dksX3_ahead_4 : cX3_ahead.data.toList.drop 93 = dktX3_ahead_4 := dk_seg dksX3_ahead_3 22 rfl rfl
theorem dksX3_ahead_5 : cX3_ahead.data.toList.drop 116 = dktX3_ahead_5 := dk_seg dksX3_ahead_4 23 rfl rfl
theorem dX3_ahead_0 : decode cX3_ahead 0 = .ok (.aload_n 0, 1) := dk_42 (dk_at dksX3_ahead_0 0 rfl rfl)
theorem dX3_ahead_1 : decode cX3_ahead 1 = .ok (.invokevirtual 430, 3) := dk_182 1 174 (dk_at dksX3_ahead_0 1 rfl rfl)
theorem dX3_ahead_4 : decode cX3_ahead 4 = .ok (.ifCond .eq 29, 3) := dk_153 0 29 (dk_at dksX3_ahead_0 4 rfl rfl)
theorem dX3_ahead_7 : decode cX3_ahead 7 = .ok (.iload_n 1, 1) := dk_27 (dk_at dksX3_ahead_0 7 rfl rfl)
theorem dX3_ahead_8 : decode cX3_ahead 8 = .ok (.i2l, 1) := dk_133 (dk_at dksX3_ahead_0 8 rfl rfl)
theorem dX3_ahead_9 : decode cX3_ahead 9 = .ok (.lconst 0, 1) := dk_9 (dk_at dksX3_ahead_0 9 rfl rfl)
theorem dX3_ahead_10 : decode cX3_ahead 10 = .ok (.aload_n 0, 1) := dk_42 (dk_at dksX3_ahead_0 10 rfl rfl)
theorem dX3_ahead_11 : decode cX3_ahead 11 = .ok (.invokevirtual 487, 3) := dk_182 1 231 (dk_at dksX3_ahead_0 11 rfl rfl)
theorem dX3_ahead_14 : decode cX3_ahead 14 = .ok (.i2l, 1) := dk_133 (dk_at dksX3_ahead_0 14 rfl rfl)
theorem dX3_ahead_15 : decode cX3_ahead 15 = .ok (.invokestatic 176, 3) := dk_184 0 176 (dk_at dksX3_ahead_0 15 rfl rfl)
theorem dX3_ahead_18 : decode cX3_ahead 18 = .ok (.ifCond .eq 15, 3) := dk_153 0 15 (dk_at dksX3_ahead_0 18 rfl rfl)
theorem dX3_ahead_21 : decode cX3_ahead 21 = .ok (.iload_n 2, 1) := dk_28 (dk_at dksX3_ahead_0 21 rfl rfl)
theorem dX3_ahead_22 : decode cX3_ahead 22 = .ok (.i2l, 1) := dk_133 (dk_at dksX3_ahead_0 22 rfl rfl)
theorem dX3_ahead_23 : decode cX3_ahead 23 = .ok (.lconst 0, 1) := dk_9 (dk_at dksX3_ahead_0 23 rfl rfl)
theorem dX3_ahead_24 : decode cX3_ahead 24 = .ok (.ldc2_w 519, 3) := dk_20 2 7 (dk_at dksX3_ahead_1 0 rfl rfl)
theorem dX3_ahead_27 : decode cX3_ahead 27 = .ok (.invokestatic 176, 3) := dk_184 0 176 (dk_at dksX3_ahead_1 3 rfl rfl)
theorem dX3_ahead_30 : decode cX3_ahead 30 = .ok (.ifCond .ne 5, 3) := dk_154 0 5 (dk_at dksX3_ahead_1 6 rfl rfl)
theorem dX3_ahead_33 : decode cX3_ahead 33 = .ok (.iconst (-1), 1) := dk_2 (dk_at dksX3_ahead_1 9 rfl rfl)
theorem dX3_ahead_34 : decode cX3_ahead 34 = .ok (.ireturn, 1) := dk_172 (dk_at dksX3_ahead_1 10 rfl rfl)
theorem dX3_ahead_35 : decode cX3_ahead 35 = .ok (.aload_n 0, 1) := dk_42 (dk_at dksX3_ahead_1 11 rfl rfl)
theorem dX3_ahead_36 : decode cX3_ahead 36 = .ok (.invokevirtual 521, 3) := dk_182 2 9 (dk_at dksX3_ahead_1 12 rfl rfl)
theorem dX3_ahead_39 : decode cX3_ahead 39 = .ok (.iconst 0, 1) := dk_3 (dk_at dksX3_ahead_1 15 rfl rfl)
theorem dX3_ahead_40 : decode cX3_ahead 40 = .ok (.istore_n 3, 1) := dk_62 (dk_at dksX3_ahead_1 16 rfl rfl)
theorem dX3_ahead_41 : decode cX3_ahead 41 = .ok (.iload_n 3, 1) := dk_29 (dk_at dksX3_ahead_1 17 rfl rfl)
theorem dX3_ahead_42 : decode cX3_ahead 42 = .ok (.iload_n 1, 1) := dk_27 (dk_at dksX3_ahead_1 18 rfl rfl)
theorem dX3_ahead_43 : decode cX3_ahead 43 = .ok (.if_icmp .ge 14, 3) := dk_162 0 14 (dk_at dksX3_ahead_1 19 rfl rfl)
theorem dX3_ahead_46 : decode cX3_ahead 46 = .ok (.aload_n 0, 1) := dk_42 (dk_at dksX3_ahead_1 22 rfl rfl)
theorem dX3_ahead_47 : decode cX3_ahead 47 = .ok (.invokevirtual 493, 3) := dk_182 1 237 (dk_at dksX3_ahead_2 0 rfl rfl)
theorem dX3_ahead_50 : decode cX3_ahead 50 = .ok (.pop, 1) := dk_87 (dk_at dksX3_ahead_2 3 rfl rfl)
theorem dX3_ahead_51 : decode cX3_ahead 51 = .ok (.iinc 3 1, 3) := dk_132 3 1 (dk_at dksX3_ahead_2 4 rfl rfl)
theorem dX3_ahead_54 : decode cX3_ahead 54 = .ok (.goto (-13), 3) := dk_167 255 243 (dk_at dksX3_ahead_2 7 rfl rfl)
theorem dX3_ahead_57 : decode cX3_ahead 57 = .ok (.iload_n 2, 1) := dk_28 (dk_at dksX3_ahead_2 10 rfl rfl)
theorem dX3_ahead_58 : decode cX3_ahead 58 = .ok (.iconst 3, 1) := dk_6 (dk_at dksX3_ahead_2 11 rfl rfl)
theorem dX3_ahead_59 : decode cX3_ahead 59 = .ok (.if_icmp .ge 11, 3) := dk_162 0 11 (dk_at dksX3_ahead_2 12 rfl rfl)
theorem dX3_ahead_62 : decode cX3_ahead 62 = .ok (.aload_n 0, 1) := dk_42 (dk_at dksX3_ahead_2 15 rfl rfl)
theorem dX3_ahead_63 : decode cX3_ahead 63 = .ok (.iload_n 2, 1) := dk_28 (dk_at dksX3_ahead_2 16 rfl rfl)
theorem dX3_ahead_64 : decode cX3_ahead 64 = .ok (.invokevirtual 524, 3) := dk_182 2 12 (dk_at dksX3_ahead_2 17 rfl rfl)
theorem dX3_ahead_67 : decode cX3_ahead 67 = .ok (.goto 4, 3) := dk_167 0 4 (dk_at dksX3_ahead_2 20 rfl rfl)
theorem dX3_ahead_70 : decode cX3_ahead 70 = .ok (.iconst 0, 1) := dk_3 (dk_at dksX3_ahead_2 23 rfl rfl)
theorem dX3_ahead_71 : decode cX3_ahead 71 = .ok (.istore_n 3, 1) := dk_62 (dk_at dksX3_ahead_3 0 rfl rfl)
theorem dX3_ahead_72 : decode cX3_ahead 72 = .ok (.iconst 0, 1) := dk_3 (dk_at dksX3_ahead_3 1 rfl rfl)
theorem dX3_ahead_73 : decode cX3_ahead 73 = .ok (.istore 4, 2) := dk_54 4 (dk_at dksX3_ahead_3 2 rfl rfl)
theorem dX3_ahead_75 : decode cX3_ahead 75 = .ok (.iload 4, 2) := dk_21 4 (dk_at dksX3_ahead_3 4 rfl rfl)
theorem dX3_ahead_77 : decode cX3_ahead 77 = .ok (.aload_n 0, 1) := dk_42 (dk_at dksX3_ahead_3 6 rfl rfl)
theorem dX3_ahead_78 : decode cX3_ahead 78 = .ok (.getfield 9, 3) := dk_180 0 9 (dk_at dksX3_ahead_3 7 rfl rfl)
theorem dX3_ahead_81 : decode cX3_ahead 81 = .ok (.iconst 2, 1) := dk_5 (dk_at dksX3_ahead_3 10 rfl rfl)
theorem dX3_ahead_82 : decode cX3_ahead 82 = .ok (.iaload, 1) := dk_46 (dk_at dksX3_ahead_3 11 rfl rfl)
theorem dX3_ahead_83 : decode cX3_ahead 83 = .ok (.if_icmp .ge 36, 3) := dk_162 0 36 (dk_at dksX3_ahead_3 12 rfl rfl)
theorem dX3_ahead_86 : decode cX3_ahead 86 = .ok (.iload_n 2, 1) := dk_28 (dk_at dksX3_ahead_3 15 rfl rfl)
theorem dX3_ahead_87 : decode cX3_ahead 87 = .ok (.iconst 3, 1) := dk_6 (dk_at dksX3_ahead_3 16 rfl rfl)
theorem dX3_ahead_88 : decode cX3_ahead 88 = .ok (.if_icmp .ne 31, 3) := dk_160 0 31 (dk_at dksX3_ahead_3 17 rfl rfl)
theorem dX3_ahead_91 : decode cX3_ahead 91 = .ok (.iload_n 3, 1) := dk_29 (dk_at dksX3_ahead_3 20 rfl rfl)
theorem dX3_ahead_92 : decode cX3_ahead 92 = .ok (.aload_n 0, 1) := dk_42 (dk_at dksX3_ahead_3 21 rfl rfl)
theorem dX3_ahead_93 : decode cX3_ahead 93 = .ok (.getfield 19, 3) := dk_180 0 19 (dk_at dksX3_ahead_4 0 rfl rfl)
theorem dX3_ahead_96 : decode cX3_ahead 96 = .ok (.iload 4, 2) := dk_21 4 (dk_at dksX3_ahead_4 3 rfl rfl)
theorem dX3_ahead_98 : decode cX3_ahead 98 = .ok (.iaload, 1) := dk_46 (dk_at dksX3_ahead_4 5 rfl rfl)
theorem dX3_ahead_99 : decode cX3_ahead 99 = .ok (.iconst 2, 1) := dk_5 (dk_at dksX3_ahead_4 6 rfl rfl)
theorem dX3_ahead_100 : decode cX3_ahead 100 = .ok (.if_icmp .ne 10, 3) := dk_160 0 10 (dk_at dksX3_ahead_4 7 rfl rfl)
theorem dX3_ahead_103 : decode cX3_ahead 103 = .ok (.iconst 1, 1) := dk_4 (dk_at dksX3_ahead_4 10 rfl rfl)
theorem dX3_ahead_104 : decode cX3_ahead 104 = .ok (.iload 4, 2) := dk_21 4 (dk_at dksX3_ahead_4 11 rfl rfl)
theorem dX3_ahead_106 : decode cX3_ahead 106 = .ok (.ishl, 1) := dk_120 (dk_at dksX3_ahead_4 13 rfl rfl)
theorem dX3_ahead_107 : decode cX3_ahead 107 = .ok (.goto 4, 3) := dk_167 0 4 (dk_at dksX3_ahead_4 14 rfl rfl)
theorem dX3_ahead_110 : decode cX3_ahead 110 = .ok (.iconst 0, 1) := dk_3 (dk_at dksX3_ahead_4 17 rfl rfl)
theorem dX3_ahead_111 : decode cX3_ahead 111 = .ok (.ior, 1) := dk_128 (dk_at dksX3_ahead_4 18 rfl rfl)
theorem dX3_ahead_112 : decode cX3_ahead 112 = .ok (.istore_n 3, 1) := dk_62 (dk_at dksX3_ahead_4 19 rfl rfl)
theorem dX3_ahead_113 : decode cX3_ahead 113 = .ok (.iinc 4 1, 3) := dk_132 4 1 (dk_at dksX3_ahead_4 20 rfl rfl)
theorem dX3_ahead_116 : decode cX3_ahead 116 = .ok (.goto (-41), 3) := dk_167 255 215 (dk_at dksX3_ahead_5 0 rfl rfl)
theorem dX3_ahead_119 : decode cX3_ahead 119 = .ok (.aload_n 0, 1) := dk_42 (dk_at dksX3_ahead_5 3 rfl rfl)
theorem dX3_ahead_120 : decode cX3_ahead 120 = .ok (.invokevirtual 527, 3) := dk_182 2 15 (dk_at dksX3_ahead_5 4 rfl rfl)
theorem dX3_ahead_123 : decode cX3_ahead 123 = .ok (.iload_n 3, 1) := dk_29 (dk_at dksX3_ahead_5 7 rfl rfl)
theorem dX3_ahead_124 : decode cX3_ahead 124 = .ok (.ireturn, 1) := dk_172 (dk_at dksX3_ahead_5 8 rfl rfl)
abbrev cX3_keepsAll : ByteArray := prog_17_method_92_code
def yX3_keepsAll : MethodName := ⟨RX3, "keepsAll", "()V"⟩
def dkwX3_keepsAll_0 : List UInt8 := [42, 7, 3, 182, 2, 4, 177]
abbrev dktX3_keepsAll_0 : List UInt8 := dkwX3_keepsAll_0 ++ []
theorem dksX3_keepsAll_0 : cX3_keepsAll.data.toList.drop 0 = dktX3_keepsAll_0 := by decide +kernel
theorem dX3_keepsAll_0 : decode cX3_keepsAll 0 = .ok (.aload_n 0, 1) := dk_42 (dk_at dksX3_keepsAll_0 0 rfl rfl)
theorem dX3_keepsAll_1 : decode cX3_keepsAll 1 = .ok (.iconst 4, 1) := dk_7 (dk_at dksX3_keepsAll_0 1 rfl rfl)
theorem dX3_keepsAll_2 : decode cX3_keepsAll 2 = .ok (.iconst 0, 1) := dk_3 (dk_at dksX3_keepsAll_0 2 rfl rfl)
theorem dX3_keepsAll_3 : decode cX3_keepsAll 3 = .ok (.invokevirtual 516, 3) := dk_182 2 4 (dk_at dksX3_keepsAll_0 3 rfl rfl)
theorem dX3_keepsAll_6 : decode cX3_keepsAll 6 = .ok (.return_, 1) := dk_177 (dk_at dksX3_keepsAll_0 6 rfl rfl)
abbrev cX3_carriesAll : ByteArray := prog_17_method_125_code
def yX3_carriesAll : MethodName := ⟨RX3, "carriesAll", "(IZ)V"⟩
def dkwX3_carriesAll_8 : List UInt8 := [182, 2, 103, 177]
abbrev dktX3_carriesAll_8 : List UInt8 := dkwX3_carriesAll_8 ++ []
def dkwX3_carriesAll_7 : List UInt8 := [182, 2, 103, 42, 42, 180, 0, 58, 182, 2, 103, 42, 42, 180, 0, 61, 182, 2, 103, 42, 42, 180, 0, 136]
abbrev dktX3_carriesAll_7 : List UInt8 := dkwX3_carriesAll_7 ++ dktX3_carriesAll_8
def dkwX3_carriesAll_6 : List UInt8 := [182, 2, 103, 42, 42, 180, 0, 49, 182, 2, 103, 42, 42, 180, 0, 52, 182, 2, 103, 42, 42, 180, 0, 55]
abbrev dktX3_carriesAll_6 : List UInt8 := dkwX3_carriesAll_6 ++ dktX3_carriesAll_7
def dkwX3_carriesAll_5 : List UInt8 := [182, 2, 103, 42, 42, 180, 0, 40, 182, 2, 103, 42, 42, 180, 0, 43, 182, 2, 103, 42, 42, 180, 0, 46]
abbrev dktX3_carriesAll_5 : List UInt8 := dkwX3_carriesAll_5 ++ dktX3_carriesAll_6
def dkwX3_carriesAll_4 : List UInt8 := [182, 2, 103, 42, 42, 180, 0, 31, 182, 2, 103, 42, 42, 180, 0, 34, 182, 2, 103, 42, 42, 180, 0, 37]
abbrev dktX3_carriesAll_4 : List UInt8 := dkwX3_carriesAll_4 ++ dktX3_carriesAll_5
def dkwX3_carriesAll_3 : List UInt8 := [182, 2, 103, 42, 42, 180, 0, 22, 182, 2, 103, 42, 42, 180, 0, 25, 182, 2, 103, 42, 42, 180, 0, 28]
abbrev dktX3_carriesAll_3 : List UInt8 := dkwX3_carriesAll_3 ++ dktX3_carriesAll_4
def dkwX3_carriesAll_2 : List UInt8 := [182, 2, 103, 42, 42, 180, 0, 13, 182, 2, 103, 42, 42, 180, 0, 16, 182, 2, 103, 42, 42, 180, 0, 19]
abbrev dktX3_carriesAll_2 : List UInt8 := dkwX3_carriesAll_2 ++ dktX3_carriesAll_3
def dkwX3_carriesAll_1 : List UInt8 := [42, 42, 180, 0, 139, 182, 2, 103, 42, 42, 180, 0, 139, 3, 46, 181, 1, 103, 42, 42, 180, 0, 9]
abbrev dktX3_carriesAll_1 : List UInt8 := dkwX3_carriesAll_1 ++ dktX3_carriesAll_2
def dkwX3_carriesAll_0 : List UInt8 := [42, 17, 7, 108, 27, 104, 181, 2, 100, 42, 28, 181, 2, 97, 42, 180, 0, 139, 3, 42, 180, 1, 103, 79]
abbrev dktX3_carriesAll_0 : List UInt8 := dkwX3_carriesAll_0 ++ dktX3_carriesAll_1
theorem dksX3_carriesAll_0 : cX3_carriesAll.data.toList.drop 0 = dktX3_carriesAll_0 := by decide +kernel
theorem dksX3_carriesAll_1 : cX3_carriesAll.data.toList.drop 24 = dktX3_carriesAll_1 := dk_seg dksX3_carriesAll_0 24 rfl rfl
theorem dksX3_carriesAll_2 : cX3_carriesAll.data.toList.drop 47 = dktX3_carriesAll_2 := dk_seg dksX3_carriesAll_1 23 rfl rfl
theorem dksX3_carriesAll_3 : cX3_carriesAll.data.toList.drop 71 = dktX3_carriesAll_3 := dk_seg dksX3_carriesAll_2 24 rfl rfl
theorem dksX3_carriesAll_4 : cX3_carriesAll.data.toList.drop 95 = dktX3_carriesAll_4 := dk_seg dksX3_carriesAll_3 24 rfl rfl
theorem dksX3_carriesAll_5 : cX3_carriesAll.data.toList.drop 119 = dktX3_carriesAll_5 := dk_seg dksX3_carriesAll_4 24 rfl rfl
theorem dksX3_carriesAll_6 : cX3_carriesAll.data.toList.drop 143 = dktX3_carriesAll_6 := dk_seg dksX3_carriesAll_5 24 rfl rfl
theorem dksX3_carriesAll_7 : cX3_carriesAll.data.toList.drop 167 = dktX3_carriesAll_7 := dk_seg dksX3_carriesAll_6 24 rfl rfl
theorem dksX3_carriesAll_8 : cX3_carriesAll.data.toList.drop 191 = dktX3_carriesAll_8 := dk_seg dksX3_carriesAll_7 24 rfl rfl
theorem dX3_carriesAll_0 : decode cX3_carriesAll 0 = .ok (.aload_n 0, 1) := dk_42 (dk_at dksX3_carriesAll_0 0 rfl rfl)
theorem dX3_carriesAll_1 : decode cX3_carriesAll 1 = .ok (.sipush 1900, 3) := dk_17 7 108 (dk_at dksX3_carriesAll_0 1 rfl rfl)
theorem dX3_carriesAll_4 : decode cX3_carriesAll 4 = .ok (.iload_n 1, 1) := dk_27 (dk_at dksX3_carriesAll_0 4 rfl rfl)
theorem dX3_carriesAll_5 : decode cX3_carriesAll 5 = .ok (.imul, 1) := dk_104 (dk_at dksX3_carriesAll_0 5 rfl rfl)
theorem dX3_carriesAll_6 : decode cX3_carriesAll 6 = .ok (.putfield 612, 3) := dk_181 2 100 (dk_at dksX3_carriesAll_0 6 rfl rfl)
theorem dX3_carriesAll_9 : decode cX3_carriesAll 9 = .ok (.aload_n 0, 1) := dk_42 (dk_at dksX3_carriesAll_0 9 rfl rfl)
theorem dX3_carriesAll_10 : decode cX3_carriesAll 10 = .ok (.iload_n 2, 1) := dk_28 (dk_at dksX3_carriesAll_0 10 rfl rfl)
theorem dX3_carriesAll_11 : decode cX3_carriesAll 11 = .ok (.putfield 609, 3) := dk_181 2 97 (dk_at dksX3_carriesAll_0 11 rfl rfl)
theorem dX3_carriesAll_14 : decode cX3_carriesAll 14 = .ok (.aload_n 0, 1) := dk_42 (dk_at dksX3_carriesAll_0 14 rfl rfl)
theorem dX3_carriesAll_15 : decode cX3_carriesAll 15 = .ok (.getfield 139, 3) := dk_180 0 139 (dk_at dksX3_carriesAll_0 15 rfl rfl)
theorem dX3_carriesAll_18 : decode cX3_carriesAll 18 = .ok (.iconst 0, 1) := dk_3 (dk_at dksX3_carriesAll_0 18 rfl rfl)
theorem dX3_carriesAll_19 : decode cX3_carriesAll 19 = .ok (.aload_n 0, 1) := dk_42 (dk_at dksX3_carriesAll_0 19 rfl rfl)
theorem dX3_carriesAll_20 : decode cX3_carriesAll 20 = .ok (.getfield 359, 3) := dk_180 1 103 (dk_at dksX3_carriesAll_0 20 rfl rfl)
theorem dX3_carriesAll_23 : decode cX3_carriesAll 23 = .ok (.iastore, 1) := dk_79 (dk_at dksX3_carriesAll_0 23 rfl rfl)
theorem dX3_carriesAll_24 : decode cX3_carriesAll 24 = .ok (.aload_n 0, 1) := dk_42 (dk_at dksX3_carriesAll_1 0 rfl rfl)
theorem dX3_carriesAll_25 : decode cX3_carriesAll 25 = .ok (.aload_n 0, 1) := dk_42 (dk_at dksX3_carriesAll_1 1 rfl rfl)
theorem dX3_carriesAll_26 : decode cX3_carriesAll 26 = .ok (.getfield 139, 3) := dk_180 0 139 (dk_at dksX3_carriesAll_1 2 rfl rfl)
theorem dX3_carriesAll_29 : decode cX3_carriesAll 29 = .ok (.invokevirtual 615, 3) := dk_182 2 103 (dk_at dksX3_carriesAll_1 5 rfl rfl)
theorem dX3_carriesAll_32 : decode cX3_carriesAll 32 = .ok (.aload_n 0, 1) := dk_42 (dk_at dksX3_carriesAll_1 8 rfl rfl)
theorem dX3_carriesAll_33 : decode cX3_carriesAll 33 = .ok (.aload_n 0, 1) := dk_42 (dk_at dksX3_carriesAll_1 9 rfl rfl)
theorem dX3_carriesAll_34 : decode cX3_carriesAll 34 = .ok (.getfield 139, 3) := dk_180 0 139 (dk_at dksX3_carriesAll_1 10 rfl rfl)
theorem dX3_carriesAll_37 : decode cX3_carriesAll 37 = .ok (.iconst 0, 1) := dk_3 (dk_at dksX3_carriesAll_1 13 rfl rfl)
theorem dX3_carriesAll_38 : decode cX3_carriesAll 38 = .ok (.iaload, 1) := dk_46 (dk_at dksX3_carriesAll_1 14 rfl rfl)
theorem dX3_carriesAll_39 : decode cX3_carriesAll 39 = .ok (.putfield 359, 3) := dk_181 1 103 (dk_at dksX3_carriesAll_1 15 rfl rfl)
theorem dX3_carriesAll_42 : decode cX3_carriesAll 42 = .ok (.aload_n 0, 1) := dk_42 (dk_at dksX3_carriesAll_1 18 rfl rfl)
theorem dX3_carriesAll_43 : decode cX3_carriesAll 43 = .ok (.aload_n 0, 1) := dk_42 (dk_at dksX3_carriesAll_1 19 rfl rfl)
theorem dX3_carriesAll_44 : decode cX3_carriesAll 44 = .ok (.getfield 9, 3) := dk_180 0 9 (dk_at dksX3_carriesAll_1 20 rfl rfl)
theorem dX3_carriesAll_47 : decode cX3_carriesAll 47 = .ok (.invokevirtual 615, 3) := dk_182 2 103 (dk_at dksX3_carriesAll_2 0 rfl rfl)
theorem dX3_carriesAll_50 : decode cX3_carriesAll 50 = .ok (.aload_n 0, 1) := dk_42 (dk_at dksX3_carriesAll_2 3 rfl rfl)
theorem dX3_carriesAll_51 : decode cX3_carriesAll 51 = .ok (.aload_n 0, 1) := dk_42 (dk_at dksX3_carriesAll_2 4 rfl rfl)
theorem dX3_carriesAll_52 : decode cX3_carriesAll 52 = .ok (.getfield 13, 3) := dk_180 0 13 (dk_at dksX3_carriesAll_2 5 rfl rfl)
theorem dX3_carriesAll_55 : decode cX3_carriesAll 55 = .ok (.invokevirtual 615, 3) := dk_182 2 103 (dk_at dksX3_carriesAll_2 8 rfl rfl)
theorem dX3_carriesAll_58 : decode cX3_carriesAll 58 = .ok (.aload_n 0, 1) := dk_42 (dk_at dksX3_carriesAll_2 11 rfl rfl)
theorem dX3_carriesAll_59 : decode cX3_carriesAll 59 = .ok (.aload_n 0, 1) := dk_42 (dk_at dksX3_carriesAll_2 12 rfl rfl)
theorem dX3_carriesAll_60 : decode cX3_carriesAll 60 = .ok (.getfield 16, 3) := dk_180 0 16 (dk_at dksX3_carriesAll_2 13 rfl rfl)
theorem dX3_carriesAll_63 : decode cX3_carriesAll 63 = .ok (.invokevirtual 615, 3) := dk_182 2 103 (dk_at dksX3_carriesAll_2 16 rfl rfl)
theorem dX3_carriesAll_66 : decode cX3_carriesAll 66 = .ok (.aload_n 0, 1) := dk_42 (dk_at dksX3_carriesAll_2 19 rfl rfl)
theorem dX3_carriesAll_67 : decode cX3_carriesAll 67 = .ok (.aload_n 0, 1) := dk_42 (dk_at dksX3_carriesAll_2 20 rfl rfl)
theorem dX3_carriesAll_68 : decode cX3_carriesAll 68 = .ok (.getfield 19, 3) := dk_180 0 19 (dk_at dksX3_carriesAll_2 21 rfl rfl)
theorem dX3_carriesAll_71 : decode cX3_carriesAll 71 = .ok (.invokevirtual 615, 3) := dk_182 2 103 (dk_at dksX3_carriesAll_3 0 rfl rfl)
theorem dX3_carriesAll_74 : decode cX3_carriesAll 74 = .ok (.aload_n 0, 1) := dk_42 (dk_at dksX3_carriesAll_3 3 rfl rfl)
theorem dX3_carriesAll_75 : decode cX3_carriesAll 75 = .ok (.aload_n 0, 1) := dk_42 (dk_at dksX3_carriesAll_3 4 rfl rfl)
theorem dX3_carriesAll_76 : decode cX3_carriesAll 76 = .ok (.getfield 22, 3) := dk_180 0 22 (dk_at dksX3_carriesAll_3 5 rfl rfl)
theorem dX3_carriesAll_79 : decode cX3_carriesAll 79 = .ok (.invokevirtual 615, 3) := dk_182 2 103 (dk_at dksX3_carriesAll_3 8 rfl rfl)
theorem dX3_carriesAll_82 : decode cX3_carriesAll 82 = .ok (.aload_n 0, 1) := dk_42 (dk_at dksX3_carriesAll_3 11 rfl rfl)
theorem dX3_carriesAll_83 : decode cX3_carriesAll 83 = .ok (.aload_n 0, 1) := dk_42 (dk_at dksX3_carriesAll_3 12 rfl rfl)
theorem dX3_carriesAll_84 : decode cX3_carriesAll 84 = .ok (.getfield 25, 3) := dk_180 0 25 (dk_at dksX3_carriesAll_3 13 rfl rfl)
theorem dX3_carriesAll_87 : decode cX3_carriesAll 87 = .ok (.invokevirtual 615, 3) := dk_182 2 103 (dk_at dksX3_carriesAll_3 16 rfl rfl)
theorem dX3_carriesAll_90 : decode cX3_carriesAll 90 = .ok (.aload_n 0, 1) := dk_42 (dk_at dksX3_carriesAll_3 19 rfl rfl)
theorem dX3_carriesAll_91 : decode cX3_carriesAll 91 = .ok (.aload_n 0, 1) := dk_42 (dk_at dksX3_carriesAll_3 20 rfl rfl)
theorem dX3_carriesAll_92 : decode cX3_carriesAll 92 = .ok (.getfield 28, 3) := dk_180 0 28 (dk_at dksX3_carriesAll_3 21 rfl rfl)
theorem dX3_carriesAll_95 : decode cX3_carriesAll 95 = .ok (.invokevirtual 615, 3) := dk_182 2 103 (dk_at dksX3_carriesAll_4 0 rfl rfl)
theorem dX3_carriesAll_98 : decode cX3_carriesAll 98 = .ok (.aload_n 0, 1) := dk_42 (dk_at dksX3_carriesAll_4 3 rfl rfl)
theorem dX3_carriesAll_99 : decode cX3_carriesAll 99 = .ok (.aload_n 0, 1) := dk_42 (dk_at dksX3_carriesAll_4 4 rfl rfl)
theorem dX3_carriesAll_100 : decode cX3_carriesAll 100 = .ok (.getfield 31, 3) := dk_180 0 31 (dk_at dksX3_carriesAll_4 5 rfl rfl)
theorem dX3_carriesAll_103 : decode cX3_carriesAll 103 = .ok (.invokevirtual 615, 3) := dk_182 2 103 (dk_at dksX3_carriesAll_4 8 rfl rfl)
theorem dX3_carriesAll_106 : decode cX3_carriesAll 106 = .ok (.aload_n 0, 1) := dk_42 (dk_at dksX3_carriesAll_4 11 rfl rfl)
theorem dX3_carriesAll_107 : decode cX3_carriesAll 107 = .ok (.aload_n 0, 1) := dk_42 (dk_at dksX3_carriesAll_4 12 rfl rfl)
theorem dX3_carriesAll_108 : decode cX3_carriesAll 108 = .ok (.getfield 34, 3) := dk_180 0 34 (dk_at dksX3_carriesAll_4 13 rfl rfl)
theorem dX3_carriesAll_111 : decode cX3_carriesAll 111 = .ok (.invokevirtual 615, 3) := dk_182 2 103 (dk_at dksX3_carriesAll_4 16 rfl rfl)
theorem dX3_carriesAll_114 : decode cX3_carriesAll 114 = .ok (.aload_n 0, 1) := dk_42 (dk_at dksX3_carriesAll_4 19 rfl rfl)
theorem dX3_carriesAll_115 : decode cX3_carriesAll 115 = .ok (.aload_n 0, 1) := dk_42 (dk_at dksX3_carriesAll_4 20 rfl rfl)
theorem dX3_carriesAll_116 : decode cX3_carriesAll 116 = .ok (.getfield 37, 3) := dk_180 0 37 (dk_at dksX3_carriesAll_4 21 rfl rfl)
theorem dX3_carriesAll_119 : decode cX3_carriesAll 119 = .ok (.invokevirtual 615, 3) := dk_182 2 103 (dk_at dksX3_carriesAll_5 0 rfl rfl)
theorem dX3_carriesAll_122 : decode cX3_carriesAll 122 = .ok (.aload_n 0, 1) := dk_42 (dk_at dksX3_carriesAll_5 3 rfl rfl)
theorem dX3_carriesAll_123 : decode cX3_carriesAll 123 = .ok (.aload_n 0, 1) := dk_42 (dk_at dksX3_carriesAll_5 4 rfl rfl)
theorem dX3_carriesAll_124 : decode cX3_carriesAll 124 = .ok (.getfield 40, 3) := dk_180 0 40 (dk_at dksX3_carriesAll_5 5 rfl rfl)
theorem dX3_carriesAll_127 : decode cX3_carriesAll 127 = .ok (.invokevirtual 615, 3) := dk_182 2 103 (dk_at dksX3_carriesAll_5 8 rfl rfl)
theorem dX3_carriesAll_130 : decode cX3_carriesAll 130 = .ok (.aload_n 0, 1) := dk_42 (dk_at dksX3_carriesAll_5 11 rfl rfl)
theorem dX3_carriesAll_131 : decode cX3_carriesAll 131 = .ok (.aload_n 0, 1) := dk_42 (dk_at dksX3_carriesAll_5 12 rfl rfl)
theorem dX3_carriesAll_132 : decode cX3_carriesAll 132 = .ok (.getfield 43, 3) := dk_180 0 43 (dk_at dksX3_carriesAll_5 13 rfl rfl)
theorem dX3_carriesAll_135 : decode cX3_carriesAll 135 = .ok (.invokevirtual 615, 3) := dk_182 2 103 (dk_at dksX3_carriesAll_5 16 rfl rfl)
theorem dX3_carriesAll_138 : decode cX3_carriesAll 138 = .ok (.aload_n 0, 1) := dk_42 (dk_at dksX3_carriesAll_5 19 rfl rfl)
theorem dX3_carriesAll_139 : decode cX3_carriesAll 139 = .ok (.aload_n 0, 1) := dk_42 (dk_at dksX3_carriesAll_5 20 rfl rfl)
theorem dX3_carriesAll_140 : decode cX3_carriesAll 140 = .ok (.getfield 46, 3) := dk_180 0 46 (dk_at dksX3_carriesAll_5 21 rfl rfl)
theorem dX3_carriesAll_143 : decode cX3_carriesAll 143 = .ok (.invokevirtual 615, 3) := dk_182 2 103 (dk_at dksX3_carriesAll_6 0 rfl rfl)
theorem dX3_carriesAll_146 : decode cX3_carriesAll 146 = .ok (.aload_n 0, 1) := dk_42 (dk_at dksX3_carriesAll_6 3 rfl rfl)
theorem dX3_carriesAll_147 : decode cX3_carriesAll 147 = .ok (.aload_n 0, 1) := dk_42 (dk_at dksX3_carriesAll_6 4 rfl rfl)
theorem dX3_carriesAll_148 : decode cX3_carriesAll 148 = .ok (.getfield 49, 3) := dk_180 0 49 (dk_at dksX3_carriesAll_6 5 rfl rfl)
theorem dX3_carriesAll_151 : decode cX3_carriesAll 151 = .ok (.invokevirtual 615, 3) := dk_182 2 103 (dk_at dksX3_carriesAll_6 8 rfl rfl)
theorem dX3_carriesAll_154 : decode cX3_carriesAll 154 = .ok (.aload_n 0, 1) := dk_42 (dk_at dksX3_carriesAll_6 11 rfl rfl)
theorem dX3_carriesAll_155 : decode cX3_carriesAll 155 = .ok (.aload_n 0, 1) := dk_42 (dk_at dksX3_carriesAll_6 12 rfl rfl)
theorem dX3_carriesAll_156 : decode cX3_carriesAll 156 = .ok (.getfield 52, 3) := dk_180 0 52 (dk_at dksX3_carriesAll_6 13 rfl rfl)
theorem dX3_carriesAll_159 : decode cX3_carriesAll 159 = .ok (.invokevirtual 615, 3) := dk_182 2 103 (dk_at dksX3_carriesAll_6 16 rfl rfl)
theorem dX3_carriesAll_162 : decode cX3_carriesAll 162 = .ok (.aload_n 0, 1) := dk_42 (dk_at dksX3_carriesAll_6 19 rfl rfl)
theorem dX3_carriesAll_163 : decode cX3_carriesAll 163 = .ok (.aload_n 0, 1) := dk_42 (dk_at dksX3_carriesAll_6 20 rfl rfl)
theorem dX3_carriesAll_164 : decode cX3_carriesAll 164 = .ok (.getfield 55, 3) := dk_180 0 55 (dk_at dksX3_carriesAll_6 21 rfl rfl)
theorem dX3_carriesAll_167 : decode cX3_carriesAll 167 = .ok (.invokevirtual 615, 3) := dk_182 2 103 (dk_at dksX3_carriesAll_7 0 rfl rfl)
theorem dX3_carriesAll_170 : decode cX3_carriesAll 170 = .ok (.aload_n 0, 1) := dk_42 (dk_at dksX3_carriesAll_7 3 rfl rfl)
theorem dX3_carriesAll_171 : decode cX3_carriesAll 171 = .ok (.aload_n 0, 1) := dk_42 (dk_at dksX3_carriesAll_7 4 rfl rfl)
theorem dX3_carriesAll_172 : decode cX3_carriesAll 172 = .ok (.getfield 58, 3) := dk_180 0 58 (dk_at dksX3_carriesAll_7 5 rfl rfl)
theorem dX3_carriesAll_175 : decode cX3_carriesAll 175 = .ok (.invokevirtual 615, 3) := dk_182 2 103 (dk_at dksX3_carriesAll_7 8 rfl rfl)
theorem dX3_carriesAll_178 : decode cX3_carriesAll 178 = .ok (.aload_n 0, 1) := dk_42 (dk_at dksX3_carriesAll_7 11 rfl rfl)
theorem dX3_carriesAll_179 : decode cX3_carriesAll 179 = .ok (.aload_n 0, 1) := dk_42 (dk_at dksX3_carriesAll_7 12 rfl rfl)
theorem dX3_carriesAll_180 : decode cX3_carriesAll 180 = .ok (.getfield 61, 3) := dk_180 0 61 (dk_at dksX3_carriesAll_7 13 rfl rfl)
theorem dX3_carriesAll_183 : decode cX3_carriesAll 183 = .ok (.invokevirtual 615, 3) := dk_182 2 103 (dk_at dksX3_carriesAll_7 16 rfl rfl)
theorem dX3_carriesAll_186 : decode cX3_carriesAll 186 = .ok (.aload_n 0, 1) := dk_42 (dk_at dksX3_carriesAll_7 19 rfl rfl)
theorem dX3_carriesAll_187 : decode cX3_carriesAll 187 = .ok (.aload_n 0, 1) := dk_42 (dk_at dksX3_carriesAll_7 20 rfl rfl)
theorem dX3_carriesAll_188 : decode cX3_carriesAll 188 = .ok (.getfield 136, 3) := dk_180 0 136 (dk_at dksX3_carriesAll_7 21 rfl rfl)
theorem dX3_carriesAll_191 : decode cX3_carriesAll 191 = .ok (.invokevirtual 615, 3) := dk_182 2 103 (dk_at dksX3_carriesAll_8 0 rfl rfl)
theorem dX3_carriesAll_194 : decode cX3_carriesAll 194 = .ok (.return_, 1) := dk_177 (dk_at dksX3_carriesAll_8 3 rfl rfl)
abbrev cX3_carryRow : ByteArray := prog_17_method_124_code
def yX3_carryRow : MethodName := ⟨RX3, "carryRow", "([I)V"⟩
def dkwX3_carryRow_2 : List UInt8 := [180, 2, 100, 4, 96, 181, 2, 100, 132, 2, 1, 167, 255, 203, 177]
abbrev dktX3_carryRow_2 : List UInt8 := dkwX3_carryRow_2 ++ []
def dkwX3_carryRow_1 : List UInt8 := [180, 2, 100, 46, 79, 167, 0, 15, 42, 180, 0, 167, 42, 180, 2, 100, 43, 28, 46, 79, 42, 89]
abbrev dktX3_carryRow_1 : List UInt8 := dkwX3_carryRow_1 ++ dktX3_carryRow_2
def dkwX3_carryRow_0 : List UInt8 := [3, 61, 28, 43, 190, 162, 0, 53, 42, 180, 2, 97, 153, 0, 18, 43, 28, 42, 180, 0, 167, 42]
abbrev dktX3_carryRow_0 : List UInt8 := dkwX3_carryRow_0 ++ dktX3_carryRow_1
theorem dksX3_carryRow_0 : cX3_carryRow.data.toList.drop 0 = dktX3_carryRow_0 := by decide +kernel
theorem dksX3_carryRow_1 : cX3_carryRow.data.toList.drop 22 = dktX3_carryRow_1 := dk_seg dksX3_carryRow_0 22 rfl rfl
theorem dksX3_carryRow_2 : cX3_carryRow.data.toList.drop 44 = dktX3_carryRow_2 := dk_seg dksX3_carryRow_1 22 rfl rfl
theorem dX3_carryRow_0 : decode cX3_carryRow 0 = .ok (.iconst 0, 1) := dk_3 (dk_at dksX3_carryRow_0 0 rfl rfl)
theorem dX3_carryRow_1 : decode cX3_carryRow 1 = .ok (.istore_n 2, 1) := dk_61 (dk_at dksX3_carryRow_0 1 rfl rfl)
theorem dX3_carryRow_2 : decode cX3_carryRow 2 = .ok (.iload_n 2, 1) := dk_28 (dk_at dksX3_carryRow_0 2 rfl rfl)
theorem dX3_carryRow_3 : decode cX3_carryRow 3 = .ok (.aload_n 1, 1) := dk_43 (dk_at dksX3_carryRow_0 3 rfl rfl)
theorem dX3_carryRow_4 : decode cX3_carryRow 4 = .ok (.arraylength, 1) := dk_190 (dk_at dksX3_carryRow_0 4 rfl rfl)
theorem dX3_carryRow_5 : decode cX3_carryRow 5 = .ok (.if_icmp .ge 53, 3) := dk_162 0 53 (dk_at dksX3_carryRow_0 5 rfl rfl)
theorem dX3_carryRow_8 : decode cX3_carryRow 8 = .ok (.aload_n 0, 1) := dk_42 (dk_at dksX3_carryRow_0 8 rfl rfl)
theorem dX3_carryRow_9 : decode cX3_carryRow 9 = .ok (.getfield 609, 3) := dk_180 2 97 (dk_at dksX3_carryRow_0 9 rfl rfl)
theorem dX3_carryRow_12 : decode cX3_carryRow 12 = .ok (.ifCond .eq 18, 3) := dk_153 0 18 (dk_at dksX3_carryRow_0 12 rfl rfl)
theorem dX3_carryRow_15 : decode cX3_carryRow 15 = .ok (.aload_n 1, 1) := dk_43 (dk_at dksX3_carryRow_0 15 rfl rfl)
theorem dX3_carryRow_16 : decode cX3_carryRow 16 = .ok (.iload_n 2, 1) := dk_28 (dk_at dksX3_carryRow_0 16 rfl rfl)
theorem dX3_carryRow_17 : decode cX3_carryRow 17 = .ok (.aload_n 0, 1) := dk_42 (dk_at dksX3_carryRow_0 17 rfl rfl)
theorem dX3_carryRow_18 : decode cX3_carryRow 18 = .ok (.getfield 167, 3) := dk_180 0 167 (dk_at dksX3_carryRow_0 18 rfl rfl)
theorem dX3_carryRow_21 : decode cX3_carryRow 21 = .ok (.aload_n 0, 1) := dk_42 (dk_at dksX3_carryRow_0 21 rfl rfl)
theorem dX3_carryRow_22 : decode cX3_carryRow 22 = .ok (.getfield 612, 3) := dk_180 2 100 (dk_at dksX3_carryRow_1 0 rfl rfl)
theorem dX3_carryRow_25 : decode cX3_carryRow 25 = .ok (.iaload, 1) := dk_46 (dk_at dksX3_carryRow_1 3 rfl rfl)
theorem dX3_carryRow_26 : decode cX3_carryRow 26 = .ok (.iastore, 1) := dk_79 (dk_at dksX3_carryRow_1 4 rfl rfl)
theorem dX3_carryRow_27 : decode cX3_carryRow 27 = .ok (.goto 15, 3) := dk_167 0 15 (dk_at dksX3_carryRow_1 5 rfl rfl)
theorem dX3_carryRow_30 : decode cX3_carryRow 30 = .ok (.aload_n 0, 1) := dk_42 (dk_at dksX3_carryRow_1 8 rfl rfl)
theorem dX3_carryRow_31 : decode cX3_carryRow 31 = .ok (.getfield 167, 3) := dk_180 0 167 (dk_at dksX3_carryRow_1 9 rfl rfl)
theorem dX3_carryRow_34 : decode cX3_carryRow 34 = .ok (.aload_n 0, 1) := dk_42 (dk_at dksX3_carryRow_1 12 rfl rfl)
theorem dX3_carryRow_35 : decode cX3_carryRow 35 = .ok (.getfield 612, 3) := dk_180 2 100 (dk_at dksX3_carryRow_1 13 rfl rfl)
theorem dX3_carryRow_38 : decode cX3_carryRow 38 = .ok (.aload_n 1, 1) := dk_43 (dk_at dksX3_carryRow_1 16 rfl rfl)
theorem dX3_carryRow_39 : decode cX3_carryRow 39 = .ok (.iload_n 2, 1) := dk_28 (dk_at dksX3_carryRow_1 17 rfl rfl)
theorem dX3_carryRow_40 : decode cX3_carryRow 40 = .ok (.iaload, 1) := dk_46 (dk_at dksX3_carryRow_1 18 rfl rfl)
theorem dX3_carryRow_41 : decode cX3_carryRow 41 = .ok (.iastore, 1) := dk_79 (dk_at dksX3_carryRow_1 19 rfl rfl)
theorem dX3_carryRow_42 : decode cX3_carryRow 42 = .ok (.aload_n 0, 1) := dk_42 (dk_at dksX3_carryRow_1 20 rfl rfl)
theorem dX3_carryRow_43 : decode cX3_carryRow 43 = .ok (.dup, 1) := dk_89 (dk_at dksX3_carryRow_1 21 rfl rfl)
theorem dX3_carryRow_44 : decode cX3_carryRow 44 = .ok (.getfield 612, 3) := dk_180 2 100 (dk_at dksX3_carryRow_2 0 rfl rfl)
theorem dX3_carryRow_47 : decode cX3_carryRow 47 = .ok (.iconst 1, 1) := dk_4 (dk_at dksX3_carryRow_2 3 rfl rfl)
theorem dX3_carryRow_48 : decode cX3_carryRow 48 = .ok (.iadd, 1) := dk_96 (dk_at dksX3_carryRow_2 4 rfl rfl)
theorem dX3_carryRow_49 : decode cX3_carryRow 49 = .ok (.putfield 612, 3) := dk_181 2 100 (dk_at dksX3_carryRow_2 5 rfl rfl)
theorem dX3_carryRow_52 : decode cX3_carryRow 52 = .ok (.iinc 2 1, 3) := dk_132 2 1 (dk_at dksX3_carryRow_2 8 rfl rfl)
theorem dX3_carryRow_55 : decode cX3_carryRow 55 = .ok (.goto (-53), 3) := dk_167 255 203 (dk_at dksX3_carryRow_2 11 rfl rfl)
theorem dX3_carryRow_58 : decode cX3_carryRow 58 = .ok (.return_, 1) := dk_177 (dk_at dksX3_carryRow_2 14 rfl rfl)
abbrev cX3_thingsAt : ByteArray := prog_17_method_94_code
def yX3_thingsAt : MethodName := ⟨RX3, "thingsAt", "(I)I"⟩
def dkwX3_thingsAt_1 : List UInt8 := [160, 0, 9, 4, 29, 120, 167, 0, 4, 3, 128, 61, 132, 3, 1, 167, 255, 223, 28, 172]
abbrev dktX3_thingsAt_1 : List UInt8 := dkwX3_thingsAt_1 ++ []
def dkwX3_thingsAt_0 : List UInt8 := [3, 61, 3, 62, 29, 42, 180, 0, 9, 6, 46, 162, 0, 29, 28, 42, 180, 0, 34, 29, 46, 27]
abbrev dktX3_thingsAt_0 : List UInt8 := dkwX3_thingsAt_0 ++ dktX3_thingsAt_1
theorem dksX3_thingsAt_0 : cX3_thingsAt.data.toList.drop 0 = dktX3_thingsAt_0 := by decide +kernel
theorem dksX3_thingsAt_1 : cX3_thingsAt.data.toList.drop 22 = dktX3_thingsAt_1 := dk_seg dksX3_thingsAt_0 22 rfl rfl
theorem dX3_thingsAt_0 : decode cX3_thingsAt 0 = .ok (.iconst 0, 1) := dk_3 (dk_at dksX3_thingsAt_0 0 rfl rfl)
theorem dX3_thingsAt_1 : decode cX3_thingsAt 1 = .ok (.istore_n 2, 1) := dk_61 (dk_at dksX3_thingsAt_0 1 rfl rfl)
theorem dX3_thingsAt_2 : decode cX3_thingsAt 2 = .ok (.iconst 0, 1) := dk_3 (dk_at dksX3_thingsAt_0 2 rfl rfl)
theorem dX3_thingsAt_3 : decode cX3_thingsAt 3 = .ok (.istore_n 3, 1) := dk_62 (dk_at dksX3_thingsAt_0 3 rfl rfl)
theorem dX3_thingsAt_4 : decode cX3_thingsAt 4 = .ok (.iload_n 3, 1) := dk_29 (dk_at dksX3_thingsAt_0 4 rfl rfl)
theorem dX3_thingsAt_5 : decode cX3_thingsAt 5 = .ok (.aload_n 0, 1) := dk_42 (dk_at dksX3_thingsAt_0 5 rfl rfl)
theorem dX3_thingsAt_6 : decode cX3_thingsAt 6 = .ok (.getfield 9, 3) := dk_180 0 9 (dk_at dksX3_thingsAt_0 6 rfl rfl)
theorem dX3_thingsAt_9 : decode cX3_thingsAt 9 = .ok (.iconst 3, 1) := dk_6 (dk_at dksX3_thingsAt_0 9 rfl rfl)
theorem dX3_thingsAt_10 : decode cX3_thingsAt 10 = .ok (.iaload, 1) := dk_46 (dk_at dksX3_thingsAt_0 10 rfl rfl)
theorem dX3_thingsAt_11 : decode cX3_thingsAt 11 = .ok (.if_icmp .ge 29, 3) := dk_162 0 29 (dk_at dksX3_thingsAt_0 11 rfl rfl)
theorem dX3_thingsAt_14 : decode cX3_thingsAt 14 = .ok (.iload_n 2, 1) := dk_28 (dk_at dksX3_thingsAt_0 14 rfl rfl)
theorem dX3_thingsAt_15 : decode cX3_thingsAt 15 = .ok (.aload_n 0, 1) := dk_42 (dk_at dksX3_thingsAt_0 15 rfl rfl)
theorem dX3_thingsAt_16 : decode cX3_thingsAt 16 = .ok (.getfield 34, 3) := dk_180 0 34 (dk_at dksX3_thingsAt_0 16 rfl rfl)
theorem dX3_thingsAt_19 : decode cX3_thingsAt 19 = .ok (.iload_n 3, 1) := dk_29 (dk_at dksX3_thingsAt_0 19 rfl rfl)
theorem dX3_thingsAt_20 : decode cX3_thingsAt 20 = .ok (.iaload, 1) := dk_46 (dk_at dksX3_thingsAt_0 20 rfl rfl)
theorem dX3_thingsAt_21 : decode cX3_thingsAt 21 = .ok (.iload_n 1, 1) := dk_27 (dk_at dksX3_thingsAt_0 21 rfl rfl)
theorem dX3_thingsAt_22 : decode cX3_thingsAt 22 = .ok (.if_icmp .ne 9, 3) := dk_160 0 9 (dk_at dksX3_thingsAt_1 0 rfl rfl)
theorem dX3_thingsAt_25 : decode cX3_thingsAt 25 = .ok (.iconst 1, 1) := dk_4 (dk_at dksX3_thingsAt_1 3 rfl rfl)
theorem dX3_thingsAt_26 : decode cX3_thingsAt 26 = .ok (.iload_n 3, 1) := dk_29 (dk_at dksX3_thingsAt_1 4 rfl rfl)
theorem dX3_thingsAt_27 : decode cX3_thingsAt 27 = .ok (.ishl, 1) := dk_120 (dk_at dksX3_thingsAt_1 5 rfl rfl)
theorem dX3_thingsAt_28 : decode cX3_thingsAt 28 = .ok (.goto 4, 3) := dk_167 0 4 (dk_at dksX3_thingsAt_1 6 rfl rfl)
theorem dX3_thingsAt_31 : decode cX3_thingsAt 31 = .ok (.iconst 0, 1) := dk_3 (dk_at dksX3_thingsAt_1 9 rfl rfl)
theorem dX3_thingsAt_32 : decode cX3_thingsAt 32 = .ok (.ior, 1) := dk_128 (dk_at dksX3_thingsAt_1 10 rfl rfl)
theorem dX3_thingsAt_33 : decode cX3_thingsAt 33 = .ok (.istore_n 2, 1) := dk_61 (dk_at dksX3_thingsAt_1 11 rfl rfl)
theorem dX3_thingsAt_34 : decode cX3_thingsAt 34 = .ok (.iinc 3 1, 3) := dk_132 3 1 (dk_at dksX3_thingsAt_1 12 rfl rfl)
theorem dX3_thingsAt_37 : decode cX3_thingsAt 37 = .ok (.goto (-33), 3) := dk_167 255 223 (dk_at dksX3_thingsAt_1 15 rfl rfl)
theorem dX3_thingsAt_40 : decode cX3_thingsAt 40 = .ok (.iload_n 2, 1) := dk_28 (dk_at dksX3_thingsAt_1 18 rfl rfl)
theorem dX3_thingsAt_41 : decode cX3_thingsAt 41 = .ok (.ireturn, 1) := dk_172 (dk_at dksX3_thingsAt_1 19 rfl rfl)
abbrev cX3_laysBack : ByteArray := prog_17_method_93_code
def yX3_laysBack : MethodName := ⟨RX3, "laysBack", "()V"⟩
def dkwX3_laysBack_0 : List UInt8 := [42, 7, 4, 182, 2, 4, 177]
abbrev dktX3_laysBack_0 : List UInt8 := dkwX3_laysBack_0 ++ []
theorem dksX3_laysBack_0 : cX3_laysBack.data.toList.drop 0 = dktX3_laysBack_0 := by decide +kernel
theorem dX3_laysBack_0 : decode cX3_laysBack 0 = .ok (.aload_n 0, 1) := dk_42 (dk_at dksX3_laysBack_0 0 rfl rfl)
theorem dX3_laysBack_1 : decode cX3_laysBack 1 = .ok (.iconst 4, 1) := dk_7 (dk_at dksX3_laysBack_0 1 rfl rfl)
theorem dX3_laysBack_2 : decode cX3_laysBack 2 = .ok (.iconst 1, 1) := dk_4 (dk_at dksX3_laysBack_0 2 rfl rfl)
theorem dX3_laysBack_3 : decode cX3_laysBack 3 = .ok (.invokevirtual 516, 3) := dk_182 2 4 (dk_at dksX3_laysBack_0 3 rfl rfl)
theorem dX3_laysBack_6 : decode cX3_laysBack 6 = .ok (.return_, 1) := dk_177 (dk_at dksX3_laysBack_0 6 rfl rfl)
abbrev cX3_sinks : ByteArray := prog_17_method_96_code
def yX3_sinks : MethodName := ⟨RX3, "sinks", "(I)I"⟩
def dkwX3_sinks_2 : List UInt8 := [182, 2, 15, 28, 172]
abbrev dktX3_sinks_2 : List UInt8 := dkwX3_sinks_2 ++ []
def dkwX3_sinks_1 : List UInt8 := [180, 0, 34, 27, 46, 154, 0, 11, 42, 182, 1, 237, 87, 167, 255, 235, 42, 180, 0, 37, 27, 46, 61, 42]
abbrev dktX3_sinks_1 : List UInt8 := dkwX3_sinks_1 ++ dktX3_sinks_2
def dkwX3_sinks_0 : List UInt8 := [42, 27, 182, 0, 180, 154, 0, 5, 2, 172, 42, 182, 2, 9, 42, 182, 1, 231, 158, 0, 20, 42]
abbrev dktX3_sinks_0 : List UInt8 := dkwX3_sinks_0 ++ dktX3_sinks_1
theorem dksX3_sinks_0 : cX3_sinks.data.toList.drop 0 = dktX3_sinks_0 := by decide +kernel
theorem dksX3_sinks_1 : cX3_sinks.data.toList.drop 22 = dktX3_sinks_1 := dk_seg dksX3_sinks_0 22 rfl rfl
theorem dksX3_sinks_2 : cX3_sinks.data.toList.drop 46 = dktX3_sinks_2 := dk_seg dksX3_sinks_1 24 rfl rfl
theorem dX3_sinks_0 : decode cX3_sinks 0 = .ok (.aload_n 0, 1) := dk_42 (dk_at dksX3_sinks_0 0 rfl rfl)
theorem dX3_sinks_1 : decode cX3_sinks 1 = .ok (.iload_n 1, 1) := dk_27 (dk_at dksX3_sinks_0 1 rfl rfl)
theorem dX3_sinks_2 : decode cX3_sinks 2 = .ok (.invokevirtual 180, 3) := dk_182 0 180 (dk_at dksX3_sinks_0 2 rfl rfl)
theorem dX3_sinks_5 : decode cX3_sinks 5 = .ok (.ifCond .ne 5, 3) := dk_154 0 5 (dk_at dksX3_sinks_0 5 rfl rfl)
theorem dX3_sinks_8 : decode cX3_sinks 8 = .ok (.iconst (-1), 1) := dk_2 (dk_at dksX3_sinks_0 8 rfl rfl)
theorem dX3_sinks_9 : decode cX3_sinks 9 = .ok (.ireturn, 1) := dk_172 (dk_at dksX3_sinks_0 9 rfl rfl)
theorem dX3_sinks_10 : decode cX3_sinks 10 = .ok (.aload_n 0, 1) := dk_42 (dk_at dksX3_sinks_0 10 rfl rfl)
theorem dX3_sinks_11 : decode cX3_sinks 11 = .ok (.invokevirtual 521, 3) := dk_182 2 9 (dk_at dksX3_sinks_0 11 rfl rfl)
theorem dX3_sinks_14 : decode cX3_sinks 14 = .ok (.aload_n 0, 1) := dk_42 (dk_at dksX3_sinks_0 14 rfl rfl)
theorem dX3_sinks_15 : decode cX3_sinks 15 = .ok (.invokevirtual 487, 3) := dk_182 1 231 (dk_at dksX3_sinks_0 15 rfl rfl)
theorem dX3_sinks_18 : decode cX3_sinks 18 = .ok (.ifCond .le 20, 3) := dk_158 0 20 (dk_at dksX3_sinks_0 18 rfl rfl)
theorem dX3_sinks_21 : decode cX3_sinks 21 = .ok (.aload_n 0, 1) := dk_42 (dk_at dksX3_sinks_0 21 rfl rfl)
theorem dX3_sinks_22 : decode cX3_sinks 22 = .ok (.getfield 34, 3) := dk_180 0 34 (dk_at dksX3_sinks_1 0 rfl rfl)
theorem dX3_sinks_25 : decode cX3_sinks 25 = .ok (.iload_n 1, 1) := dk_27 (dk_at dksX3_sinks_1 3 rfl rfl)
theorem dX3_sinks_26 : decode cX3_sinks 26 = .ok (.iaload, 1) := dk_46 (dk_at dksX3_sinks_1 4 rfl rfl)
theorem dX3_sinks_27 : decode cX3_sinks 27 = .ok (.ifCond .ne 11, 3) := dk_154 0 11 (dk_at dksX3_sinks_1 5 rfl rfl)
theorem dX3_sinks_30 : decode cX3_sinks 30 = .ok (.aload_n 0, 1) := dk_42 (dk_at dksX3_sinks_1 8 rfl rfl)
theorem dX3_sinks_31 : decode cX3_sinks 31 = .ok (.invokevirtual 493, 3) := dk_182 1 237 (dk_at dksX3_sinks_1 9 rfl rfl)
theorem dX3_sinks_34 : decode cX3_sinks 34 = .ok (.pop, 1) := dk_87 (dk_at dksX3_sinks_1 12 rfl rfl)
theorem dX3_sinks_35 : decode cX3_sinks 35 = .ok (.goto (-21), 3) := dk_167 255 235 (dk_at dksX3_sinks_1 13 rfl rfl)
theorem dX3_sinks_38 : decode cX3_sinks 38 = .ok (.aload_n 0, 1) := dk_42 (dk_at dksX3_sinks_1 16 rfl rfl)
theorem dX3_sinks_39 : decode cX3_sinks 39 = .ok (.getfield 37, 3) := dk_180 0 37 (dk_at dksX3_sinks_1 17 rfl rfl)
theorem dX3_sinks_42 : decode cX3_sinks 42 = .ok (.iload_n 1, 1) := dk_27 (dk_at dksX3_sinks_1 20 rfl rfl)
theorem dX3_sinks_43 : decode cX3_sinks 43 = .ok (.iaload, 1) := dk_46 (dk_at dksX3_sinks_1 21 rfl rfl)
theorem dX3_sinks_44 : decode cX3_sinks 44 = .ok (.istore_n 2, 1) := dk_61 (dk_at dksX3_sinks_1 22 rfl rfl)
theorem dX3_sinks_45 : decode cX3_sinks 45 = .ok (.aload_n 0, 1) := dk_42 (dk_at dksX3_sinks_1 23 rfl rfl)
theorem dX3_sinks_46 : decode cX3_sinks 46 = .ok (.invokevirtual 527, 3) := dk_182 2 15 (dk_at dksX3_sinks_2 0 rfl rfl)
theorem dX3_sinks_49 : decode cX3_sinks 49 = .ok (.iload_n 2, 1) := dk_28 (dk_at dksX3_sinks_2 3 rfl rfl)
theorem dX3_sinks_50 : decode cX3_sinks 50 = .ok (.ireturn, 1) := dk_172 (dk_at dksX3_sinks_2 4 rfl rfl)
abbrev cX3_bearers : ByteArray := prog_17_method_98_code
def yX3_bearers : MethodName := ⟨RX3, "bearers", "(II)I"⟩
def dkwX3_bearers_5 : List UInt8 := [167, 0, 8, 21, 4, 184, 1, 204, 172]
abbrev dktX3_bearers_5 : List UInt8 := dkwX3_bearers_5 ++ []
def dkwX3_bearers_4 : List UInt8 := [21, 5, 54, 4, 132, 5, 1, 167, 255, 203, 21, 4, 16, 254, 159, 0, 8, 28, 4, 160, 0, 8, 21, 4]
abbrev dktX3_bearers_4 : List UInt8 := dkwX3_bearers_4 ++ dktX3_bearers_5
def dkwX3_bearers_3 : List UInt8 := [21, 5, 184, 1, 204, 21, 4, 184, 1, 204, 162, 0, 18, 42, 27, 21, 5, 128, 182, 2, 18, 153, 0, 7]
abbrev dktX3_bearers_3 : List UInt8 := dkwX3_bearers_3 ++ dktX3_bearers_4
def dkwX3_bearers_2 : List UInt8 := [54, 5, 21, 5, 29, 163, 0, 53, 21, 5, 29, 2, 130, 126, 154, 0, 38, 21, 4, 16, 254, 159, 0, 16]
abbrev dktX3_bearers_2 : List UInt8 := dkwX3_bearers_2 ++ dktX3_bearers_3
def dkwX3_bearers_1 : List UInt8 := [9, 10, 184, 0, 176, 154, 0, 5, 2, 172, 42, 182, 1, 137, 27, 2, 130, 126, 62, 16, 254, 54, 4, 3]
abbrev dktX3_bearers_1 : List UInt8 := dkwX3_bearers_1 ++ dktX3_bearers_2
def dkwX3_bearers_0 : List UInt8 := [42, 182, 1, 174, 153, 0, 28, 27, 155, 0, 24, 27, 42, 182, 1, 137, 2, 130, 126, 154, 0, 13, 28, 133]
abbrev dktX3_bearers_0 : List UInt8 := dkwX3_bearers_0 ++ dktX3_bearers_1
theorem dksX3_bearers_0 : cX3_bearers.data.toList.drop 0 = dktX3_bearers_0 := by decide +kernel
theorem dksX3_bearers_1 : cX3_bearers.data.toList.drop 24 = dktX3_bearers_1 := dk_seg dksX3_bearers_0 24 rfl rfl
theorem dksX3_bearers_2 : cX3_bearers.data.toList.drop 48 = dktX3_bearers_2 := dk_seg dksX3_bearers_1 24 rfl rfl
theorem dksX3_bearers_3 : cX3_bearers.data.toList.drop 72 = dktX3_bearers_3 := dk_seg dksX3_bearers_2 24 rfl rfl
theorem dksX3_bearers_4 : cX3_bearers.data.toList.drop 96 = dktX3_bearers_4 := dk_seg dksX3_bearers_3 24 rfl rfl
theorem dksX3_bearers_5 : cX3_bearers.data.toList.drop 120 = dktX3_bearers_5 := dk_seg dksX3_bearers_4 24 rfl rfl
theorem dX3_bearers_0 : decode cX3_bearers 0 = .ok (.aload_n 0, 1) := dk_42 (dk_at dksX3_bearers_0 0 rfl rfl)
theorem dX3_bearers_1 : decode cX3_bearers 1 = .ok (.invokevirtual 430, 3) := dk_182 1 174 (dk_at dksX3_bearers_0 1 rfl rfl)
theorem dX3_bearers_4 : decode cX3_bearers 4 = .ok (.ifCond .eq 28, 3) := dk_153 0 28 (dk_at dksX3_bearers_0 4 rfl rfl)
theorem dX3_bearers_7 : decode cX3_bearers 7 = .ok (.iload_n 1, 1) := dk_27 (dk_at dksX3_bearers_0 7 rfl rfl)
theorem dX3_bearers_8 : decode cX3_bearers 8 = .ok (.ifCond .lt 24, 3) := dk_155 0 24 (dk_at dksX3_bearers_0 8 rfl rfl)
theorem dX3_bearers_11 : decode cX3_bearers 11 = .ok (.iload_n 1, 1) := dk_27 (dk_at dksX3_bearers_0 11 rfl rfl)
theorem dX3_bearers_12 : decode cX3_bearers 12 = .ok (.aload_n 0, 1) := dk_42 (dk_at dksX3_bearers_0 12 rfl rfl)
theorem dX3_bearers_13 : decode cX3_bearers 13 = .ok (.invokevirtual 393, 3) := dk_182 1 137 (dk_at dksX3_bearers_0 13 rfl rfl)
theorem dX3_bearers_16 : decode cX3_bearers 16 = .ok (.iconst (-1), 1) := dk_2 (dk_at dksX3_bearers_0 16 rfl rfl)
theorem dX3_bearers_17 : decode cX3_bearers 17 = .ok (.ixor, 1) := dk_130 (dk_at dksX3_bearers_0 17 rfl rfl)
theorem dX3_bearers_18 : decode cX3_bearers 18 = .ok (.iand, 1) := dk_126 (dk_at dksX3_bearers_0 18 rfl rfl)
theorem dX3_bearers_19 : decode cX3_bearers 19 = .ok (.ifCond .ne 13, 3) := dk_154 0 13 (dk_at dksX3_bearers_0 19 rfl rfl)
theorem dX3_bearers_22 : decode cX3_bearers 22 = .ok (.iload_n 2, 1) := dk_28 (dk_at dksX3_bearers_0 22 rfl rfl)
theorem dX3_bearers_23 : decode cX3_bearers 23 = .ok (.i2l, 1) := dk_133 (dk_at dksX3_bearers_0 23 rfl rfl)
theorem dX3_bearers_24 : decode cX3_bearers 24 = .ok (.lconst 0, 1) := dk_9 (dk_at dksX3_bearers_1 0 rfl rfl)
theorem dX3_bearers_25 : decode cX3_bearers 25 = .ok (.lconst 1, 1) := dk_10 (dk_at dksX3_bearers_1 1 rfl rfl)
theorem dX3_bearers_26 : decode cX3_bearers 26 = .ok (.invokestatic 176, 3) := dk_184 0 176 (dk_at dksX3_bearers_1 2 rfl rfl)
theorem dX3_bearers_29 : decode cX3_bearers 29 = .ok (.ifCond .ne 5, 3) := dk_154 0 5 (dk_at dksX3_bearers_1 5 rfl rfl)
theorem dX3_bearers_32 : decode cX3_bearers 32 = .ok (.iconst (-1), 1) := dk_2 (dk_at dksX3_bearers_1 8 rfl rfl)
theorem dX3_bearers_33 : decode cX3_bearers 33 = .ok (.ireturn, 1) := dk_172 (dk_at dksX3_bearers_1 9 rfl rfl)
theorem dX3_bearers_34 : decode cX3_bearers 34 = .ok (.aload_n 0, 1) := dk_42 (dk_at dksX3_bearers_1 10 rfl rfl)
theorem dX3_bearers_35 : decode cX3_bearers 35 = .ok (.invokevirtual 393, 3) := dk_182 1 137 (dk_at dksX3_bearers_1 11 rfl rfl)
theorem dX3_bearers_38 : decode cX3_bearers 38 = .ok (.iload_n 1, 1) := dk_27 (dk_at dksX3_bearers_1 14 rfl rfl)
theorem dX3_bearers_39 : decode cX3_bearers 39 = .ok (.iconst (-1), 1) := dk_2 (dk_at dksX3_bearers_1 15 rfl rfl)
theorem dX3_bearers_40 : decode cX3_bearers 40 = .ok (.ixor, 1) := dk_130 (dk_at dksX3_bearers_1 16 rfl rfl)
theorem dX3_bearers_41 : decode cX3_bearers 41 = .ok (.iand, 1) := dk_126 (dk_at dksX3_bearers_1 17 rfl rfl)
theorem dX3_bearers_42 : decode cX3_bearers 42 = .ok (.istore_n 3, 1) := dk_62 (dk_at dksX3_bearers_1 18 rfl rfl)
theorem dX3_bearers_43 : decode cX3_bearers 43 = .ok (.bipush (-2), 2) := dk_16 254 (dk_at dksX3_bearers_1 19 rfl rfl)
theorem dX3_bearers_45 : decode cX3_bearers 45 = .ok (.istore 4, 2) := dk_54 4 (dk_at dksX3_bearers_1 21 rfl rfl)
theorem dX3_bearers_47 : decode cX3_bearers 47 = .ok (.iconst 0, 1) := dk_3 (dk_at dksX3_bearers_1 23 rfl rfl)
theorem dX3_bearers_48 : decode cX3_bearers 48 = .ok (.istore 5, 2) := dk_54 5 (dk_at dksX3_bearers_2 0 rfl rfl)
theorem dX3_bearers_50 : decode cX3_bearers 50 = .ok (.iload 5, 2) := dk_21 5 (dk_at dksX3_bearers_2 2 rfl rfl)
theorem dX3_bearers_52 : decode cX3_bearers 52 = .ok (.iload_n 3, 1) := dk_29 (dk_at dksX3_bearers_2 4 rfl rfl)
theorem dX3_bearers_53 : decode cX3_bearers 53 = .ok (.if_icmp .gt 53, 3) := dk_163 0 53 (dk_at dksX3_bearers_2 5 rfl rfl)
theorem dX3_bearers_56 : decode cX3_bearers 56 = .ok (.iload 5, 2) := dk_21 5 (dk_at dksX3_bearers_2 8 rfl rfl)
theorem dX3_bearers_58 : decode cX3_bearers 58 = .ok (.iload_n 3, 1) := dk_29 (dk_at dksX3_bearers_2 10 rfl rfl)
theorem dX3_bearers_59 : decode cX3_bearers 59 = .ok (.iconst (-1), 1) := dk_2 (dk_at dksX3_bearers_2 11 rfl rfl)
theorem dX3_bearers_60 : decode cX3_bearers 60 = .ok (.ixor, 1) := dk_130 (dk_at dksX3_bearers_2 12 rfl rfl)
theorem dX3_bearers_61 : decode cX3_bearers 61 = .ok (.iand, 1) := dk_126 (dk_at dksX3_bearers_2 13 rfl rfl)
theorem dX3_bearers_62 : decode cX3_bearers 62 = .ok (.ifCond .ne 38, 3) := dk_154 0 38 (dk_at dksX3_bearers_2 14 rfl rfl)
theorem dX3_bearers_65 : decode cX3_bearers 65 = .ok (.iload 4, 2) := dk_21 4 (dk_at dksX3_bearers_2 17 rfl rfl)
theorem dX3_bearers_67 : decode cX3_bearers 67 = .ok (.bipush (-2), 2) := dk_16 254 (dk_at dksX3_bearers_2 19 rfl rfl)
theorem dX3_bearers_69 : decode cX3_bearers 69 = .ok (.if_icmp .eq 16, 3) := dk_159 0 16 (dk_at dksX3_bearers_2 21 rfl rfl)
theorem dX3_bearers_72 : decode cX3_bearers 72 = .ok (.iload 5, 2) := dk_21 5 (dk_at dksX3_bearers_3 0 rfl rfl)
theorem dX3_bearers_74 : decode cX3_bearers 74 = .ok (.invokestatic 460, 3) := dk_184 1 204 (dk_at dksX3_bearers_3 2 rfl rfl)
theorem dX3_bearers_77 : decode cX3_bearers 77 = .ok (.iload 4, 2) := dk_21 4 (dk_at dksX3_bearers_3 5 rfl rfl)
theorem dX3_bearers_79 : decode cX3_bearers 79 = .ok (.invokestatic 460, 3) := dk_184 1 204 (dk_at dksX3_bearers_3 7 rfl rfl)
theorem dX3_bearers_82 : decode cX3_bearers 82 = .ok (.if_icmp .ge 18, 3) := dk_162 0 18 (dk_at dksX3_bearers_3 10 rfl rfl)
theorem dX3_bearers_85 : decode cX3_bearers 85 = .ok (.aload_n 0, 1) := dk_42 (dk_at dksX3_bearers_3 13 rfl rfl)
theorem dX3_bearers_86 : decode cX3_bearers 86 = .ok (.iload_n 1, 1) := dk_27 (dk_at dksX3_bearers_3 14 rfl rfl)
theorem dX3_bearers_87 : decode cX3_bearers 87 = .ok (.iload 5, 2) := dk_21 5 (dk_at dksX3_bearers_3 15 rfl rfl)
theorem dX3_bearers_89 : decode cX3_bearers 89 = .ok (.ior, 1) := dk_128 (dk_at dksX3_bearers_3 17 rfl rfl)
theorem dX3_bearers_90 : decode cX3_bearers 90 = .ok (.invokevirtual 530, 3) := dk_182 2 18 (dk_at dksX3_bearers_3 18 rfl rfl)
theorem dX3_bearers_93 : decode cX3_bearers 93 = .ok (.ifCond .eq 7, 3) := dk_153 0 7 (dk_at dksX3_bearers_3 21 rfl rfl)
theorem dX3_bearers_96 : decode cX3_bearers 96 = .ok (.iload 5, 2) := dk_21 5 (dk_at dksX3_bearers_4 0 rfl rfl)
theorem dX3_bearers_98 : decode cX3_bearers 98 = .ok (.istore 4, 2) := dk_54 4 (dk_at dksX3_bearers_4 2 rfl rfl)
theorem dX3_bearers_100 : decode cX3_bearers 100 = .ok (.iinc 5 1, 3) := dk_132 5 1 (dk_at dksX3_bearers_4 4 rfl rfl)
theorem dX3_bearers_103 : decode cX3_bearers 103 = .ok (.goto (-53), 3) := dk_167 255 203 (dk_at dksX3_bearers_4 7 rfl rfl)
theorem dX3_bearers_106 : decode cX3_bearers 106 = .ok (.iload 4, 2) := dk_21 4 (dk_at dksX3_bearers_4 10 rfl rfl)
theorem dX3_bearers_108 : decode cX3_bearers 108 = .ok (.bipush (-2), 2) := dk_16 254 (dk_at dksX3_bearers_4 12 rfl rfl)
theorem dX3_bearers_110 : decode cX3_bearers 110 = .ok (.if_icmp .eq 8, 3) := dk_159 0 8 (dk_at dksX3_bearers_4 14 rfl rfl)
theorem dX3_bearers_113 : decode cX3_bearers 113 = .ok (.iload_n 2, 1) := dk_28 (dk_at dksX3_bearers_4 17 rfl rfl)
theorem dX3_bearers_114 : decode cX3_bearers 114 = .ok (.iconst 1, 1) := dk_4 (dk_at dksX3_bearers_4 18 rfl rfl)
theorem dX3_bearers_115 : decode cX3_bearers 115 = .ok (.if_icmp .ne 8, 3) := dk_160 0 8 (dk_at dksX3_bearers_4 19 rfl rfl)
theorem dX3_bearers_118 : decode cX3_bearers 118 = .ok (.iload 4, 2) := dk_21 4 (dk_at dksX3_bearers_4 22 rfl rfl)
theorem dX3_bearers_120 : decode cX3_bearers 120 = .ok (.goto 8, 3) := dk_167 0 8 (dk_at dksX3_bearers_5 0 rfl rfl)
theorem dX3_bearers_123 : decode cX3_bearers 123 = .ok (.iload 4, 2) := dk_21 4 (dk_at dksX3_bearers_5 3 rfl rfl)
theorem dX3_bearers_125 : decode cX3_bearers 125 = .ok (.invokestatic 460, 3) := dk_184 1 204 (dk_at dksX3_bearers_5 5 rfl rfl)
theorem dX3_bearers_128 : decode cX3_bearers 128 = .ok (.ireturn, 1) := dk_172 (dk_at dksX3_bearers_5 8 rfl rfl)
abbrev cX3_isBorne : ByteArray := prog_17_method_97_code
def yX3_isBorne : MethodName := ⟨RX3, "isBorne", "(I)Z"⟩
def dkwX3_isBorne_0 : List UInt8 := [42, 27, 182, 1, 150, 42, 27, 182, 1, 153, 161, 0, 7, 4, 167, 0, 4, 3, 172]
abbrev dktX3_isBorne_0 : List UInt8 := dkwX3_isBorne_0 ++ []
theorem dksX3_isBorne_0 : cX3_isBorne.data.toList.drop 0 = dktX3_isBorne_0 := by decide +kernel
theorem dX3_isBorne_0 : decode cX3_isBorne 0 = .ok (.aload_n 0, 1) := dk_42 (dk_at dksX3_isBorne_0 0 rfl rfl)
theorem dX3_isBorne_1 : decode cX3_isBorne 1 = .ok (.iload_n 1, 1) := dk_27 (dk_at dksX3_isBorne_0 1 rfl rfl)
theorem dX3_isBorne_2 : decode cX3_isBorne 2 = .ok (.invokevirtual 406, 3) := dk_182 1 150 (dk_at dksX3_isBorne_0 2 rfl rfl)
theorem dX3_isBorne_5 : decode cX3_isBorne 5 = .ok (.aload_n 0, 1) := dk_42 (dk_at dksX3_isBorne_0 5 rfl rfl)
theorem dX3_isBorne_6 : decode cX3_isBorne 6 = .ok (.iload_n 1, 1) := dk_27 (dk_at dksX3_isBorne_0 6 rfl rfl)
theorem dX3_isBorne_7 : decode cX3_isBorne 7 = .ok (.invokevirtual 409, 3) := dk_182 1 153 (dk_at dksX3_isBorne_0 7 rfl rfl)
theorem dX3_isBorne_10 : decode cX3_isBorne 10 = .ok (.if_icmp .lt 7, 3) := dk_161 0 7 (dk_at dksX3_isBorne_0 10 rfl rfl)
theorem dX3_isBorne_13 : decode cX3_isBorne 13 = .ok (.iconst 1, 1) := dk_4 (dk_at dksX3_isBorne_0 13 rfl rfl)
theorem dX3_isBorne_14 : decode cX3_isBorne 14 = .ok (.goto 4, 3) := dk_167 0 4 (dk_at dksX3_isBorne_0 14 rfl rfl)
theorem dX3_isBorne_17 : decode cX3_isBorne 17 = .ok (.iconst 0, 1) := dk_3 (dk_at dksX3_isBorne_0 17 rfl rfl)
theorem dX3_isBorne_18 : decode cX3_isBorne 18 = .ok (.ireturn, 1) := dk_172 (dk_at dksX3_isBorne_0 18 rfl rfl)
abbrev cX3_plan : ByteArray := prog_17_method_103_code
def yX3_plan : MethodName := ⟨RX3, "plan", "(I)I"⟩
def dkwX3_plan_3 : List UInt8 := [16, 254, 167, 0, 9, 42, 180, 0, 145, 27, 46, 172]
abbrev dktX3_plan_3 : List UInt8 := dkwX3_plan_3 ++ []
def dkwX3_plan_2 : List UInt8 := [160, 0, 8, 42, 180, 2, 24, 172, 42, 180, 2, 24, 153, 0, 11, 27, 28, 184, 1, 204, 161, 0, 8]
abbrev dktX3_plan_2 : List UInt8 := dkwX3_plan_2 ++ dktX3_plan_3
def dkwX3_plan_1 : List UInt8 := [42, 182, 1, 137, 61, 28, 184, 1, 204, 16, 7, 164, 0, 6, 16, 253, 172, 42, 28, 182, 2, 40, 27, 2]
abbrev dktX3_plan_1 : List UInt8 := dkwX3_plan_1 ++ dktX3_plan_2
def dkwX3_plan_0 : List UInt8 := [42, 182, 1, 174, 153, 0, 17, 27, 133, 20, 2, 36, 20, 2, 38, 184, 0, 176, 154, 0, 6, 16, 252, 172]
abbrev dktX3_plan_0 : List UInt8 := dkwX3_plan_0 ++ dktX3_plan_1
theorem dksX3_plan_0 : cX3_plan.data.toList.drop 0 = dktX3_plan_0 := by decide +kernel
theorem dksX3_plan_1 : cX3_plan.data.toList.drop 24 = dktX3_plan_1 := dk_seg dksX3_plan_0 24 rfl rfl
theorem dksX3_plan_2 : cX3_plan.data.toList.drop 48 = dktX3_plan_2 := dk_seg dksX3_plan_1 24 rfl rfl
theorem dksX3_plan_3 : cX3_plan.data.toList.drop 71 = dktX3_plan_3 := dk_seg dksX3_plan_2 23 rfl rfl
theorem dX3_plan_0 : decode cX3_plan 0 = .ok (.aload_n 0, 1) := dk_42 (dk_at dksX3_plan_0 0 rfl rfl)
theorem dX3_plan_1 : decode cX3_plan 1 = .ok (.invokevirtual 430, 3) := dk_182 1 174 (dk_at dksX3_plan_0 1 rfl rfl)
theorem dX3_plan_4 : decode cX3_plan 4 = .ok (.ifCond .eq 17, 3) := dk_153 0 17 (dk_at dksX3_plan_0 4 rfl rfl)
theorem dX3_plan_7 : decode cX3_plan 7 = .ok (.iload_n 1, 1) := dk_27 (dk_at dksX3_plan_0 7 rfl rfl)
theorem dX3_plan_8 : decode cX3_plan 8 = .ok (.i2l, 1) := dk_133 (dk_at dksX3_plan_0 8 rfl rfl)
theorem dX3_plan_9 : decode cX3_plan 9 = .ok (.ldc2_w 548, 3) := dk_20 2 36 (dk_at dksX3_plan_0 9 rfl rfl)
theorem dX3_plan_12 : decode cX3_plan 12 = .ok (.ldc2_w 550, 3) := dk_20 2 38 (dk_at dksX3_plan_0 12 rfl rfl)
theorem dX3_plan_15 : decode cX3_plan 15 = .ok (.invokestatic 176, 3) := dk_184 0 176 (dk_at dksX3_plan_0 15 rfl rfl)
theorem dX3_plan_18 : decode cX3_plan 18 = .ok (.ifCond .ne 6, 3) := dk_154 0 6 (dk_at dksX3_plan_0 18 rfl rfl)
theorem dX3_plan_21 : decode cX3_plan 21 = .ok (.bipush (-4), 2) := dk_16 252 (dk_at dksX3_plan_0 21 rfl rfl)
theorem dX3_plan_23 : decode cX3_plan 23 = .ok (.ireturn, 1) := dk_172 (dk_at dksX3_plan_0 23 rfl rfl)
theorem dX3_plan_24 : decode cX3_plan 24 = .ok (.aload_n 0, 1) := dk_42 (dk_at dksX3_plan_1 0 rfl rfl)
theorem dX3_plan_25 : decode cX3_plan 25 = .ok (.invokevirtual 393, 3) := dk_182 1 137 (dk_at dksX3_plan_1 1 rfl rfl)
theorem dX3_plan_28 : decode cX3_plan 28 = .ok (.istore_n 2, 1) := dk_61 (dk_at dksX3_plan_1 4 rfl rfl)
theorem dX3_plan_29 : decode cX3_plan 29 = .ok (.iload_n 2, 1) := dk_28 (dk_at dksX3_plan_1 5 rfl rfl)
theorem dX3_plan_30 : decode cX3_plan 30 = .ok (.invokestatic 460, 3) := dk_184 1 204 (dk_at dksX3_plan_1 6 rfl rfl)
theorem dX3_plan_33 : decode cX3_plan 33 = .ok (.bipush 7, 2) := dk_16 7 (dk_at dksX3_plan_1 9 rfl rfl)
theorem dX3_plan_35 : decode cX3_plan 35 = .ok (.if_icmp .le 6, 3) := dk_164 0 6 (dk_at dksX3_plan_1 11 rfl rfl)
theorem dX3_plan_38 : decode cX3_plan 38 = .ok (.bipush (-3), 2) := dk_16 253 (dk_at dksX3_plan_1 14 rfl rfl)
theorem dX3_plan_40 : decode cX3_plan 40 = .ok (.ireturn, 1) := dk_172 (dk_at dksX3_plan_1 16 rfl rfl)
theorem dX3_plan_41 : decode cX3_plan 41 = .ok (.aload_n 0, 1) := dk_42 (dk_at dksX3_plan_1 17 rfl rfl)
theorem dX3_plan_42 : decode cX3_plan 42 = .ok (.iload_n 2, 1) := dk_28 (dk_at dksX3_plan_1 18 rfl rfl)
theorem dX3_plan_43 : decode cX3_plan 43 = .ok (.invokevirtual 552, 3) := dk_182 2 40 (dk_at dksX3_plan_1 19 rfl rfl)
theorem dX3_plan_46 : decode cX3_plan 46 = .ok (.iload_n 1, 1) := dk_27 (dk_at dksX3_plan_1 22 rfl rfl)
theorem dX3_plan_47 : decode cX3_plan 47 = .ok (.iconst (-1), 1) := dk_2 (dk_at dksX3_plan_1 23 rfl rfl)
theorem dX3_plan_48 : decode cX3_plan 48 = .ok (.if_icmp .ne 8, 3) := dk_160 0 8 (dk_at dksX3_plan_2 0 rfl rfl)
theorem dX3_plan_51 : decode cX3_plan 51 = .ok (.aload_n 0, 1) := dk_42 (dk_at dksX3_plan_2 3 rfl rfl)
theorem dX3_plan_52 : decode cX3_plan 52 = .ok (.getfield 536, 3) := dk_180 2 24 (dk_at dksX3_plan_2 4 rfl rfl)
theorem dX3_plan_55 : decode cX3_plan 55 = .ok (.ireturn, 1) := dk_172 (dk_at dksX3_plan_2 7 rfl rfl)
theorem dX3_plan_56 : decode cX3_plan 56 = .ok (.aload_n 0, 1) := dk_42 (dk_at dksX3_plan_2 8 rfl rfl)
theorem dX3_plan_57 : decode cX3_plan 57 = .ok (.getfield 536, 3) := dk_180 2 24 (dk_at dksX3_plan_2 9 rfl rfl)
theorem dX3_plan_60 : decode cX3_plan 60 = .ok (.ifCond .eq 11, 3) := dk_153 0 11 (dk_at dksX3_plan_2 12 rfl rfl)
theorem dX3_plan_63 : decode cX3_plan 63 = .ok (.iload_n 1, 1) := dk_27 (dk_at dksX3_plan_2 15 rfl rfl)
theorem dX3_plan_64 : decode cX3_plan 64 = .ok (.iload_n 2, 1) := dk_28 (dk_at dksX3_plan_2 16 rfl rfl)
theorem dX3_plan_65 : decode cX3_plan 65 = .ok (.invokestatic 460, 3) := dk_184 1 204 (dk_at dksX3_plan_2 17 rfl rfl)
theorem dX3_plan_68 : decode cX3_plan 68 = .ok (.if_icmp .lt 8, 3) := dk_161 0 8 (dk_at dksX3_plan_2 20 rfl rfl)
theorem dX3_plan_71 : decode cX3_plan 71 = .ok (.bipush (-2), 2) := dk_16 254 (dk_at dksX3_plan_3 0 rfl rfl)
theorem dX3_plan_73 : decode cX3_plan 73 = .ok (.goto 9, 3) := dk_167 0 9 (dk_at dksX3_plan_3 2 rfl rfl)
theorem dX3_plan_76 : decode cX3_plan 76 = .ok (.aload_n 0, 1) := dk_42 (dk_at dksX3_plan_3 5 rfl rfl)
theorem dX3_plan_77 : decode cX3_plan 77 = .ok (.getfield 145, 3) := dk_180 0 145 (dk_at dksX3_plan_3 6 rfl rfl)
theorem dX3_plan_80 : decode cX3_plan 80 = .ok (.iload_n 1, 1) := dk_27 (dk_at dksX3_plan_3 9 rfl rfl)
theorem dX3_plan_81 : decode cX3_plan 81 = .ok (.iaload, 1) := dk_46 (dk_at dksX3_plan_3 10 rfl rfl)
theorem dX3_plan_82 : decode cX3_plan 82 = .ok (.ireturn, 1) := dk_172 (dk_at dksX3_plan_3 11 rfl rfl)
abbrev cX3_findsRows : ByteArray := prog_17_method_101_code
def yX3_findsRows : MethodName := ⟨RX3, "findsRows", "(I)V"⟩
def dkwX3_findsRows_8 : List UInt8 := [2, 79, 167, 255, 106, 177]
abbrev dktX3_findsRows_8 : List UInt8 := dkwX3_findsRows_8 ++ []
def dkwX3_findsRows_7 : List UInt8 := [167, 255, 132, 21, 4, 4, 42, 180, 0, 142, 29, 46, 120, 128, 54, 4, 132, 3, 1, 42, 180, 0, 142, 29]
abbrev dktX3_findsRows_7 : List UInt8 := dkwX3_findsRows_7 ++ dktX3_findsRows_8
def dkwX3_findsRows_6 : List UInt8 := [46, 16, 8, 160, 0, 9, 132, 3, 255, 167, 255, 147, 29, 28, 4, 100, 160, 0, 11, 42, 28, 182, 2, 30]
abbrev dktX3_findsRows_6 : List UInt8 := dkwX3_findsRows_6 ++ dktX3_findsRows_7
def dkwX3_findsRows_5 : List UInt8 := [184, 1, 134, 153, 0, 16, 42, 180, 0, 142, 29, 92, 46, 4, 96, 79, 167, 255, 208, 42, 180, 0, 142, 29]
abbrev dktX3_findsRows_5 : List UInt8 := dkwX3_findsRows_5 ++ dktX3_findsRows_6
def dkwX3_findsRows_4 : List UInt8 := [162, 0, 43, 27, 42, 180, 0, 142, 29, 46, 184, 1, 134, 153, 0, 17, 21, 4, 42, 180, 0, 142, 29, 46]
abbrev dktX3_findsRows_4 : List UInt8 := dkwX3_findsRows_4 ++ dktX3_findsRows_5
def dkwX3_findsRows_3 : List UInt8 := [2, 130, 126, 54, 4, 42, 180, 0, 142, 29, 92, 46, 4, 96, 79, 42, 180, 0, 142, 29, 46, 16, 8]
abbrev dktX3_findsRows_3 : List UInt8 := dkwX3_findsRows_3 ++ dktX3_findsRows_4
def dkwX3_findsRows_2 : List UInt8 := [180, 0, 142, 29, 46, 2, 160, 0, 8, 21, 4, 167, 0, 16, 21, 4, 4, 42, 180, 0, 142, 29, 46, 120]
abbrev dktX3_findsRows_2 : List UInt8 := dkwX3_findsRows_2 ++ dktX3_findsRows_3
def dkwX3_findsRows_1 : List UInt8 := [4, 181, 2, 24, 177, 3, 62, 3, 54, 4, 42, 180, 0, 142, 3, 2, 79, 29, 155, 0, 152, 42]
abbrev dktX3_findsRows_1 : List UInt8 := dkwX3_findsRows_1 ++ dktX3_findsRows_2
def dkwX3_findsRows_0 : List UInt8 := [42, 3, 181, 2, 24, 27, 184, 1, 204, 61, 42, 27, 182, 2, 27, 154, 0, 4, 177, 28, 154, 0, 9, 42]
abbrev dktX3_findsRows_0 : List UInt8 := dkwX3_findsRows_0 ++ dktX3_findsRows_1
theorem dksX3_findsRows_0 : cX3_findsRows.data.toList.drop 0 = dktX3_findsRows_0 := by decide +kernel
theorem dksX3_findsRows_1 : cX3_findsRows.data.toList.drop 24 = dktX3_findsRows_1 := dk_seg dksX3_findsRows_0 24 rfl rfl
theorem dksX3_findsRows_2 : cX3_findsRows.data.toList.drop 46 = dktX3_findsRows_2 := dk_seg dksX3_findsRows_1 22 rfl rfl
theorem dksX3_findsRows_3 : cX3_findsRows.data.toList.drop 70 = dktX3_findsRows_3 := dk_seg dksX3_findsRows_2 24 rfl rfl
theorem dksX3_findsRows_4 : cX3_findsRows.data.toList.drop 93 = dktX3_findsRows_4 := dk_seg dksX3_findsRows_3 23 rfl rfl
theorem dksX3_findsRows_5 : cX3_findsRows.data.toList.drop 117 = dktX3_findsRows_5 := dk_seg dksX3_findsRows_4 24 rfl rfl
theorem dksX3_findsRows_6 : cX3_findsRows.data.toList.drop 141 = dktX3_findsRows_6 := dk_seg dksX3_findsRows_5 24 rfl rfl
theorem dksX3_findsRows_7 : cX3_findsRows.data.toList.drop 165 = dktX3_findsRows_7 := dk_seg dksX3_findsRows_6 24 rfl rfl
theorem dksX3_findsRows_8 : cX3_findsRows.data.toList.drop 189 = dktX3_findsRows_8 := dk_seg dksX3_findsRows_7 24 rfl rfl
theorem dX3_findsRows_0 : decode cX3_findsRows 0 = .ok (.aload_n 0, 1) := dk_42 (dk_at dksX3_findsRows_0 0 rfl rfl)
theorem dX3_findsRows_1 : decode cX3_findsRows 1 = .ok (.iconst 0, 1) := dk_3 (dk_at dksX3_findsRows_0 1 rfl rfl)
theorem dX3_findsRows_2 : decode cX3_findsRows 2 = .ok (.putfield 536, 3) := dk_181 2 24 (dk_at dksX3_findsRows_0 2 rfl rfl)
theorem dX3_findsRows_5 : decode cX3_findsRows 5 = .ok (.iload_n 1, 1) := dk_27 (dk_at dksX3_findsRows_0 5 rfl rfl)
theorem dX3_findsRows_6 : decode cX3_findsRows 6 = .ok (.invokestatic 460, 3) := dk_184 1 204 (dk_at dksX3_findsRows_0 6 rfl rfl)
theorem dX3_findsRows_9 : decode cX3_findsRows 9 = .ok (.istore_n 2, 1) := dk_61 (dk_at dksX3_findsRows_0 9 rfl rfl)
theorem dX3_findsRows_10 : decode cX3_findsRows 10 = .ok (.aload_n 0, 1) := dk_42 (dk_at dksX3_findsRows_0 10 rfl rfl)
theorem dX3_findsRows_11 : decode cX3_findsRows 11 = .ok (.iload_n 1, 1) := dk_27 (dk_at dksX3_findsRows_0 11 rfl rfl)
theorem dX3_findsRows_12 : decode cX3_findsRows 12 = .ok (.invokevirtual 539, 3) := dk_182 2 27 (dk_at dksX3_findsRows_0 12 rfl rfl)
theorem dX3_findsRows_15 : decode cX3_findsRows 15 = .ok (.ifCond .ne 4, 3) := dk_154 0 4 (dk_at dksX3_findsRows_0 15 rfl rfl)
theorem dX3_findsRows_18 : decode cX3_findsRows 18 = .ok (.return_, 1) := dk_177 (dk_at dksX3_findsRows_0 18 rfl rfl)
theorem dX3_findsRows_19 : decode cX3_findsRows 19 = .ok (.iload_n 2, 1) := dk_28 (dk_at dksX3_findsRows_0 19 rfl rfl)
theorem dX3_findsRows_20 : decode cX3_findsRows 20 = .ok (.ifCond .ne 9, 3) := dk_154 0 9 (dk_at dksX3_findsRows_0 20 rfl rfl)
theorem dX3_findsRows_23 : decode cX3_findsRows 23 = .ok (.aload_n 0, 1) := dk_42 (dk_at dksX3_findsRows_0 23 rfl rfl)
theorem dX3_findsRows_24 : decode cX3_findsRows 24 = .ok (.iconst 1, 1) := dk_4 (dk_at dksX3_findsRows_1 0 rfl rfl)
theorem dX3_findsRows_25 : decode cX3_findsRows 25 = .ok (.putfield 536, 3) := dk_181 2 24 (dk_at dksX3_findsRows_1 1 rfl rfl)
theorem dX3_findsRows_28 : decode cX3_findsRows 28 = .ok (.return_, 1) := dk_177 (dk_at dksX3_findsRows_1 4 rfl rfl)
theorem dX3_findsRows_29 : decode cX3_findsRows 29 = .ok (.iconst 0, 1) := dk_3 (dk_at dksX3_findsRows_1 5 rfl rfl)
theorem dX3_findsRows_30 : decode cX3_findsRows 30 = .ok (.istore_n 3, 1) := dk_62 (dk_at dksX3_findsRows_1 6 rfl rfl)
theorem dX3_findsRows_31 : decode cX3_findsRows 31 = .ok (.iconst 0, 1) := dk_3 (dk_at dksX3_findsRows_1 7 rfl rfl)
theorem dX3_findsRows_32 : decode cX3_findsRows 32 = .ok (.istore 4, 2) := dk_54 4 (dk_at dksX3_findsRows_1 8 rfl rfl)
theorem dX3_findsRows_34 : decode cX3_findsRows 34 = .ok (.aload_n 0, 1) := dk_42 (dk_at dksX3_findsRows_1 10 rfl rfl)
theorem dX3_findsRows_35 : decode cX3_findsRows 35 = .ok (.getfield 142, 3) := dk_180 0 142 (dk_at dksX3_findsRows_1 11 rfl rfl)
theorem dX3_findsRows_38 : decode cX3_findsRows 38 = .ok (.iconst 0, 1) := dk_3 (dk_at dksX3_findsRows_1 14 rfl rfl)
theorem dX3_findsRows_39 : decode cX3_findsRows 39 = .ok (.iconst (-1), 1) := dk_2 (dk_at dksX3_findsRows_1 15 rfl rfl)
theorem dX3_findsRows_40 : decode cX3_findsRows 40 = .ok (.iastore, 1) := dk_79 (dk_at dksX3_findsRows_1 16 rfl rfl)
theorem dX3_findsRows_41 : decode cX3_findsRows 41 = .ok (.iload_n 3, 1) := dk_29 (dk_at dksX3_findsRows_1 17 rfl rfl)
theorem dX3_findsRows_42 : decode cX3_findsRows 42 = .ok (.ifCond .lt 152, 3) := dk_155 0 152 (dk_at dksX3_findsRows_1 18 rfl rfl)
theorem dX3_findsRows_45 : decode cX3_findsRows 45 = .ok (.aload_n 0, 1) := dk_42 (dk_at dksX3_findsRows_1 21 rfl rfl)
theorem dX3_findsRows_46 : decode cX3_findsRows 46 = .ok (.getfield 142, 3) := dk_180 0 142 (dk_at dksX3_findsRows_2 0 rfl rfl)
theorem dX3_findsRows_49 : decode cX3_findsRows 49 = .ok (.iload_n 3, 1) := dk_29 (dk_at dksX3_findsRows_2 3 rfl rfl)
theorem dX3_findsRows_50 : decode cX3_findsRows 50 = .ok (.iaload, 1) := dk_46 (dk_at dksX3_findsRows_2 4 rfl rfl)
theorem dX3_findsRows_51 : decode cX3_findsRows 51 = .ok (.iconst (-1), 1) := dk_2 (dk_at dksX3_findsRows_2 5 rfl rfl)
theorem dX3_findsRows_52 : decode cX3_findsRows 52 = .ok (.if_icmp .ne 8, 3) := dk_160 0 8 (dk_at dksX3_findsRows_2 6 rfl rfl)
theorem dX3_findsRows_55 : decode cX3_findsRows 55 = .ok (.iload 4, 2) := dk_21 4 (dk_at dksX3_findsRows_2 9 rfl rfl)
theorem dX3_findsRows_57 : decode cX3_findsRows 57 = .ok (.goto 16, 3) := dk_167 0 16 (dk_at dksX3_findsRows_2 11 rfl rfl)
theorem dX3_findsRows_60 : decode cX3_findsRows 60 = .ok (.iload 4, 2) := dk_21 4 (dk_at dksX3_findsRows_2 14 rfl rfl)
theorem dX3_findsRows_62 : decode cX3_findsRows 62 = .ok (.iconst 1, 1) := dk_4 (dk_at dksX3_findsRows_2 16 rfl rfl)
theorem dX3_findsRows_63 : decode cX3_findsRows 63 = .ok (.aload_n 0, 1) := dk_42 (dk_at dksX3_findsRows_2 17 rfl rfl)
theorem dX3_findsRows_64 : decode cX3_findsRows 64 = .ok (.getfield 142, 3) := dk_180 0 142 (dk_at dksX3_findsRows_2 18 rfl rfl)
theorem dX3_findsRows_67 : decode cX3_findsRows 67 = .ok (.iload_n 3, 1) := dk_29 (dk_at dksX3_findsRows_2 21 rfl rfl)
theorem dX3_findsRows_68 : decode cX3_findsRows 68 = .ok (.iaload, 1) := dk_46 (dk_at dksX3_findsRows_2 22 rfl rfl)
theorem dX3_findsRows_69 : decode cX3_findsRows 69 = .ok (.ishl, 1) := dk_120 (dk_at dksX3_findsRows_2 23 rfl rfl)
theorem dX3_findsRows_70 : decode cX3_findsRows 70 = .ok (.iconst (-1), 1) := dk_2 (dk_at dksX3_findsRows_3 0 rfl rfl)
theorem dX3_findsRows_71 : decode cX3_findsRows 71 = .ok (.ixor, 1) := dk_130 (dk_at dksX3_findsRows_3 1 rfl rfl)
theorem dX3_findsRows_72 : decode cX3_findsRows 72 = .ok (.iand, 1) := dk_126 (dk_at dksX3_findsRows_3 2 rfl rfl)
theorem dX3_findsRows_73 : decode cX3_findsRows 73 = .ok (.istore 4, 2) := dk_54 4 (dk_at dksX3_findsRows_3 3 rfl rfl)
theorem dX3_findsRows_75 : decode cX3_findsRows 75 = .ok (.aload_n 0, 1) := dk_42 (dk_at dksX3_findsRows_3 5 rfl rfl)
theorem dX3_findsRows_76 : decode cX3_findsRows 76 = .ok (.getfield 142, 3) := dk_180 0 142 (dk_at dksX3_findsRows_3 6 rfl rfl)
theorem dX3_findsRows_79 : decode cX3_findsRows 79 = .ok (.iload_n 3, 1) := dk_29 (dk_at dksX3_findsRows_3 9 rfl rfl)
theorem dX3_findsRows_80 : decode cX3_findsRows 80 = .ok (.dup2, 1) := dk_92 (dk_at dksX3_findsRows_3 10 rfl rfl)
theorem dX3_findsRows_81 : decode cX3_findsRows 81 = .ok (.iaload, 1) := dk_46 (dk_at dksX3_findsRows_3 11 rfl rfl)
theorem dX3_findsRows_82 : decode cX3_findsRows 82 = .ok (.iconst 1, 1) := dk_4 (dk_at dksX3_findsRows_3 12 rfl rfl)
theorem dX3_findsRows_83 : decode cX3_findsRows 83 = .ok (.iadd, 1) := dk_96 (dk_at dksX3_findsRows_3 13 rfl rfl)
theorem dX3_findsRows_84 : decode cX3_findsRows 84 = .ok (.iastore, 1) := dk_79 (dk_at dksX3_findsRows_3 14 rfl rfl)
theorem dX3_findsRows_85 : decode cX3_findsRows 85 = .ok (.aload_n 0, 1) := dk_42 (dk_at dksX3_findsRows_3 15 rfl rfl)
theorem dX3_findsRows_86 : decode cX3_findsRows 86 = .ok (.getfield 142, 3) := dk_180 0 142 (dk_at dksX3_findsRows_3 16 rfl rfl)
theorem dX3_findsRows_89 : decode cX3_findsRows 89 = .ok (.iload_n 3, 1) := dk_29 (dk_at dksX3_findsRows_3 19 rfl rfl)
theorem dX3_findsRows_90 : decode cX3_findsRows 90 = .ok (.iaload, 1) := dk_46 (dk_at dksX3_findsRows_3 20 rfl rfl)
theorem dX3_findsRows_91 : decode cX3_findsRows 91 = .ok (.bipush 8, 2) := dk_16 8 (dk_at dksX3_findsRows_3 21 rfl rfl)
theorem dX3_findsRows_93 : decode cX3_findsRows 93 = .ok (.if_icmp .ge 43, 3) := dk_162 0 43 (dk_at dksX3_findsRows_4 0 rfl rfl)
theorem dX3_findsRows_96 : decode cX3_findsRows 96 = .ok (.iload_n 1, 1) := dk_27 (dk_at dksX3_findsRows_4 3 rfl rfl)
theorem dX3_findsRows_97 : decode cX3_findsRows 97 = .ok (.aload_n 0, 1) := dk_42 (dk_at dksX3_findsRows_4 4 rfl rfl)
theorem dX3_findsRows_98 : decode cX3_findsRows 98 = .ok (.getfield 142, 3) := dk_180 0 142 (dk_at dksX3_findsRows_4 5 rfl rfl)
theorem dX3_findsRows_101 : decode cX3_findsRows 101 = .ok (.iload_n 3, 1) := dk_29 (dk_at dksX3_findsRows_4 8 rfl rfl)
theorem dX3_findsRows_102 : decode cX3_findsRows 102 = .ok (.iaload, 1) := dk_46 (dk_at dksX3_findsRows_4 9 rfl rfl)
theorem dX3_findsRows_103 : decode cX3_findsRows 103 = .ok (.invokestatic 390, 3) := dk_184 1 134 (dk_at dksX3_findsRows_4 10 rfl rfl)
theorem dX3_findsRows_106 : decode cX3_findsRows 106 = .ok (.ifCond .eq 17, 3) := dk_153 0 17 (dk_at dksX3_findsRows_4 13 rfl rfl)
theorem dX3_findsRows_109 : decode cX3_findsRows 109 = .ok (.iload 4, 2) := dk_21 4 (dk_at dksX3_findsRows_4 16 rfl rfl)
theorem dX3_findsRows_111 : decode cX3_findsRows 111 = .ok (.aload_n 0, 1) := dk_42 (dk_at dksX3_findsRows_4 18 rfl rfl)
theorem dX3_findsRows_112 : decode cX3_findsRows 112 = .ok (.getfield 142, 3) := dk_180 0 142 (dk_at dksX3_findsRows_4 19 rfl rfl)
theorem dX3_findsRows_115 : decode cX3_findsRows 115 = .ok (.iload_n 3, 1) := dk_29 (dk_at dksX3_findsRows_4 22 rfl rfl)
theorem dX3_findsRows_116 : decode cX3_findsRows 116 = .ok (.iaload, 1) := dk_46 (dk_at dksX3_findsRows_4 23 rfl rfl)
theorem dX3_findsRows_117 : decode cX3_findsRows 117 = .ok (.invokestatic 390, 3) := dk_184 1 134 (dk_at dksX3_findsRows_5 0 rfl rfl)
theorem dX3_findsRows_120 : decode cX3_findsRows 120 = .ok (.ifCond .eq 16, 3) := dk_153 0 16 (dk_at dksX3_findsRows_5 3 rfl rfl)
theorem dX3_findsRows_123 : decode cX3_findsRows 123 = .ok (.aload_n 0, 1) := dk_42 (dk_at dksX3_findsRows_5 6 rfl rfl)
theorem dX3_findsRows_124 : decode cX3_findsRows 124 = .ok (.getfield 142, 3) := dk_180 0 142 (dk_at dksX3_findsRows_5 7 rfl rfl)
theorem dX3_findsRows_127 : decode cX3_findsRows 127 = .ok (.iload_n 3, 1) := dk_29 (dk_at dksX3_findsRows_5 10 rfl rfl)
theorem dX3_findsRows_128 : decode cX3_findsRows 128 = .ok (.dup2, 1) := dk_92 (dk_at dksX3_findsRows_5 11 rfl rfl)
theorem dX3_findsRows_129 : decode cX3_findsRows 129 = .ok (.iaload, 1) := dk_46 (dk_at dksX3_findsRows_5 12 rfl rfl)
theorem dX3_findsRows_130 : decode cX3_findsRows 130 = .ok (.iconst 1, 1) := dk_4 (dk_at dksX3_findsRows_5 13 rfl rfl)
theorem dX3_findsRows_131 : decode cX3_findsRows 131 = .ok (.iadd, 1) := dk_96 (dk_at dksX3_findsRows_5 14 rfl rfl)
theorem dX3_findsRows_132 : decode cX3_findsRows 132 = .ok (.iastore, 1) := dk_79 (dk_at dksX3_findsRows_5 15 rfl rfl)
theorem dX3_findsRows_133 : decode cX3_findsRows 133 = .ok (.goto (-48), 3) := dk_167 255 208 (dk_at dksX3_findsRows_5 16 rfl rfl)
theorem dX3_findsRows_136 : decode cX3_findsRows 136 = .ok (.aload_n 0, 1) := dk_42 (dk_at dksX3_findsRows_5 19 rfl rfl)
theorem dX3_findsRows_137 : decode cX3_findsRows 137 = .ok (.getfield 142, 3) := dk_180 0 142 (dk_at dksX3_findsRows_5 20 rfl rfl)
theorem dX3_findsRows_140 : decode cX3_findsRows 140 = .ok (.iload_n 3, 1) := dk_29 (dk_at dksX3_findsRows_5 23 rfl rfl)
theorem dX3_findsRows_141 : decode cX3_findsRows 141 = .ok (.iaload, 1) := dk_46 (dk_at dksX3_findsRows_6 0 rfl rfl)
theorem dX3_findsRows_142 : decode cX3_findsRows 142 = .ok (.bipush 8, 2) := dk_16 8 (dk_at dksX3_findsRows_6 1 rfl rfl)
theorem dX3_findsRows_144 : decode cX3_findsRows 144 = .ok (.if_icmp .ne 9, 3) := dk_160 0 9 (dk_at dksX3_findsRows_6 3 rfl rfl)
theorem dX3_findsRows_147 : decode cX3_findsRows 147 = .ok (.iinc 3 (-1), 3) := dk_132 3 255 (dk_at dksX3_findsRows_6 6 rfl rfl)
theorem dX3_findsRows_150 : decode cX3_findsRows 150 = .ok (.goto (-109), 3) := dk_167 255 147 (dk_at dksX3_findsRows_6 9 rfl rfl)
theorem dX3_findsRows_153 : decode cX3_findsRows 153 = .ok (.iload_n 3, 1) := dk_29 (dk_at dksX3_findsRows_6 12 rfl rfl)
theorem dX3_findsRows_154 : decode cX3_findsRows 154 = .ok (.iload_n 2, 1) := dk_28 (dk_at dksX3_findsRows_6 13 rfl rfl)
theorem dX3_findsRows_155 : decode cX3_findsRows 155 = .ok (.iconst 1, 1) := dk_4 (dk_at dksX3_findsRows_6 14 rfl rfl)
theorem dX3_findsRows_156 : decode cX3_findsRows 156 = .ok (.isub, 1) := dk_100 (dk_at dksX3_findsRows_6 15 rfl rfl)
theorem dX3_findsRows_157 : decode cX3_findsRows 157 = .ok (.if_icmp .ne 11, 3) := dk_160 0 11 (dk_at dksX3_findsRows_6 16 rfl rfl)
theorem dX3_findsRows_160 : decode cX3_findsRows 160 = .ok (.aload_n 0, 1) := dk_42 (dk_at dksX3_findsRows_6 19 rfl rfl)
theorem dX3_findsRows_161 : decode cX3_findsRows 161 = .ok (.iload_n 2, 1) := dk_28 (dk_at dksX3_findsRows_6 20 rfl rfl)
theorem dX3_findsRows_162 : decode cX3_findsRows 162 = .ok (.invokevirtual 542, 3) := dk_182 2 30 (dk_at dksX3_findsRows_6 21 rfl rfl)
theorem dX3_findsRows_165 : decode cX3_findsRows 165 = .ok (.goto (-124), 3) := dk_167 255 132 (dk_at dksX3_findsRows_7 0 rfl rfl)
theorem dX3_findsRows_168 : decode cX3_findsRows 168 = .ok (.iload 4, 2) := dk_21 4 (dk_at dksX3_findsRows_7 3 rfl rfl)
theorem dX3_findsRows_170 : decode cX3_findsRows 170 = .ok (.iconst 1, 1) := dk_4 (dk_at dksX3_findsRows_7 5 rfl rfl)
theorem dX3_findsRows_171 : decode cX3_findsRows 171 = .ok (.aload_n 0, 1) := dk_42 (dk_at dksX3_findsRows_7 6 rfl rfl)
theorem dX3_findsRows_172 : decode cX3_findsRows 172 = .ok (.getfield 142, 3) := dk_180 0 142 (dk_at dksX3_findsRows_7 7 rfl rfl)
theorem dX3_findsRows_175 : decode cX3_findsRows 175 = .ok (.iload_n 3, 1) := dk_29 (dk_at dksX3_findsRows_7 10 rfl rfl)
theorem dX3_findsRows_176 : decode cX3_findsRows 176 = .ok (.iaload, 1) := dk_46 (dk_at dksX3_findsRows_7 11 rfl rfl)
theorem dX3_findsRows_177 : decode cX3_findsRows 177 = .ok (.ishl, 1) := dk_120 (dk_at dksX3_findsRows_7 12 rfl rfl)
theorem dX3_findsRows_178 : decode cX3_findsRows 178 = .ok (.ior, 1) := dk_128 (dk_at dksX3_findsRows_7 13 rfl rfl)
theorem dX3_findsRows_179 : decode cX3_findsRows 179 = .ok (.istore 4, 2) := dk_54 4 (dk_at dksX3_findsRows_7 14 rfl rfl)
theorem dX3_findsRows_181 : decode cX3_findsRows 181 = .ok (.iinc 3 1, 3) := dk_132 3 1 (dk_at dksX3_findsRows_7 16 rfl rfl)
theorem dX3_findsRows_184 : decode cX3_findsRows 184 = .ok (.aload_n 0, 1) := dk_42 (dk_at dksX3_findsRows_7 19 rfl rfl)
theorem dX3_findsRows_185 : decode cX3_findsRows 185 = .ok (.getfield 142, 3) := dk_180 0 142 (dk_at dksX3_findsRows_7 20 rfl rfl)
theorem dX3_findsRows_188 : decode cX3_findsRows 188 = .ok (.iload_n 3, 1) := dk_29 (dk_at dksX3_findsRows_7 23 rfl rfl)
theorem dX3_findsRows_189 : decode cX3_findsRows 189 = .ok (.iconst (-1), 1) := dk_2 (dk_at dksX3_findsRows_8 0 rfl rfl)
theorem dX3_findsRows_190 : decode cX3_findsRows 190 = .ok (.iastore, 1) := dk_79 (dk_at dksX3_findsRows_8 1 rfl rfl)
theorem dX3_findsRows_191 : decode cX3_findsRows 191 = .ok (.goto (-150), 3) := dk_167 255 106 (dk_at dksX3_findsRows_8 2 rfl rfl)
theorem dX3_findsRows_194 : decode cX3_findsRows 194 = .ok (.return_, 1) := dk_177 (dk_at dksX3_findsRows_8 5 rfl rfl)
abbrev cX3_laysLater : ByteArray := prog_17_method_99_code
def yX3_laysLater : MethodName := ⟨RX3, "laysLater", "(I)Z"⟩
def dkwX3_laysLater_11 : List UInt8 := [132, 3, 1, 167, 255, 28, 28, 172]
abbrev dktX3_laysLater_11 : List UInt8 := dkwX3_laysLater_11 ++ []
def dkwX3_laysLater_10 : List UInt8 := [61, 42, 180, 0, 148, 42, 180, 2, 21, 21, 4, 79, 42, 89, 180, 2, 21, 4, 96, 181, 2, 21]
abbrev dktX3_laysLater_10 : List UInt8 := dkwX3_laysLater_10 ++ dktX3_laysLater_11
def dkwX3_laysLater_9 : List UInt8 := [3, 96, 54, 6, 132, 7, 1, 167, 255, 189, 28, 153, 0, 12, 21, 6, 155, 0, 7, 4, 167, 0, 4, 3]
abbrev dktX3_laysLater_9 : List UInt8 := dkwX3_laysLater_9 ++ dktX3_laysLater_10
def dkwX3_laysLater_8 : List UInt8 := [54, 8, 21, 6, 21, 4, 21, 7, 184, 1, 134, 153, 0, 13, 21, 8, 158, 0, 8, 21, 8, 167, 0, 4]
abbrev dktX3_laysLater_8 : List UInt8 := dkwX3_laysLater_8 ++ dktX3_laysLater_9
def dkwX3_laysLater_7 : List UInt8 := [180, 0, 28, 21, 7, 46, 42, 180, 0, 31, 21, 7, 46, 29, 42, 180, 0, 9, 16, 6, 46, 100, 104, 100]
abbrev dktX3_laysLater_7 : List UInt8 := dkwX3_laysLater_7 ++ dktX3_laysLater_8
def dkwX3_laysLater_6 : List UInt8 := [21, 4, 182, 1, 153, 116, 54, 6, 3, 54, 7, 21, 7, 42, 180, 0, 9, 6, 46, 162, 0, 62, 42]
abbrev dktX3_laysLater_6 : List UInt8 := dkwX3_laysLater_6 ++ dktX3_laysLater_7
def dkwX3_laysLater_5 : List UInt8 := [46, 29, 160, 0, 7, 4, 167, 0, 4, 3, 54, 5, 132, 6, 1, 167, 255, 176, 21, 5, 153, 0, 121, 42]
abbrev dktX3_laysLater_5 : List UInt8 := dkwX3_laysLater_5 ++ dktX3_laysLater_6
def dkwX3_laysLater_4 : List UInt8 := [120, 167, 0, 4, 3, 128, 54, 4, 21, 5, 154, 0, 19, 42, 180, 0, 13, 42, 180, 0, 22, 21, 6, 46]
abbrev dktX3_laysLater_4 : List UInt8 := dkwX3_laysLater_4 ++ dktX3_laysLater_5
def dkwX3_laysLater_3 : List UInt8 := [153, 0, 60, 21, 4, 42, 180, 0, 13, 42, 180, 0, 22, 21, 6, 46, 46, 29, 164, 0, 10, 4, 21, 6]
abbrev dktX3_laysLater_3 : List UInt8 := dkwX3_laysLater_3 ++ dktX3_laysLater_4
def dkwX3_laysLater_2 : List UInt8 := [54, 5, 3, 54, 6, 21, 6, 42, 180, 0, 9, 6, 46, 162, 0, 75, 27, 21, 6, 184, 1, 134]
abbrev dktX3_laysLater_2 : List UInt8 := dkwX3_laysLater_2 ++ dktX3_laysLater_3
def dkwX3_laysLater_1 : List UInt8 := [42, 180, 0, 9, 16, 6, 46, 4, 96, 62, 29, 42, 180, 0, 9, 3, 46, 163, 0, 224, 3, 54, 4, 3]
abbrev dktX3_laysLater_1 : List UInt8 := dkwX3_laysLater_1 ++ dktX3_laysLater_2
def dkwX3_laysLater_0 : List UInt8 := [42, 3, 181, 2, 21, 42, 27, 182, 1, 150, 42, 27, 182, 1, 153, 161, 0, 7, 4, 167, 0, 4, 3, 61]
abbrev dktX3_laysLater_0 : List UInt8 := dkwX3_laysLater_0 ++ dktX3_laysLater_1
theorem dksX3_laysLater_0 : cX3_laysLater.data.toList.drop 0 = dktX3_laysLater_0 := by decide +kernel
theorem dksX3_laysLater_1 : cX3_laysLater.data.toList.drop 24 = dktX3_laysLater_1 := dk_seg dksX3_laysLater_0 24 rfl rfl
theorem dksX3_laysLater_2 : cX3_laysLater.data.toList.drop 48 = dktX3_laysLater_2 := dk_seg dksX3_laysLater_1 24 rfl rfl
theorem dksX3_laysLater_3 : cX3_laysLater.data.toList.drop 70 = dktX3_laysLater_3 := dk_seg dksX3_laysLater_2 22 rfl rfl
theorem dksX3_laysLater_4 : cX3_laysLater.data.toList.drop 94 = dktX3_laysLater_4 := dk_seg dksX3_laysLater_3 24 rfl rfl
theorem dksX3_laysLater_5 : cX3_laysLater.data.toList.drop 118 = dktX3_laysLater_5 := dk_seg dksX3_laysLater_4 24 rfl rfl
theorem dksX3_laysLater_6 : cX3_laysLater.data.toList.drop 142 = dktX3_laysLater_6 := dk_seg dksX3_laysLater_5 24 rfl rfl
theorem dksX3_laysLater_7 : cX3_laysLater.data.toList.drop 165 = dktX3_laysLater_7 := dk_seg dksX3_laysLater_6 23 rfl rfl
theorem dksX3_laysLater_8 : cX3_laysLater.data.toList.drop 189 = dktX3_laysLater_8 := dk_seg dksX3_laysLater_7 24 rfl rfl
theorem dksX3_laysLater_9 : cX3_laysLater.data.toList.drop 213 = dktX3_laysLater_9 := dk_seg dksX3_laysLater_8 24 rfl rfl
theorem dksX3_laysLater_10 : cX3_laysLater.data.toList.drop 237 = dktX3_laysLater_10 := dk_seg dksX3_laysLater_9 24 rfl rfl
theorem dksX3_laysLater_11 : cX3_laysLater.data.toList.drop 259 = dktX3_laysLater_11 := dk_seg dksX3_laysLater_10 22 rfl rfl
theorem dX3_laysLater_0 : decode cX3_laysLater 0 = .ok (.aload_n 0, 1) := dk_42 (dk_at dksX3_laysLater_0 0 rfl rfl)
theorem dX3_laysLater_1 : decode cX3_laysLater 1 = .ok (.iconst 0, 1) := dk_3 (dk_at dksX3_laysLater_0 1 rfl rfl)
theorem dX3_laysLater_2 : decode cX3_laysLater 2 = .ok (.putfield 533, 3) := dk_181 2 21 (dk_at dksX3_laysLater_0 2 rfl rfl)
theorem dX3_laysLater_5 : decode cX3_laysLater 5 = .ok (.aload_n 0, 1) := dk_42 (dk_at dksX3_laysLater_0 5 rfl rfl)
theorem dX3_laysLater_6 : decode cX3_laysLater 6 = .ok (.iload_n 1, 1) := dk_27 (dk_at dksX3_laysLater_0 6 rfl rfl)
theorem dX3_laysLater_7 : decode cX3_laysLater 7 = .ok (.invokevirtual 406, 3) := dk_182 1 150 (dk_at dksX3_laysLater_0 7 rfl rfl)
theorem dX3_laysLater_10 : decode cX3_laysLater 10 = .ok (.aload_n 0, 1) := dk_42 (dk_at dksX3_laysLater_0 10 rfl rfl)
theorem dX3_laysLater_11 : decode cX3_laysLater 11 = .ok (.iload_n 1, 1) := dk_27 (dk_at dksX3_laysLater_0 11 rfl rfl)
theorem dX3_laysLater_12 : decode cX3_laysLater 12 = .ok (.invokevirtual 409, 3) := dk_182 1 153 (dk_at dksX3_laysLater_0 12 rfl rfl)
theorem dX3_laysLater_15 : decode cX3_laysLater 15 = .ok (.if_icmp .lt 7, 3) := dk_161 0 7 (dk_at dksX3_laysLater_0 15 rfl rfl)
theorem dX3_laysLater_18 : decode cX3_laysLater 18 = .ok (.iconst 1, 1) := dk_4 (dk_at dksX3_laysLater_0 18 rfl rfl)
theorem dX3_laysLater_19 : decode cX3_laysLater 19 = .ok (.goto 4, 3) := dk_167 0 4 (dk_at dksX3_laysLater_0 19 rfl rfl)
theorem dX3_laysLater_22 : decode cX3_laysLater 22 = .ok (.iconst 0, 1) := dk_3 (dk_at dksX3_laysLater_0 22 rfl rfl)
theorem dX3_laysLater_23 : decode cX3_laysLater 23 = .ok (.istore_n 2, 1) := dk_61 (dk_at dksX3_laysLater_0 23 rfl rfl)
theorem dX3_laysLater_24 : decode cX3_laysLater 24 = .ok (.aload_n 0, 1) := dk_42 (dk_at dksX3_laysLater_1 0 rfl rfl)
theorem dX3_laysLater_25 : decode cX3_laysLater 25 = .ok (.getfield 9, 3) := dk_180 0 9 (dk_at dksX3_laysLater_1 1 rfl rfl)
theorem dX3_laysLater_28 : decode cX3_laysLater 28 = .ok (.bipush 6, 2) := dk_16 6 (dk_at dksX3_laysLater_1 4 rfl rfl)
theorem dX3_laysLater_30 : decode cX3_laysLater 30 = .ok (.iaload, 1) := dk_46 (dk_at dksX3_laysLater_1 6 rfl rfl)
theorem dX3_laysLater_31 : decode cX3_laysLater 31 = .ok (.iconst 1, 1) := dk_4 (dk_at dksX3_laysLater_1 7 rfl rfl)
theorem dX3_laysLater_32 : decode cX3_laysLater 32 = .ok (.iadd, 1) := dk_96 (dk_at dksX3_laysLater_1 8 rfl rfl)
theorem dX3_laysLater_33 : decode cX3_laysLater 33 = .ok (.istore_n 3, 1) := dk_62 (dk_at dksX3_laysLater_1 9 rfl rfl)
theorem dX3_laysLater_34 : decode cX3_laysLater 34 = .ok (.iload_n 3, 1) := dk_29 (dk_at dksX3_laysLater_1 10 rfl rfl)
theorem dX3_laysLater_35 : decode cX3_laysLater 35 = .ok (.aload_n 0, 1) := dk_42 (dk_at dksX3_laysLater_1 11 rfl rfl)
theorem dX3_laysLater_36 : decode cX3_laysLater 36 = .ok (.getfield 9, 3) := dk_180 0 9 (dk_at dksX3_laysLater_1 12 rfl rfl)
theorem dX3_laysLater_39 : decode cX3_laysLater 39 = .ok (.iconst 0, 1) := dk_3 (dk_at dksX3_laysLater_1 15 rfl rfl)
theorem dX3_laysLater_40 : decode cX3_laysLater 40 = .ok (.iaload, 1) := dk_46 (dk_at dksX3_laysLater_1 16 rfl rfl)
theorem dX3_laysLater_41 : decode cX3_laysLater 41 = .ok (.if_icmp .gt 224, 3) := dk_163 0 224 (dk_at dksX3_laysLater_1 17 rfl rfl)
theorem dX3_laysLater_44 : decode cX3_laysLater 44 = .ok (.iconst 0, 1) := dk_3 (dk_at dksX3_laysLater_1 20 rfl rfl)
theorem dX3_laysLater_45 : decode cX3_laysLater 45 = .ok (.istore 4, 2) := dk_54 4 (dk_at dksX3_laysLater_1 21 rfl rfl)
theorem dX3_laysLater_47 : decode cX3_laysLater 47 = .ok (.iconst 0, 1) := dk_3 (dk_at dksX3_laysLater_1 23 rfl rfl)
theorem dX3_laysLater_48 : decode cX3_laysLater 48 = .ok (.istore 5, 2) := dk_54 5 (dk_at dksX3_laysLater_2 0 rfl rfl)
theorem dX3_laysLater_50 : decode cX3_laysLater 50 = .ok (.iconst 0, 1) := dk_3 (dk_at dksX3_laysLater_2 2 rfl rfl)
theorem dX3_laysLater_51 : decode cX3_laysLater 51 = .ok (.istore 6, 2) := dk_54 6 (dk_at dksX3_laysLater_2 3 rfl rfl)
theorem dX3_laysLater_53 : decode cX3_laysLater 53 = .ok (.iload 6, 2) := dk_21 6 (dk_at dksX3_laysLater_2 5 rfl rfl)
theorem dX3_laysLater_55 : decode cX3_laysLater 55 = .ok (.aload_n 0, 1) := dk_42 (dk_at dksX3_laysLater_2 7 rfl rfl)
theorem dX3_laysLater_56 : decode cX3_laysLater 56 = .ok (.getfield 9, 3) := dk_180 0 9 (dk_at dksX3_laysLater_2 8 rfl rfl)
theorem dX3_laysLater_59 : decode cX3_laysLater 59 = .ok (.iconst 3, 1) := dk_6 (dk_at dksX3_laysLater_2 11 rfl rfl)
theorem dX3_laysLater_60 : decode cX3_laysLater 60 = .ok (.iaload, 1) := dk_46 (dk_at dksX3_laysLater_2 12 rfl rfl)
theorem dX3_laysLater_61 : decode cX3_laysLater 61 = .ok (.if_icmp .ge 75, 3) := dk_162 0 75 (dk_at dksX3_laysLater_2 13 rfl rfl)
theorem dX3_laysLater_64 : decode cX3_laysLater 64 = .ok (.iload_n 1, 1) := dk_27 (dk_at dksX3_laysLater_2 16 rfl rfl)
theorem dX3_laysLater_65 : decode cX3_laysLater 65 = .ok (.iload 6, 2) := dk_21 6 (dk_at dksX3_laysLater_2 17 rfl rfl)
theorem dX3_laysLater_67 : decode cX3_laysLater 67 = .ok (.invokestatic 390, 3) := dk_184 1 134 (dk_at dksX3_laysLater_2 19 rfl rfl)
theorem dX3_laysLater_70 : decode cX3_laysLater 70 = .ok (.ifCond .eq 60, 3) := dk_153 0 60 (dk_at dksX3_laysLater_3 0 rfl rfl)
theorem dX3_laysLater_73 : decode cX3_laysLater 73 = .ok (.iload 4, 2) := dk_21 4 (dk_at dksX3_laysLater_3 3 rfl rfl)
theorem dX3_laysLater_75 : decode cX3_laysLater 75 = .ok (.aload_n 0, 1) := dk_42 (dk_at dksX3_laysLater_3 5 rfl rfl)
theorem dX3_laysLater_76 : decode cX3_laysLater 76 = .ok (.getfield 13, 3) := dk_180 0 13 (dk_at dksX3_laysLater_3 6 rfl rfl)
theorem dX3_laysLater_79 : decode cX3_laysLater 79 = .ok (.aload_n 0, 1) := dk_42 (dk_at dksX3_laysLater_3 9 rfl rfl)
theorem dX3_laysLater_80 : decode cX3_laysLater 80 = .ok (.getfield 22, 3) := dk_180 0 22 (dk_at dksX3_laysLater_3 10 rfl rfl)
theorem dX3_laysLater_83 : decode cX3_laysLater 83 = .ok (.iload 6, 2) := dk_21 6 (dk_at dksX3_laysLater_3 13 rfl rfl)
theorem dX3_laysLater_85 : decode cX3_laysLater 85 = .ok (.iaload, 1) := dk_46 (dk_at dksX3_laysLater_3 15 rfl rfl)
theorem dX3_laysLater_86 : decode cX3_laysLater 86 = .ok (.iaload, 1) := dk_46 (dk_at dksX3_laysLater_3 16 rfl rfl)
theorem dX3_laysLater_87 : decode cX3_laysLater 87 = .ok (.iload_n 3, 1) := dk_29 (dk_at dksX3_laysLater_3 17 rfl rfl)
theorem dX3_laysLater_88 : decode cX3_laysLater 88 = .ok (.if_icmp .le 10, 3) := dk_164 0 10 (dk_at dksX3_laysLater_3 18 rfl rfl)
theorem dX3_laysLater_91 : decode cX3_laysLater 91 = .ok (.iconst 1, 1) := dk_4 (dk_at dksX3_laysLater_3 21 rfl rfl)
theorem dX3_laysLater_92 : decode cX3_laysLater 92 = .ok (.iload 6, 2) := dk_21 6 (dk_at dksX3_laysLater_3 22 rfl rfl)
theorem dX3_laysLater_94 : decode cX3_laysLater 94 = .ok (.ishl, 1) := dk_120 (dk_at dksX3_laysLater_4 0 rfl rfl)
theorem dX3_laysLater_95 : decode cX3_laysLater 95 = .ok (.goto 4, 3) := dk_167 0 4 (dk_at dksX3_laysLater_4 1 rfl rfl)
theorem dX3_laysLater_98 : decode cX3_laysLater 98 = .ok (.iconst 0, 1) := dk_3 (dk_at dksX3_laysLater_4 4 rfl rfl)
theorem dX3_laysLater_99 : decode cX3_laysLater 99 = .ok (.ior, 1) := dk_128 (dk_at dksX3_laysLater_4 5 rfl rfl)
theorem dX3_laysLater_100 : decode cX3_laysLater 100 = .ok (.istore 4, 2) := dk_54 4 (dk_at dksX3_laysLater_4 6 rfl rfl)
theorem dX3_laysLater_102 : decode cX3_laysLater 102 = .ok (.iload 5, 2) := dk_21 5 (dk_at dksX3_laysLater_4 8 rfl rfl)
theorem dX3_laysLater_104 : decode cX3_laysLater 104 = .ok (.ifCond .ne 19, 3) := dk_154 0 19 (dk_at dksX3_laysLater_4 10 rfl rfl)
theorem dX3_laysLater_107 : decode cX3_laysLater 107 = .ok (.aload_n 0, 1) := dk_42 (dk_at dksX3_laysLater_4 13 rfl rfl)
theorem dX3_laysLater_108 : decode cX3_laysLater 108 = .ok (.getfield 13, 3) := dk_180 0 13 (dk_at dksX3_laysLater_4 14 rfl rfl)
theorem dX3_laysLater_111 : decode cX3_laysLater 111 = .ok (.aload_n 0, 1) := dk_42 (dk_at dksX3_laysLater_4 17 rfl rfl)
theorem dX3_laysLater_112 : decode cX3_laysLater 112 = .ok (.getfield 22, 3) := dk_180 0 22 (dk_at dksX3_laysLater_4 18 rfl rfl)
theorem dX3_laysLater_115 : decode cX3_laysLater 115 = .ok (.iload 6, 2) := dk_21 6 (dk_at dksX3_laysLater_4 21 rfl rfl)
theorem dX3_laysLater_117 : decode cX3_laysLater 117 = .ok (.iaload, 1) := dk_46 (dk_at dksX3_laysLater_4 23 rfl rfl)
theorem dX3_laysLater_118 : decode cX3_laysLater 118 = .ok (.iaload, 1) := dk_46 (dk_at dksX3_laysLater_5 0 rfl rfl)
theorem dX3_laysLater_119 : decode cX3_laysLater 119 = .ok (.iload_n 3, 1) := dk_29 (dk_at dksX3_laysLater_5 1 rfl rfl)
theorem dX3_laysLater_120 : decode cX3_laysLater 120 = .ok (.if_icmp .ne 7, 3) := dk_160 0 7 (dk_at dksX3_laysLater_5 2 rfl rfl)
theorem dX3_laysLater_123 : decode cX3_laysLater 123 = .ok (.iconst 1, 1) := dk_4 (dk_at dksX3_laysLater_5 5 rfl rfl)
theorem dX3_laysLater_124 : decode cX3_laysLater 124 = .ok (.goto 4, 3) := dk_167 0 4 (dk_at dksX3_laysLater_5 6 rfl rfl)
theorem dX3_laysLater_127 : decode cX3_laysLater 127 = .ok (.iconst 0, 1) := dk_3 (dk_at dksX3_laysLater_5 9 rfl rfl)
theorem dX3_laysLater_128 : decode cX3_laysLater 128 = .ok (.istore 5, 2) := dk_54 5 (dk_at dksX3_laysLater_5 10 rfl rfl)
theorem dX3_laysLater_130 : decode cX3_laysLater 130 = .ok (.iinc 6 1, 3) := dk_132 6 1 (dk_at dksX3_laysLater_5 12 rfl rfl)
theorem dX3_laysLater_133 : decode cX3_laysLater 133 = .ok (.goto (-80), 3) := dk_167 255 176 (dk_at dksX3_laysLater_5 15 rfl rfl)
theorem dX3_laysLater_136 : decode cX3_laysLater 136 = .ok (.iload 5, 2) := dk_21 5 (dk_at dksX3_laysLater_5 18 rfl rfl)
theorem dX3_laysLater_138 : decode cX3_laysLater 138 = .ok (.ifCond .eq 121, 3) := dk_153 0 121 (dk_at dksX3_laysLater_5 20 rfl rfl)
theorem dX3_laysLater_141 : decode cX3_laysLater 141 = .ok (.aload_n 0, 1) := dk_42 (dk_at dksX3_laysLater_5 23 rfl rfl)
theorem dX3_laysLater_142 : decode cX3_laysLater 142 = .ok (.iload 4, 2) := dk_21 4 (dk_at dksX3_laysLater_6 0 rfl rfl)
theorem dX3_laysLater_144 : decode cX3_laysLater 144 = .ok (.invokevirtual 409, 3) := dk_182 1 153 (dk_at dksX3_laysLater_6 2 rfl rfl)
theorem dX3_laysLater_147 : decode cX3_laysLater 147 = .ok (.ineg, 1) := dk_116 (dk_at dksX3_laysLater_6 5 rfl rfl)
theorem dX3_laysLater_148 : decode cX3_laysLater 148 = .ok (.istore 6, 2) := dk_54 6 (dk_at dksX3_laysLater_6 6 rfl rfl)
theorem dX3_laysLater_150 : decode cX3_laysLater 150 = .ok (.iconst 0, 1) := dk_3 (dk_at dksX3_laysLater_6 8 rfl rfl)
theorem dX3_laysLater_151 : decode cX3_laysLater 151 = .ok (.istore 7, 2) := dk_54 7 (dk_at dksX3_laysLater_6 9 rfl rfl)
theorem dX3_laysLater_153 : decode cX3_laysLater 153 = .ok (.iload 7, 2) := dk_21 7 (dk_at dksX3_laysLater_6 11 rfl rfl)
theorem dX3_laysLater_155 : decode cX3_laysLater 155 = .ok (.aload_n 0, 1) := dk_42 (dk_at dksX3_laysLater_6 13 rfl rfl)
theorem dX3_laysLater_156 : decode cX3_laysLater 156 = .ok (.getfield 9, 3) := dk_180 0 9 (dk_at dksX3_laysLater_6 14 rfl rfl)
theorem dX3_laysLater_159 : decode cX3_laysLater 159 = .ok (.iconst 3, 1) := dk_6 (dk_at dksX3_laysLater_6 17 rfl rfl)
theorem dX3_laysLater_160 : decode cX3_laysLater 160 = .ok (.iaload, 1) := dk_46 (dk_at dksX3_laysLater_6 18 rfl rfl)
theorem dX3_laysLater_161 : decode cX3_laysLater 161 = .ok (.if_icmp .ge 62, 3) := dk_162 0 62 (dk_at dksX3_laysLater_6 19 rfl rfl)
theorem dX3_laysLater_164 : decode cX3_laysLater 164 = .ok (.aload_n 0, 1) := dk_42 (dk_at dksX3_laysLater_6 22 rfl rfl)
theorem dX3_laysLater_165 : decode cX3_laysLater 165 = .ok (.getfield 28, 3) := dk_180 0 28 (dk_at dksX3_laysLater_7 0 rfl rfl)
theorem dX3_laysLater_168 : decode cX3_laysLater 168 = .ok (.iload 7, 2) := dk_21 7 (dk_at dksX3_laysLater_7 3 rfl rfl)
theorem dX3_laysLater_170 : decode cX3_laysLater 170 = .ok (.iaload, 1) := dk_46 (dk_at dksX3_laysLater_7 5 rfl rfl)
theorem dX3_laysLater_171 : decode cX3_laysLater 171 = .ok (.aload_n 0, 1) := dk_42 (dk_at dksX3_laysLater_7 6 rfl rfl)
theorem dX3_laysLater_172 : decode cX3_laysLater 172 = .ok (.getfield 31, 3) := dk_180 0 31 (dk_at dksX3_laysLater_7 7 rfl rfl)
theorem dX3_laysLater_175 : decode cX3_laysLater 175 = .ok (.iload 7, 2) := dk_21 7 (dk_at dksX3_laysLater_7 10 rfl rfl)
theorem dX3_laysLater_177 : decode cX3_laysLater 177 = .ok (.iaload, 1) := dk_46 (dk_at dksX3_laysLater_7 12 rfl rfl)
theorem dX3_laysLater_178 : decode cX3_laysLater 178 = .ok (.iload_n 3, 1) := dk_29 (dk_at dksX3_laysLater_7 13 rfl rfl)
theorem dX3_laysLater_179 : decode cX3_laysLater 179 = .ok (.aload_n 0, 1) := dk_42 (dk_at dksX3_laysLater_7 14 rfl rfl)
theorem dX3_laysLater_180 : decode cX3_laysLater 180 = .ok (.getfield 9, 3) := dk_180 0 9 (dk_at dksX3_laysLater_7 15 rfl rfl)
theorem dX3_laysLater_183 : decode cX3_laysLater 183 = .ok (.bipush 6, 2) := dk_16 6 (dk_at dksX3_laysLater_7 18 rfl rfl)
theorem dX3_laysLater_185 : decode cX3_laysLater 185 = .ok (.iaload, 1) := dk_46 (dk_at dksX3_laysLater_7 20 rfl rfl)
theorem dX3_laysLater_186 : decode cX3_laysLater 186 = .ok (.isub, 1) := dk_100 (dk_at dksX3_laysLater_7 21 rfl rfl)
theorem dX3_laysLater_187 : decode cX3_laysLater 187 = .ok (.imul, 1) := dk_104 (dk_at dksX3_laysLater_7 22 rfl rfl)
theorem dX3_laysLater_188 : decode cX3_laysLater 188 = .ok (.isub, 1) := dk_100 (dk_at dksX3_laysLater_7 23 rfl rfl)
theorem dX3_laysLater_189 : decode cX3_laysLater 189 = .ok (.istore 8, 2) := dk_54 8 (dk_at dksX3_laysLater_8 0 rfl rfl)
theorem dX3_laysLater_191 : decode cX3_laysLater 191 = .ok (.iload 6, 2) := dk_21 6 (dk_at dksX3_laysLater_8 2 rfl rfl)
theorem dX3_laysLater_193 : decode cX3_laysLater 193 = .ok (.iload 4, 2) := dk_21 4 (dk_at dksX3_laysLater_8 4 rfl rfl)
theorem dX3_laysLater_195 : decode cX3_laysLater 195 = .ok (.iload 7, 2) := dk_21 7 (dk_at dksX3_laysLater_8 6 rfl rfl)
theorem dX3_laysLater_197 : decode cX3_laysLater 197 = .ok (.invokestatic 390, 3) := dk_184 1 134 (dk_at dksX3_laysLater_8 8 rfl rfl)
theorem dX3_laysLater_200 : decode cX3_laysLater 200 = .ok (.ifCond .eq 13, 3) := dk_153 0 13 (dk_at dksX3_laysLater_8 11 rfl rfl)
theorem dX3_laysLater_203 : decode cX3_laysLater 203 = .ok (.iload 8, 2) := dk_21 8 (dk_at dksX3_laysLater_8 14 rfl rfl)
theorem dX3_laysLater_205 : decode cX3_laysLater 205 = .ok (.ifCond .le 8, 3) := dk_158 0 8 (dk_at dksX3_laysLater_8 16 rfl rfl)
theorem dX3_laysLater_208 : decode cX3_laysLater 208 = .ok (.iload 8, 2) := dk_21 8 (dk_at dksX3_laysLater_8 19 rfl rfl)
theorem dX3_laysLater_210 : decode cX3_laysLater 210 = .ok (.goto 4, 3) := dk_167 0 4 (dk_at dksX3_laysLater_8 21 rfl rfl)
theorem dX3_laysLater_213 : decode cX3_laysLater 213 = .ok (.iconst 0, 1) := dk_3 (dk_at dksX3_laysLater_9 0 rfl rfl)
theorem dX3_laysLater_214 : decode cX3_laysLater 214 = .ok (.iadd, 1) := dk_96 (dk_at dksX3_laysLater_9 1 rfl rfl)
theorem dX3_laysLater_215 : decode cX3_laysLater 215 = .ok (.istore 6, 2) := dk_54 6 (dk_at dksX3_laysLater_9 2 rfl rfl)
theorem dX3_laysLater_217 : decode cX3_laysLater 217 = .ok (.iinc 7 1, 3) := dk_132 7 1 (dk_at dksX3_laysLater_9 4 rfl rfl)
theorem dX3_laysLater_220 : decode cX3_laysLater 220 = .ok (.goto (-67), 3) := dk_167 255 189 (dk_at dksX3_laysLater_9 7 rfl rfl)
theorem dX3_laysLater_223 : decode cX3_laysLater 223 = .ok (.iload_n 2, 1) := dk_28 (dk_at dksX3_laysLater_9 10 rfl rfl)
theorem dX3_laysLater_224 : decode cX3_laysLater 224 = .ok (.ifCond .eq 12, 3) := dk_153 0 12 (dk_at dksX3_laysLater_9 11 rfl rfl)
theorem dX3_laysLater_227 : decode cX3_laysLater 227 = .ok (.iload 6, 2) := dk_21 6 (dk_at dksX3_laysLater_9 14 rfl rfl)
theorem dX3_laysLater_229 : decode cX3_laysLater 229 = .ok (.ifCond .lt 7, 3) := dk_155 0 7 (dk_at dksX3_laysLater_9 16 rfl rfl)
theorem dX3_laysLater_232 : decode cX3_laysLater 232 = .ok (.iconst 1, 1) := dk_4 (dk_at dksX3_laysLater_9 19 rfl rfl)
theorem dX3_laysLater_233 : decode cX3_laysLater 233 = .ok (.goto 4, 3) := dk_167 0 4 (dk_at dksX3_laysLater_9 20 rfl rfl)
theorem dX3_laysLater_236 : decode cX3_laysLater 236 = .ok (.iconst 0, 1) := dk_3 (dk_at dksX3_laysLater_9 23 rfl rfl)
theorem dX3_laysLater_237 : decode cX3_laysLater 237 = .ok (.istore_n 2, 1) := dk_61 (dk_at dksX3_laysLater_10 0 rfl rfl)
theorem dX3_laysLater_238 : decode cX3_laysLater 238 = .ok (.aload_n 0, 1) := dk_42 (dk_at dksX3_laysLater_10 1 rfl rfl)
theorem dX3_laysLater_239 : decode cX3_laysLater 239 = .ok (.getfield 148, 3) := dk_180 0 148 (dk_at dksX3_laysLater_10 2 rfl rfl)
theorem dX3_laysLater_242 : decode cX3_laysLater 242 = .ok (.aload_n 0, 1) := dk_42 (dk_at dksX3_laysLater_10 5 rfl rfl)
theorem dX3_laysLater_243 : decode cX3_laysLater 243 = .ok (.getfield 533, 3) := dk_180 2 21 (dk_at dksX3_laysLater_10 6 rfl rfl)
theorem dX3_laysLater_246 : decode cX3_laysLater 246 = .ok (.iload 4, 2) := dk_21 4 (dk_at dksX3_laysLater_10 9 rfl rfl)
theorem dX3_laysLater_248 : decode cX3_laysLater 248 = .ok (.iastore, 1) := dk_79 (dk_at dksX3_laysLater_10 11 rfl rfl)
theorem dX3_laysLater_249 : decode cX3_laysLater 249 = .ok (.aload_n 0, 1) := dk_42 (dk_at dksX3_laysLater_10 12 rfl rfl)
theorem dX3_laysLater_250 : decode cX3_laysLater 250 = .ok (.dup, 1) := dk_89 (dk_at dksX3_laysLater_10 13 rfl rfl)
theorem dX3_laysLater_251 : decode cX3_laysLater 251 = .ok (.getfield 533, 3) := dk_180 2 21 (dk_at dksX3_laysLater_10 14 rfl rfl)
theorem dX3_laysLater_254 : decode cX3_laysLater 254 = .ok (.iconst 1, 1) := dk_4 (dk_at dksX3_laysLater_10 17 rfl rfl)
theorem dX3_laysLater_255 : decode cX3_laysLater 255 = .ok (.iadd, 1) := dk_96 (dk_at dksX3_laysLater_10 18 rfl rfl)
theorem dX3_laysLater_256 : decode cX3_laysLater 256 = .ok (.putfield 533, 3) := dk_181 2 21 (dk_at dksX3_laysLater_10 19 rfl rfl)
theorem dX3_laysLater_259 : decode cX3_laysLater 259 = .ok (.iinc 3 1, 3) := dk_132 3 1 (dk_at dksX3_laysLater_11 0 rfl rfl)
theorem dX3_laysLater_262 : decode cX3_laysLater 262 = .ok (.goto (-228), 3) := dk_167 255 28 (dk_at dksX3_laysLater_11 3 rfl rfl)
theorem dX3_laysLater_265 : decode cX3_laysLater 265 = .ok (.iload_n 2, 1) := dk_28 (dk_at dksX3_laysLater_11 6 rfl rfl)
theorem dX3_laysLater_266 : decode cX3_laysLater 266 = .ok (.ireturn, 1) := dk_172 (dk_at dksX3_laysLater_11 7 rfl rfl)
abbrev cX3_takesRow : ByteArray := prog_17_method_102_code
def yX3_takesRow : MethodName := ⟨RX3, "takesRow", "(I)V"⟩
def dkwX3_takesRow_2 : List UInt8 := [181, 2, 24, 177]
abbrev dktX3_takesRow_2 : List UInt8 := dkwX3_takesRow_2 ++ []
def dkwX3_takesRow_1 : List UInt8 := [180, 0, 145, 28, 42, 180, 0, 142, 28, 46, 79, 132, 2, 1, 167, 255, 229, 42, 89, 180, 2, 24, 4, 96]
abbrev dktX3_takesRow_1 : List UInt8 := dkwX3_takesRow_1 ++ dktX3_takesRow_2
def dkwX3_takesRow_0 : List UInt8 := [42, 27, 182, 2, 33, 153, 0, 45, 3, 61, 28, 27, 162, 0, 28, 42, 180, 2, 24, 154, 0, 21, 42]
abbrev dktX3_takesRow_0 : List UInt8 := dkwX3_takesRow_0 ++ dktX3_takesRow_1
theorem dksX3_takesRow_0 : cX3_takesRow.data.toList.drop 0 = dktX3_takesRow_0 := by decide +kernel
theorem dksX3_takesRow_1 : cX3_takesRow.data.toList.drop 23 = dktX3_takesRow_1 := dk_seg dksX3_takesRow_0 23 rfl rfl
theorem dksX3_takesRow_2 : cX3_takesRow.data.toList.drop 47 = dktX3_takesRow_2 := dk_seg dksX3_takesRow_1 24 rfl rfl
theorem dX3_takesRow_0 : decode cX3_takesRow 0 = .ok (.aload_n 0, 1) := dk_42 (dk_at dksX3_takesRow_0 0 rfl rfl)
theorem dX3_takesRow_1 : decode cX3_takesRow 1 = .ok (.iload_n 1, 1) := dk_27 (dk_at dksX3_takesRow_0 1 rfl rfl)
theorem dX3_takesRow_2 : decode cX3_takesRow 2 = .ok (.invokevirtual 545, 3) := dk_182 2 33 (dk_at dksX3_takesRow_0 2 rfl rfl)
theorem dX3_takesRow_5 : decode cX3_takesRow 5 = .ok (.ifCond .eq 45, 3) := dk_153 0 45 (dk_at dksX3_takesRow_0 5 rfl rfl)
theorem dX3_takesRow_8 : decode cX3_takesRow 8 = .ok (.iconst 0, 1) := dk_3 (dk_at dksX3_takesRow_0 8 rfl rfl)
theorem dX3_takesRow_9 : decode cX3_takesRow 9 = .ok (.istore_n 2, 1) := dk_61 (dk_at dksX3_takesRow_0 9 rfl rfl)
theorem dX3_takesRow_10 : decode cX3_takesRow 10 = .ok (.iload_n 2, 1) := dk_28 (dk_at dksX3_takesRow_0 10 rfl rfl)
theorem dX3_takesRow_11 : decode cX3_takesRow 11 = .ok (.iload_n 1, 1) := dk_27 (dk_at dksX3_takesRow_0 11 rfl rfl)
theorem dX3_takesRow_12 : decode cX3_takesRow 12 = .ok (.if_icmp .ge 28, 3) := dk_162 0 28 (dk_at dksX3_takesRow_0 12 rfl rfl)
theorem dX3_takesRow_15 : decode cX3_takesRow 15 = .ok (.aload_n 0, 1) := dk_42 (dk_at dksX3_takesRow_0 15 rfl rfl)
theorem dX3_takesRow_16 : decode cX3_takesRow 16 = .ok (.getfield 536, 3) := dk_180 2 24 (dk_at dksX3_takesRow_0 16 rfl rfl)
theorem dX3_takesRow_19 : decode cX3_takesRow 19 = .ok (.ifCond .ne 21, 3) := dk_154 0 21 (dk_at dksX3_takesRow_0 19 rfl rfl)
theorem dX3_takesRow_22 : decode cX3_takesRow 22 = .ok (.aload_n 0, 1) := dk_42 (dk_at dksX3_takesRow_0 22 rfl rfl)
theorem dX3_takesRow_23 : decode cX3_takesRow 23 = .ok (.getfield 145, 3) := dk_180 0 145 (dk_at dksX3_takesRow_1 0 rfl rfl)
theorem dX3_takesRow_26 : decode cX3_takesRow 26 = .ok (.iload_n 2, 1) := dk_28 (dk_at dksX3_takesRow_1 3 rfl rfl)
theorem dX3_takesRow_27 : decode cX3_takesRow 27 = .ok (.aload_n 0, 1) := dk_42 (dk_at dksX3_takesRow_1 4 rfl rfl)
theorem dX3_takesRow_28 : decode cX3_takesRow 28 = .ok (.getfield 142, 3) := dk_180 0 142 (dk_at dksX3_takesRow_1 5 rfl rfl)
theorem dX3_takesRow_31 : decode cX3_takesRow 31 = .ok (.iload_n 2, 1) := dk_28 (dk_at dksX3_takesRow_1 8 rfl rfl)
theorem dX3_takesRow_32 : decode cX3_takesRow 32 = .ok (.iaload, 1) := dk_46 (dk_at dksX3_takesRow_1 9 rfl rfl)
theorem dX3_takesRow_33 : decode cX3_takesRow 33 = .ok (.iastore, 1) := dk_79 (dk_at dksX3_takesRow_1 10 rfl rfl)
theorem dX3_takesRow_34 : decode cX3_takesRow 34 = .ok (.iinc 2 1, 3) := dk_132 2 1 (dk_at dksX3_takesRow_1 11 rfl rfl)
theorem dX3_takesRow_37 : decode cX3_takesRow 37 = .ok (.goto (-27), 3) := dk_167 255 229 (dk_at dksX3_takesRow_1 14 rfl rfl)
theorem dX3_takesRow_40 : decode cX3_takesRow 40 = .ok (.aload_n 0, 1) := dk_42 (dk_at dksX3_takesRow_1 17 rfl rfl)
theorem dX3_takesRow_41 : decode cX3_takesRow 41 = .ok (.dup, 1) := dk_89 (dk_at dksX3_takesRow_1 18 rfl rfl)
theorem dX3_takesRow_42 : decode cX3_takesRow 42 = .ok (.getfield 536, 3) := dk_180 2 24 (dk_at dksX3_takesRow_1 19 rfl rfl)
theorem dX3_takesRow_45 : decode cX3_takesRow 45 = .ok (.iconst 1, 1) := dk_4 (dk_at dksX3_takesRow_1 22 rfl rfl)
theorem dX3_takesRow_46 : decode cX3_takesRow 46 = .ok (.iadd, 1) := dk_96 (dk_at dksX3_takesRow_1 23 rfl rfl)
theorem dX3_takesRow_47 : decode cX3_takesRow 47 = .ok (.putfield 536, 3) := dk_181 2 24 (dk_at dksX3_takesRow_2 0 rfl rfl)
theorem dX3_takesRow_50 : decode cX3_takesRow 50 = .ok (.return_, 1) := dk_177 (dk_at dksX3_takesRow_2 3 rfl rfl)
abbrev cX3_areTogether : ByteArray := prog_17_method_100_code
def yX3_areTogether : MethodName := ⟨RX3, "areTogether", "(I)Z"⟩
def dkwX3_areTogether_4 : List UInt8 := [164, 0, 5, 3, 172, 132, 2, 1, 167, 255, 156, 4, 172]
abbrev dktX3_areTogether_4 : List UInt8 := dkwX3_areTogether_4 ++ []
def dkwX3_areTogether_3 : List UInt8 := [153, 0, 12, 21, 5, 154, 0, 7, 4, 167, 0, 4, 3, 96, 62, 132, 4, 1, 167, 255, 182, 29, 4]
abbrev dktX3_areTogether_3 : List UInt8 := dkwX3_areTogether_3 ++ dktX3_areTogether_4
def dkwX3_areTogether_2 : List UInt8 := [4, 167, 0, 4, 3, 54, 5, 29, 42, 180, 0, 148, 28, 46, 42, 180, 0, 142, 21, 4, 46, 184, 1, 134]
abbrev dktX3_areTogether_2 : List UInt8 := dkwX3_areTogether_2 ++ dktX3_areTogether_3
def dkwX3_areTogether_1 : List UInt8 := [158, 0, 28, 42, 180, 0, 148, 28, 46, 42, 180, 0, 142, 21, 4, 4, 100, 46, 184, 1, 134, 153, 0, 7]
abbrev dktX3_areTogether_1 : List UInt8 := dkwX3_areTogether_1 ++ dktX3_areTogether_2
def dkwX3_areTogether_0 : List UInt8 := [3, 61, 28, 42, 180, 2, 21, 162, 0, 98, 3, 62, 3, 54, 4, 21, 4, 27, 162, 0, 74, 21, 4]
abbrev dktX3_areTogether_0 : List UInt8 := dkwX3_areTogether_0 ++ dktX3_areTogether_1
theorem dksX3_areTogether_0 : cX3_areTogether.data.toList.drop 0 = dktX3_areTogether_0 := by decide +kernel
theorem dksX3_areTogether_1 : cX3_areTogether.data.toList.drop 23 = dktX3_areTogether_1 := dk_seg dksX3_areTogether_0 23 rfl rfl
theorem dksX3_areTogether_2 : cX3_areTogether.data.toList.drop 47 = dktX3_areTogether_2 := dk_seg dksX3_areTogether_1 24 rfl rfl
theorem dksX3_areTogether_3 : cX3_areTogether.data.toList.drop 71 = dktX3_areTogether_3 := dk_seg dksX3_areTogether_2 24 rfl rfl
theorem dksX3_areTogether_4 : cX3_areTogether.data.toList.drop 94 = dktX3_areTogether_4 := dk_seg dksX3_areTogether_3 23 rfl rfl
theorem dX3_areTogether_0 : decode cX3_areTogether 0 = .ok (.iconst 0, 1) := dk_3 (dk_at dksX3_areTogether_0 0 rfl rfl)
theorem dX3_areTogether_1 : decode cX3_areTogether 1 = .ok (.istore_n 2, 1) := dk_61 (dk_at dksX3_areTogether_0 1 rfl rfl)
theorem dX3_areTogether_2 : decode cX3_areTogether 2 = .ok (.iload_n 2, 1) := dk_28 (dk_at dksX3_areTogether_0 2 rfl rfl)
theorem dX3_areTogether_3 : decode cX3_areTogether 3 = .ok (.aload_n 0, 1) := dk_42 (dk_at dksX3_areTogether_0 3 rfl rfl)
theorem dX3_areTogether_4 : decode cX3_areTogether 4 = .ok (.getfield 533, 3) := dk_180 2 21 (dk_at dksX3_areTogether_0 4 rfl rfl)
theorem dX3_areTogether_7 : decode cX3_areTogether 7 = .ok (.if_icmp .ge 98, 3) := dk_162 0 98 (dk_at dksX3_areTogether_0 7 rfl rfl)
theorem dX3_areTogether_10 : decode cX3_areTogether 10 = .ok (.iconst 0, 1) := dk_3 (dk_at dksX3_areTogether_0 10 rfl rfl)
theorem dX3_areTogether_11 : decode cX3_areTogether 11 = .ok (.istore_n 3, 1) := dk_62 (dk_at dksX3_areTogether_0 11 rfl rfl)
theorem dX3_areTogether_12 : decode cX3_areTogether 12 = .ok (.iconst 0, 1) := dk_3 (dk_at dksX3_areTogether_0 12 rfl rfl)
theorem dX3_areTogether_13 : decode cX3_areTogether 13 = .ok (.istore 4, 2) := dk_54 4 (dk_at dksX3_areTogether_0 13 rfl rfl)
theorem dX3_areTogether_15 : decode cX3_areTogether 15 = .ok (.iload 4, 2) := dk_21 4 (dk_at dksX3_areTogether_0 15 rfl rfl)
theorem dX3_areTogether_17 : decode cX3_areTogether 17 = .ok (.iload_n 1, 1) := dk_27 (dk_at dksX3_areTogether_0 17 rfl rfl)
theorem dX3_areTogether_18 : decode cX3_areTogether 18 = .ok (.if_icmp .ge 74, 3) := dk_162 0 74 (dk_at dksX3_areTogether_0 18 rfl rfl)
theorem dX3_areTogether_21 : decode cX3_areTogether 21 = .ok (.iload 4, 2) := dk_21 4 (dk_at dksX3_areTogether_0 21 rfl rfl)
theorem dX3_areTogether_23 : decode cX3_areTogether 23 = .ok (.ifCond .le 28, 3) := dk_158 0 28 (dk_at dksX3_areTogether_1 0 rfl rfl)
theorem dX3_areTogether_26 : decode cX3_areTogether 26 = .ok (.aload_n 0, 1) := dk_42 (dk_at dksX3_areTogether_1 3 rfl rfl)
theorem dX3_areTogether_27 : decode cX3_areTogether 27 = .ok (.getfield 148, 3) := dk_180 0 148 (dk_at dksX3_areTogether_1 4 rfl rfl)
theorem dX3_areTogether_30 : decode cX3_areTogether 30 = .ok (.iload_n 2, 1) := dk_28 (dk_at dksX3_areTogether_1 7 rfl rfl)
theorem dX3_areTogether_31 : decode cX3_areTogether 31 = .ok (.iaload, 1) := dk_46 (dk_at dksX3_areTogether_1 8 rfl rfl)
theorem dX3_areTogether_32 : decode cX3_areTogether 32 = .ok (.aload_n 0, 1) := dk_42 (dk_at dksX3_areTogether_1 9 rfl rfl)
theorem dX3_areTogether_33 : decode cX3_areTogether 33 = .ok (.getfield 142, 3) := dk_180 0 142 (dk_at dksX3_areTogether_1 10 rfl rfl)
theorem dX3_areTogether_36 : decode cX3_areTogether 36 = .ok (.iload 4, 2) := dk_21 4 (dk_at dksX3_areTogether_1 13 rfl rfl)
theorem dX3_areTogether_38 : decode cX3_areTogether 38 = .ok (.iconst 1, 1) := dk_4 (dk_at dksX3_areTogether_1 15 rfl rfl)
theorem dX3_areTogether_39 : decode cX3_areTogether 39 = .ok (.isub, 1) := dk_100 (dk_at dksX3_areTogether_1 16 rfl rfl)
theorem dX3_areTogether_40 : decode cX3_areTogether 40 = .ok (.iaload, 1) := dk_46 (dk_at dksX3_areTogether_1 17 rfl rfl)
theorem dX3_areTogether_41 : decode cX3_areTogether 41 = .ok (.invokestatic 390, 3) := dk_184 1 134 (dk_at dksX3_areTogether_1 18 rfl rfl)
theorem dX3_areTogether_44 : decode cX3_areTogether 44 = .ok (.ifCond .eq 7, 3) := dk_153 0 7 (dk_at dksX3_areTogether_1 21 rfl rfl)
theorem dX3_areTogether_47 : decode cX3_areTogether 47 = .ok (.iconst 1, 1) := dk_4 (dk_at dksX3_areTogether_2 0 rfl rfl)
theorem dX3_areTogether_48 : decode cX3_areTogether 48 = .ok (.goto 4, 3) := dk_167 0 4 (dk_at dksX3_areTogether_2 1 rfl rfl)
theorem dX3_areTogether_51 : decode cX3_areTogether 51 = .ok (.iconst 0, 1) := dk_3 (dk_at dksX3_areTogether_2 4 rfl rfl)
theorem dX3_areTogether_52 : decode cX3_areTogether 52 = .ok (.istore 5, 2) := dk_54 5 (dk_at dksX3_areTogether_2 5 rfl rfl)
theorem dX3_areTogether_54 : decode cX3_areTogether 54 = .ok (.iload_n 3, 1) := dk_29 (dk_at dksX3_areTogether_2 7 rfl rfl)
theorem dX3_areTogether_55 : decode cX3_areTogether 55 = .ok (.aload_n 0, 1) := dk_42 (dk_at dksX3_areTogether_2 8 rfl rfl)
theorem dX3_areTogether_56 : decode cX3_areTogether 56 = .ok (.getfield 148, 3) := dk_180 0 148 (dk_at dksX3_areTogether_2 9 rfl rfl)
theorem dX3_areTogether_59 : decode cX3_areTogether 59 = .ok (.iload_n 2, 1) := dk_28 (dk_at dksX3_areTogether_2 12 rfl rfl)
theorem dX3_areTogether_60 : decode cX3_areTogether 60 = .ok (.iaload, 1) := dk_46 (dk_at dksX3_areTogether_2 13 rfl rfl)
theorem dX3_areTogether_61 : decode cX3_areTogether 61 = .ok (.aload_n 0, 1) := dk_42 (dk_at dksX3_areTogether_2 14 rfl rfl)
theorem dX3_areTogether_62 : decode cX3_areTogether 62 = .ok (.getfield 142, 3) := dk_180 0 142 (dk_at dksX3_areTogether_2 15 rfl rfl)
theorem dX3_areTogether_65 : decode cX3_areTogether 65 = .ok (.iload 4, 2) := dk_21 4 (dk_at dksX3_areTogether_2 18 rfl rfl)
theorem dX3_areTogether_67 : decode cX3_areTogether 67 = .ok (.iaload, 1) := dk_46 (dk_at dksX3_areTogether_2 20 rfl rfl)
theorem dX3_areTogether_68 : decode cX3_areTogether 68 = .ok (.invokestatic 390, 3) := dk_184 1 134 (dk_at dksX3_areTogether_2 21 rfl rfl)
theorem dX3_areTogether_71 : decode cX3_areTogether 71 = .ok (.ifCond .eq 12, 3) := dk_153 0 12 (dk_at dksX3_areTogether_3 0 rfl rfl)
theorem dX3_areTogether_74 : decode cX3_areTogether 74 = .ok (.iload 5, 2) := dk_21 5 (dk_at dksX3_areTogether_3 3 rfl rfl)
theorem dX3_areTogether_76 : decode cX3_areTogether 76 = .ok (.ifCond .ne 7, 3) := dk_154 0 7 (dk_at dksX3_areTogether_3 5 rfl rfl)
theorem dX3_areTogether_79 : decode cX3_areTogether 79 = .ok (.iconst 1, 1) := dk_4 (dk_at dksX3_areTogether_3 8 rfl rfl)
theorem dX3_areTogether_80 : decode cX3_areTogether 80 = .ok (.goto 4, 3) := dk_167 0 4 (dk_at dksX3_areTogether_3 9 rfl rfl)
theorem dX3_areTogether_83 : decode cX3_areTogether 83 = .ok (.iconst 0, 1) := dk_3 (dk_at dksX3_areTogether_3 12 rfl rfl)
theorem dX3_areTogether_84 : decode cX3_areTogether 84 = .ok (.iadd, 1) := dk_96 (dk_at dksX3_areTogether_3 13 rfl rfl)
theorem dX3_areTogether_85 : decode cX3_areTogether 85 = .ok (.istore_n 3, 1) := dk_62 (dk_at dksX3_areTogether_3 14 rfl rfl)
theorem dX3_areTogether_86 : decode cX3_areTogether 86 = .ok (.iinc 4 1, 3) := dk_132 4 1 (dk_at dksX3_areTogether_3 15 rfl rfl)
theorem dX3_areTogether_89 : decode cX3_areTogether 89 = .ok (.goto (-74), 3) := dk_167 255 182 (dk_at dksX3_areTogether_3 18 rfl rfl)
theorem dX3_areTogether_92 : decode cX3_areTogether 92 = .ok (.iload_n 3, 1) := dk_29 (dk_at dksX3_areTogether_3 21 rfl rfl)
theorem dX3_areTogether_93 : decode cX3_areTogether 93 = .ok (.iconst 1, 1) := dk_4 (dk_at dksX3_areTogether_3 22 rfl rfl)
theorem dX3_areTogether_94 : decode cX3_areTogether 94 = .ok (.if_icmp .le 5, 3) := dk_164 0 5 (dk_at dksX3_areTogether_4 0 rfl rfl)
theorem dX3_areTogether_97 : decode cX3_areTogether 97 = .ok (.iconst 0, 1) := dk_3 (dk_at dksX3_areTogether_4 3 rfl rfl)
theorem dX3_areTogether_98 : decode cX3_areTogether 98 = .ok (.ireturn, 1) := dk_172 (dk_at dksX3_areTogether_4 4 rfl rfl)
theorem dX3_areTogether_99 : decode cX3_areTogether 99 = .ok (.iinc 2 1, 3) := dk_132 2 1 (dk_at dksX3_areTogether_4 5 rfl rfl)
theorem dX3_areTogether_102 : decode cX3_areTogether 102 = .ok (.goto (-100), 3) := dk_167 255 156 (dk_at dksX3_areTogether_4 8 rfl rfl)
theorem dX3_areTogether_105 : decode cX3_areTogether 105 = .ok (.iconst 1, 1) := dk_4 (dk_at dksX3_areTogether_4 11 rfl rfl)
theorem dX3_areTogether_106 : decode cX3_areTogether 106 = .ok (.ireturn, 1) := dk_172 (dk_at dksX3_areTogether_4 12 rfl rfl)
abbrev cX3_sawn : ByteArray := prog_17_method_104_code
def yX3_sawn : MethodName := ⟨RX3, "sawn", "(II)I"⟩
def dkwX3_sawn_5 : List UInt8 := [16, 254, 159, 0, 8, 28, 4, 160, 0, 8, 21, 4, 167, 0, 8, 21, 4, 184, 1, 204, 172]
abbrev dktX3_sawn_5 : List UInt8 := dkwX3_sawn_5 ++ []
def dkwX3_sawn_4 : List UInt8 := [21, 5, 167, 0, 5, 21, 4, 54, 4, 132, 5, 1, 167, 255, 195, 28, 5, 160, 0, 5, 29, 172, 21, 4]
abbrev dktX3_sawn_4 : List UInt8 := dkwX3_sawn_4 ++ dktX3_sawn_5
def dkwX3_sawn_3 : List UInt8 := [132, 3, 1, 21, 4, 16, 254, 159, 0, 16, 21, 5, 184, 1, 204, 21, 4, 184, 1, 204, 162, 0, 8]
abbrev dktX3_sawn_3 : List UInt8 := dkwX3_sawn_3 ++ dktX3_sawn_4
def dkwX3_sawn_2 : List UInt8 := [182, 1, 140, 163, 0, 58, 42, 42, 182, 1, 140, 21, 5, 2, 130, 126, 182, 1, 197, 27, 160, 0, 35]
abbrev dktX3_sawn_2 : List UInt8 := dkwX3_sawn_2 ++ dktX3_sawn_3
def dkwX3_sawn_1 : List UInt8 := [9, 20, 2, 43, 184, 0, 176, 154, 0, 5, 2, 172, 3, 62, 16, 254, 54, 4, 3, 54, 5, 21, 5, 42]
abbrev dktX3_sawn_1 : List UInt8 := dkwX3_sawn_1 ++ dktX3_sawn_2
def dkwX3_sawn_0 : List UInt8 := [42, 182, 1, 174, 153, 0, 30, 27, 155, 0, 26, 27, 42, 182, 1, 137, 2, 130, 126, 154, 0, 15, 28, 133]
abbrev dktX3_sawn_0 : List UInt8 := dkwX3_sawn_0 ++ dktX3_sawn_1
theorem dksX3_sawn_0 : cX3_sawn.data.toList.drop 0 = dktX3_sawn_0 := by decide +kernel
theorem dksX3_sawn_1 : cX3_sawn.data.toList.drop 24 = dktX3_sawn_1 := dk_seg dksX3_sawn_0 24 rfl rfl
theorem dksX3_sawn_2 : cX3_sawn.data.toList.drop 48 = dktX3_sawn_2 := dk_seg dksX3_sawn_1 24 rfl rfl
theorem dksX3_sawn_3 : cX3_sawn.data.toList.drop 71 = dktX3_sawn_3 := dk_seg dksX3_sawn_2 23 rfl rfl
theorem dksX3_sawn_4 : cX3_sawn.data.toList.drop 94 = dktX3_sawn_4 := dk_seg dksX3_sawn_3 23 rfl rfl
theorem dksX3_sawn_5 : cX3_sawn.data.toList.drop 118 = dktX3_sawn_5 := dk_seg dksX3_sawn_4 24 rfl rfl
theorem dX3_sawn_0 : decode cX3_sawn 0 = .ok (.aload_n 0, 1) := dk_42 (dk_at dksX3_sawn_0 0 rfl rfl)
theorem dX3_sawn_1 : decode cX3_sawn 1 = .ok (.invokevirtual 430, 3) := dk_182 1 174 (dk_at dksX3_sawn_0 1 rfl rfl)
theorem dX3_sawn_4 : decode cX3_sawn 4 = .ok (.ifCond .eq 30, 3) := dk_153 0 30 (dk_at dksX3_sawn_0 4 rfl rfl)
theorem dX3_sawn_7 : decode cX3_sawn 7 = .ok (.iload_n 1, 1) := dk_27 (dk_at dksX3_sawn_0 7 rfl rfl)
theorem dX3_sawn_8 : decode cX3_sawn 8 = .ok (.ifCond .lt 26, 3) := dk_155 0 26 (dk_at dksX3_sawn_0 8 rfl rfl)
theorem dX3_sawn_11 : decode cX3_sawn 11 = .ok (.iload_n 1, 1) := dk_27 (dk_at dksX3_sawn_0 11 rfl rfl)
theorem dX3_sawn_12 : decode cX3_sawn 12 = .ok (.aload_n 0, 1) := dk_42 (dk_at dksX3_sawn_0 12 rfl rfl)
theorem dX3_sawn_13 : decode cX3_sawn 13 = .ok (.invokevirtual 393, 3) := dk_182 1 137 (dk_at dksX3_sawn_0 13 rfl rfl)
theorem dX3_sawn_16 : decode cX3_sawn 16 = .ok (.iconst (-1), 1) := dk_2 (dk_at dksX3_sawn_0 16 rfl rfl)
theorem dX3_sawn_17 : decode cX3_sawn 17 = .ok (.ixor, 1) := dk_130 (dk_at dksX3_sawn_0 17 rfl rfl)
theorem dX3_sawn_18 : decode cX3_sawn 18 = .ok (.iand, 1) := dk_126 (dk_at dksX3_sawn_0 18 rfl rfl)
theorem dX3_sawn_19 : decode cX3_sawn 19 = .ok (.ifCond .ne 15, 3) := dk_154 0 15 (dk_at dksX3_sawn_0 19 rfl rfl)
theorem dX3_sawn_22 : decode cX3_sawn 22 = .ok (.iload_n 2, 1) := dk_28 (dk_at dksX3_sawn_0 22 rfl rfl)
theorem dX3_sawn_23 : decode cX3_sawn 23 = .ok (.i2l, 1) := dk_133 (dk_at dksX3_sawn_0 23 rfl rfl)
theorem dX3_sawn_24 : decode cX3_sawn 24 = .ok (.lconst 0, 1) := dk_9 (dk_at dksX3_sawn_1 0 rfl rfl)
theorem dX3_sawn_25 : decode cX3_sawn 25 = .ok (.ldc2_w 555, 3) := dk_20 2 43 (dk_at dksX3_sawn_1 1 rfl rfl)
theorem dX3_sawn_28 : decode cX3_sawn 28 = .ok (.invokestatic 176, 3) := dk_184 0 176 (dk_at dksX3_sawn_1 4 rfl rfl)
theorem dX3_sawn_31 : decode cX3_sawn 31 = .ok (.ifCond .ne 5, 3) := dk_154 0 5 (dk_at dksX3_sawn_1 7 rfl rfl)
theorem dX3_sawn_34 : decode cX3_sawn 34 = .ok (.iconst (-1), 1) := dk_2 (dk_at dksX3_sawn_1 10 rfl rfl)
theorem dX3_sawn_35 : decode cX3_sawn 35 = .ok (.ireturn, 1) := dk_172 (dk_at dksX3_sawn_1 11 rfl rfl)
theorem dX3_sawn_36 : decode cX3_sawn 36 = .ok (.iconst 0, 1) := dk_3 (dk_at dksX3_sawn_1 12 rfl rfl)
theorem dX3_sawn_37 : decode cX3_sawn 37 = .ok (.istore_n 3, 1) := dk_62 (dk_at dksX3_sawn_1 13 rfl rfl)
theorem dX3_sawn_38 : decode cX3_sawn 38 = .ok (.bipush (-2), 2) := dk_16 254 (dk_at dksX3_sawn_1 14 rfl rfl)
theorem dX3_sawn_40 : decode cX3_sawn 40 = .ok (.istore 4, 2) := dk_54 4 (dk_at dksX3_sawn_1 16 rfl rfl)
theorem dX3_sawn_42 : decode cX3_sawn 42 = .ok (.iconst 0, 1) := dk_3 (dk_at dksX3_sawn_1 18 rfl rfl)
theorem dX3_sawn_43 : decode cX3_sawn 43 = .ok (.istore 5, 2) := dk_54 5 (dk_at dksX3_sawn_1 19 rfl rfl)
theorem dX3_sawn_45 : decode cX3_sawn 45 = .ok (.iload 5, 2) := dk_21 5 (dk_at dksX3_sawn_1 21 rfl rfl)
theorem dX3_sawn_47 : decode cX3_sawn 47 = .ok (.aload_n 0, 1) := dk_42 (dk_at dksX3_sawn_1 23 rfl rfl)
theorem dX3_sawn_48 : decode cX3_sawn 48 = .ok (.invokevirtual 396, 3) := dk_182 1 140 (dk_at dksX3_sawn_2 0 rfl rfl)
theorem dX3_sawn_51 : decode cX3_sawn 51 = .ok (.if_icmp .gt 58, 3) := dk_163 0 58 (dk_at dksX3_sawn_2 3 rfl rfl)
theorem dX3_sawn_54 : decode cX3_sawn 54 = .ok (.aload_n 0, 1) := dk_42 (dk_at dksX3_sawn_2 6 rfl rfl)
theorem dX3_sawn_55 : decode cX3_sawn 55 = .ok (.aload_n 0, 1) := dk_42 (dk_at dksX3_sawn_2 7 rfl rfl)
theorem dX3_sawn_56 : decode cX3_sawn 56 = .ok (.invokevirtual 396, 3) := dk_182 1 140 (dk_at dksX3_sawn_2 8 rfl rfl)
theorem dX3_sawn_59 : decode cX3_sawn 59 = .ok (.iload 5, 2) := dk_21 5 (dk_at dksX3_sawn_2 11 rfl rfl)
theorem dX3_sawn_61 : decode cX3_sawn 61 = .ok (.iconst (-1), 1) := dk_2 (dk_at dksX3_sawn_2 13 rfl rfl)
theorem dX3_sawn_62 : decode cX3_sawn 62 = .ok (.ixor, 1) := dk_130 (dk_at dksX3_sawn_2 14 rfl rfl)
theorem dX3_sawn_63 : decode cX3_sawn 63 = .ok (.iand, 1) := dk_126 (dk_at dksX3_sawn_2 15 rfl rfl)
theorem dX3_sawn_64 : decode cX3_sawn 64 = .ok (.invokevirtual 453, 3) := dk_182 1 197 (dk_at dksX3_sawn_2 16 rfl rfl)
theorem dX3_sawn_67 : decode cX3_sawn 67 = .ok (.iload_n 1, 1) := dk_27 (dk_at dksX3_sawn_2 19 rfl rfl)
theorem dX3_sawn_68 : decode cX3_sawn 68 = .ok (.if_icmp .ne 35, 3) := dk_160 0 35 (dk_at dksX3_sawn_2 20 rfl rfl)
theorem dX3_sawn_71 : decode cX3_sawn 71 = .ok (.iinc 3 1, 3) := dk_132 3 1 (dk_at dksX3_sawn_3 0 rfl rfl)
theorem dX3_sawn_74 : decode cX3_sawn 74 = .ok (.iload 4, 2) := dk_21 4 (dk_at dksX3_sawn_3 3 rfl rfl)
theorem dX3_sawn_76 : decode cX3_sawn 76 = .ok (.bipush (-2), 2) := dk_16 254 (dk_at dksX3_sawn_3 5 rfl rfl)
theorem dX3_sawn_78 : decode cX3_sawn 78 = .ok (.if_icmp .eq 16, 3) := dk_159 0 16 (dk_at dksX3_sawn_3 7 rfl rfl)
theorem dX3_sawn_81 : decode cX3_sawn 81 = .ok (.iload 5, 2) := dk_21 5 (dk_at dksX3_sawn_3 10 rfl rfl)
theorem dX3_sawn_83 : decode cX3_sawn 83 = .ok (.invokestatic 460, 3) := dk_184 1 204 (dk_at dksX3_sawn_3 12 rfl rfl)
theorem dX3_sawn_86 : decode cX3_sawn 86 = .ok (.iload 4, 2) := dk_21 4 (dk_at dksX3_sawn_3 15 rfl rfl)
theorem dX3_sawn_88 : decode cX3_sawn 88 = .ok (.invokestatic 460, 3) := dk_184 1 204 (dk_at dksX3_sawn_3 17 rfl rfl)
theorem dX3_sawn_91 : decode cX3_sawn 91 = .ok (.if_icmp .ge 8, 3) := dk_162 0 8 (dk_at dksX3_sawn_3 20 rfl rfl)
theorem dX3_sawn_94 : decode cX3_sawn 94 = .ok (.iload 5, 2) := dk_21 5 (dk_at dksX3_sawn_4 0 rfl rfl)
theorem dX3_sawn_96 : decode cX3_sawn 96 = .ok (.goto 5, 3) := dk_167 0 5 (dk_at dksX3_sawn_4 2 rfl rfl)
theorem dX3_sawn_99 : decode cX3_sawn 99 = .ok (.iload 4, 2) := dk_21 4 (dk_at dksX3_sawn_4 5 rfl rfl)
theorem dX3_sawn_101 : decode cX3_sawn 101 = .ok (.istore 4, 2) := dk_54 4 (dk_at dksX3_sawn_4 7 rfl rfl)
theorem dX3_sawn_103 : decode cX3_sawn 103 = .ok (.iinc 5 1, 3) := dk_132 5 1 (dk_at dksX3_sawn_4 9 rfl rfl)
theorem dX3_sawn_106 : decode cX3_sawn 106 = .ok (.goto (-61), 3) := dk_167 255 195 (dk_at dksX3_sawn_4 12 rfl rfl)
theorem dX3_sawn_109 : decode cX3_sawn 109 = .ok (.iload_n 2, 1) := dk_28 (dk_at dksX3_sawn_4 15 rfl rfl)
theorem dX3_sawn_110 : decode cX3_sawn 110 = .ok (.iconst 2, 1) := dk_5 (dk_at dksX3_sawn_4 16 rfl rfl)
theorem dX3_sawn_111 : decode cX3_sawn 111 = .ok (.if_icmp .ne 5, 3) := dk_160 0 5 (dk_at dksX3_sawn_4 17 rfl rfl)
theorem dX3_sawn_114 : decode cX3_sawn 114 = .ok (.iload_n 3, 1) := dk_29 (dk_at dksX3_sawn_4 20 rfl rfl)
theorem dX3_sawn_115 : decode cX3_sawn 115 = .ok (.ireturn, 1) := dk_172 (dk_at dksX3_sawn_4 21 rfl rfl)
theorem dX3_sawn_116 : decode cX3_sawn 116 = .ok (.iload 4, 2) := dk_21 4 (dk_at dksX3_sawn_4 22 rfl rfl)
theorem dX3_sawn_118 : decode cX3_sawn 118 = .ok (.bipush (-2), 2) := dk_16 254 (dk_at dksX3_sawn_5 0 rfl rfl)
theorem dX3_sawn_120 : decode cX3_sawn 120 = .ok (.if_icmp .eq 8, 3) := dk_159 0 8 (dk_at dksX3_sawn_5 2 rfl rfl)
theorem dX3_sawn_123 : decode cX3_sawn 123 = .ok (.iload_n 2, 1) := dk_28 (dk_at dksX3_sawn_5 5 rfl rfl)
theorem dX3_sawn_124 : decode cX3_sawn 124 = .ok (.iconst 1, 1) := dk_4 (dk_at dksX3_sawn_5 6 rfl rfl)
theorem dX3_sawn_125 : decode cX3_sawn 125 = .ok (.if_icmp .ne 8, 3) := dk_160 0 8 (dk_at dksX3_sawn_5 7 rfl rfl)
theorem dX3_sawn_128 : decode cX3_sawn 128 = .ok (.iload 4, 2) := dk_21 4 (dk_at dksX3_sawn_5 10 rfl rfl)
theorem dX3_sawn_130 : decode cX3_sawn 130 = .ok (.goto 8, 3) := dk_167 0 8 (dk_at dksX3_sawn_5 12 rfl rfl)
theorem dX3_sawn_133 : decode cX3_sawn 133 = .ok (.iload 4, 2) := dk_21 4 (dk_at dksX3_sawn_5 15 rfl rfl)
theorem dX3_sawn_135 : decode cX3_sawn 135 = .ok (.invokestatic 460, 3) := dk_184 1 204 (dk_at dksX3_sawn_5 17 rfl rfl)
theorem dX3_sawn_138 : decode cX3_sawn 138 = .ok (.ireturn, 1) := dk_172 (dk_at dksX3_sawn_5 20 rfl rfl)
abbrev cX3_locks : ByteArray := prog_17_method_108_code
def yX3_locks : MethodName := ⟨RX3, "locks", "(II)I"⟩
def dkwX3_locks_6 : List UInt8 := [167, 0, 4, 2, 172]
abbrev dktX3_locks_6 : List UInt8 := dkwX3_locks_6 ++ []
def dkwX3_locks_5 : List UInt8 := [132, 4, 1, 167, 255, 228, 42, 28, 4, 100, 182, 1, 180, 153, 0, 12, 42, 180, 0, 154, 29, 46]
abbrev dktX3_locks_5 : List UInt8 := dkwX3_locks_5 ++ dktX3_locks_6
def dkwX3_locks_4 : List UInt8 := [28, 4, 100, 162, 0, 26, 29, 42, 21, 4, 182, 1, 180, 153, 0, 7, 4, 167, 0, 4, 3, 96, 62]
abbrev dktX3_locks_4 : List UInt8 := dkwX3_locks_4 ++ dktX3_locks_5
def dkwX3_locks_3 : List UInt8 := [167, 255, 221, 42, 27, 182, 2, 58, 28, 154, 0, 8, 42, 180, 2, 45, 172, 3, 62, 3, 54, 4, 21, 4]
abbrev dktX3_locks_3 : List UInt8 := dkwX3_locks_3 ++ dktX3_locks_4
def dkwX3_locks_2 : List UInt8 := [180, 0, 34, 29, 46, 154, 0, 16, 42, 180, 0, 25, 29, 46, 27, 164, 0, 6, 16, 254, 172, 132, 3, 1]
abbrev dktX3_locks_2 : List UInt8 := dkwX3_locks_2 ++ dktX3_locks_3
def dkwX3_locks_1 : List UInt8 := [20, 2, 56, 184, 0, 176, 154, 0, 5, 2, 172, 3, 62, 29, 42, 180, 0, 9, 6, 46, 162, 0, 31, 42]
abbrev dktX3_locks_1 : List UInt8 := dkwX3_locks_1 ++ dktX3_locks_2
def dkwX3_locks_0 : List UInt8 := [42, 182, 1, 174, 153, 0, 27, 27, 133, 10, 20, 2, 54, 184, 0, 176, 153, 0, 15, 28, 133, 9]
abbrev dktX3_locks_0 : List UInt8 := dkwX3_locks_0 ++ dktX3_locks_1
theorem dksX3_locks_0 : cX3_locks.data.toList.drop 0 = dktX3_locks_0 := by decide +kernel
theorem dksX3_locks_1 : cX3_locks.data.toList.drop 22 = dktX3_locks_1 := dk_seg dksX3_locks_0 22 rfl rfl
theorem dksX3_locks_2 : cX3_locks.data.toList.drop 46 = dktX3_locks_2 := dk_seg dksX3_locks_1 24 rfl rfl
theorem dksX3_locks_3 : cX3_locks.data.toList.drop 70 = dktX3_locks_3 := dk_seg dksX3_locks_2 24 rfl rfl
theorem dksX3_locks_4 : cX3_locks.data.toList.drop 94 = dktX3_locks_4 := dk_seg dksX3_locks_3 24 rfl rfl
theorem dksX3_locks_5 : cX3_locks.data.toList.drop 117 = dktX3_locks_5 := dk_seg dksX3_locks_4 23 rfl rfl
theorem dksX3_locks_6 : cX3_locks.data.toList.drop 139 = dktX3_locks_6 := dk_seg dksX3_locks_5 22 rfl rfl
theorem dX3_locks_0 : decode cX3_locks 0 = .ok (.aload_n 0, 1) := dk_42 (dk_at dksX3_locks_0 0 rfl rfl)
theorem dX3_locks_1 : decode cX3_locks 1 = .ok (.invokevirtual 430, 3) := dk_182 1 174 (dk_at dksX3_locks_0 1 rfl rfl)
theorem dX3_locks_4 : decode cX3_locks 4 = .ok (.ifCond .eq 27, 3) := dk_153 0 27 (dk_at dksX3_locks_0 4 rfl rfl)
theorem dX3_locks_7 : decode cX3_locks 7 = .ok (.iload_n 1, 1) := dk_27 (dk_at dksX3_locks_0 7 rfl rfl)
theorem dX3_locks_8 : decode cX3_locks 8 = .ok (.i2l, 1) := dk_133 (dk_at dksX3_locks_0 8 rfl rfl)
theorem dX3_locks_9 : decode cX3_locks 9 = .ok (.lconst 1, 1) := dk_10 (dk_at dksX3_locks_0 9 rfl rfl)
theorem dX3_locks_10 : decode cX3_locks 10 = .ok (.ldc2_w 566, 3) := dk_20 2 54 (dk_at dksX3_locks_0 10 rfl rfl)
theorem dX3_locks_13 : decode cX3_locks 13 = .ok (.invokestatic 176, 3) := dk_184 0 176 (dk_at dksX3_locks_0 13 rfl rfl)
theorem dX3_locks_16 : decode cX3_locks 16 = .ok (.ifCond .eq 15, 3) := dk_153 0 15 (dk_at dksX3_locks_0 16 rfl rfl)
theorem dX3_locks_19 : decode cX3_locks 19 = .ok (.iload_n 2, 1) := dk_28 (dk_at dksX3_locks_0 19 rfl rfl)
theorem dX3_locks_20 : decode cX3_locks 20 = .ok (.i2l, 1) := dk_133 (dk_at dksX3_locks_0 20 rfl rfl)
theorem dX3_locks_21 : decode cX3_locks 21 = .ok (.lconst 0, 1) := dk_9 (dk_at dksX3_locks_0 21 rfl rfl)
theorem dX3_locks_22 : decode cX3_locks 22 = .ok (.ldc2_w 568, 3) := dk_20 2 56 (dk_at dksX3_locks_1 0 rfl rfl)
theorem dX3_locks_25 : decode cX3_locks 25 = .ok (.invokestatic 176, 3) := dk_184 0 176 (dk_at dksX3_locks_1 3 rfl rfl)
theorem dX3_locks_28 : decode cX3_locks 28 = .ok (.ifCond .ne 5, 3) := dk_154 0 5 (dk_at dksX3_locks_1 6 rfl rfl)
theorem dX3_locks_31 : decode cX3_locks 31 = .ok (.iconst (-1), 1) := dk_2 (dk_at dksX3_locks_1 9 rfl rfl)
theorem dX3_locks_32 : decode cX3_locks 32 = .ok (.ireturn, 1) := dk_172 (dk_at dksX3_locks_1 10 rfl rfl)
theorem dX3_locks_33 : decode cX3_locks 33 = .ok (.iconst 0, 1) := dk_3 (dk_at dksX3_locks_1 11 rfl rfl)
theorem dX3_locks_34 : decode cX3_locks 34 = .ok (.istore_n 3, 1) := dk_62 (dk_at dksX3_locks_1 12 rfl rfl)
theorem dX3_locks_35 : decode cX3_locks 35 = .ok (.iload_n 3, 1) := dk_29 (dk_at dksX3_locks_1 13 rfl rfl)
theorem dX3_locks_36 : decode cX3_locks 36 = .ok (.aload_n 0, 1) := dk_42 (dk_at dksX3_locks_1 14 rfl rfl)
theorem dX3_locks_37 : decode cX3_locks 37 = .ok (.getfield 9, 3) := dk_180 0 9 (dk_at dksX3_locks_1 15 rfl rfl)
theorem dX3_locks_40 : decode cX3_locks 40 = .ok (.iconst 3, 1) := dk_6 (dk_at dksX3_locks_1 18 rfl rfl)
theorem dX3_locks_41 : decode cX3_locks 41 = .ok (.iaload, 1) := dk_46 (dk_at dksX3_locks_1 19 rfl rfl)
theorem dX3_locks_42 : decode cX3_locks 42 = .ok (.if_icmp .ge 31, 3) := dk_162 0 31 (dk_at dksX3_locks_1 20 rfl rfl)
theorem dX3_locks_45 : decode cX3_locks 45 = .ok (.aload_n 0, 1) := dk_42 (dk_at dksX3_locks_1 23 rfl rfl)
theorem dX3_locks_46 : decode cX3_locks 46 = .ok (.getfield 34, 3) := dk_180 0 34 (dk_at dksX3_locks_2 0 rfl rfl)
theorem dX3_locks_49 : decode cX3_locks 49 = .ok (.iload_n 3, 1) := dk_29 (dk_at dksX3_locks_2 3 rfl rfl)
theorem dX3_locks_50 : decode cX3_locks 50 = .ok (.iaload, 1) := dk_46 (dk_at dksX3_locks_2 4 rfl rfl)
theorem dX3_locks_51 : decode cX3_locks 51 = .ok (.ifCond .ne 16, 3) := dk_154 0 16 (dk_at dksX3_locks_2 5 rfl rfl)
theorem dX3_locks_54 : decode cX3_locks 54 = .ok (.aload_n 0, 1) := dk_42 (dk_at dksX3_locks_2 8 rfl rfl)
theorem dX3_locks_55 : decode cX3_locks 55 = .ok (.getfield 25, 3) := dk_180 0 25 (dk_at dksX3_locks_2 9 rfl rfl)
theorem dX3_locks_58 : decode cX3_locks 58 = .ok (.iload_n 3, 1) := dk_29 (dk_at dksX3_locks_2 12 rfl rfl)
theorem dX3_locks_59 : decode cX3_locks 59 = .ok (.iaload, 1) := dk_46 (dk_at dksX3_locks_2 13 rfl rfl)
theorem dX3_locks_60 : decode cX3_locks 60 = .ok (.iload_n 1, 1) := dk_27 (dk_at dksX3_locks_2 14 rfl rfl)
theorem dX3_locks_61 : decode cX3_locks 61 = .ok (.if_icmp .le 6, 3) := dk_164 0 6 (dk_at dksX3_locks_2 15 rfl rfl)
theorem dX3_locks_64 : decode cX3_locks 64 = .ok (.bipush (-2), 2) := dk_16 254 (dk_at dksX3_locks_2 18 rfl rfl)
theorem dX3_locks_66 : decode cX3_locks 66 = .ok (.ireturn, 1) := dk_172 (dk_at dksX3_locks_2 20 rfl rfl)
theorem dX3_locks_67 : decode cX3_locks 67 = .ok (.iinc 3 1, 3) := dk_132 3 1 (dk_at dksX3_locks_2 21 rfl rfl)
theorem dX3_locks_70 : decode cX3_locks 70 = .ok (.goto (-35), 3) := dk_167 255 221 (dk_at dksX3_locks_3 0 rfl rfl)
theorem dX3_locks_73 : decode cX3_locks 73 = .ok (.aload_n 0, 1) := dk_42 (dk_at dksX3_locks_3 3 rfl rfl)
theorem dX3_locks_74 : decode cX3_locks 74 = .ok (.iload_n 1, 1) := dk_27 (dk_at dksX3_locks_3 4 rfl rfl)
theorem dX3_locks_75 : decode cX3_locks 75 = .ok (.invokevirtual 570, 3) := dk_182 2 58 (dk_at dksX3_locks_3 5 rfl rfl)
theorem dX3_locks_78 : decode cX3_locks 78 = .ok (.iload_n 2, 1) := dk_28 (dk_at dksX3_locks_3 8 rfl rfl)
theorem dX3_locks_79 : decode cX3_locks 79 = .ok (.ifCond .ne 8, 3) := dk_154 0 8 (dk_at dksX3_locks_3 9 rfl rfl)
theorem dX3_locks_82 : decode cX3_locks 82 = .ok (.aload_n 0, 1) := dk_42 (dk_at dksX3_locks_3 12 rfl rfl)
theorem dX3_locks_83 : decode cX3_locks 83 = .ok (.getfield 557, 3) := dk_180 2 45 (dk_at dksX3_locks_3 13 rfl rfl)
theorem dX3_locks_86 : decode cX3_locks 86 = .ok (.ireturn, 1) := dk_172 (dk_at dksX3_locks_3 16 rfl rfl)
theorem dX3_locks_87 : decode cX3_locks 87 = .ok (.iconst 0, 1) := dk_3 (dk_at dksX3_locks_3 17 rfl rfl)
theorem dX3_locks_88 : decode cX3_locks 88 = .ok (.istore_n 3, 1) := dk_62 (dk_at dksX3_locks_3 18 rfl rfl)
theorem dX3_locks_89 : decode cX3_locks 89 = .ok (.iconst 0, 1) := dk_3 (dk_at dksX3_locks_3 19 rfl rfl)
theorem dX3_locks_90 : decode cX3_locks 90 = .ok (.istore 4, 2) := dk_54 4 (dk_at dksX3_locks_3 20 rfl rfl)
theorem dX3_locks_92 : decode cX3_locks 92 = .ok (.iload 4, 2) := dk_21 4 (dk_at dksX3_locks_3 22 rfl rfl)
theorem dX3_locks_94 : decode cX3_locks 94 = .ok (.iload_n 2, 1) := dk_28 (dk_at dksX3_locks_4 0 rfl rfl)
theorem dX3_locks_95 : decode cX3_locks 95 = .ok (.iconst 1, 1) := dk_4 (dk_at dksX3_locks_4 1 rfl rfl)
theorem dX3_locks_96 : decode cX3_locks 96 = .ok (.isub, 1) := dk_100 (dk_at dksX3_locks_4 2 rfl rfl)
theorem dX3_locks_97 : decode cX3_locks 97 = .ok (.if_icmp .ge 26, 3) := dk_162 0 26 (dk_at dksX3_locks_4 3 rfl rfl)
theorem dX3_locks_100 : decode cX3_locks 100 = .ok (.iload_n 3, 1) := dk_29 (dk_at dksX3_locks_4 6 rfl rfl)
theorem dX3_locks_101 : decode cX3_locks 101 = .ok (.aload_n 0, 1) := dk_42 (dk_at dksX3_locks_4 7 rfl rfl)
theorem dX3_locks_102 : decode cX3_locks 102 = .ok (.iload 4, 2) := dk_21 4 (dk_at dksX3_locks_4 8 rfl rfl)
theorem dX3_locks_104 : decode cX3_locks 104 = .ok (.invokevirtual 436, 3) := dk_182 1 180 (dk_at dksX3_locks_4 10 rfl rfl)
theorem dX3_locks_107 : decode cX3_locks 107 = .ok (.ifCond .eq 7, 3) := dk_153 0 7 (dk_at dksX3_locks_4 13 rfl rfl)
theorem dX3_locks_110 : decode cX3_locks 110 = .ok (.iconst 1, 1) := dk_4 (dk_at dksX3_locks_4 16 rfl rfl)
theorem dX3_locks_111 : decode cX3_locks 111 = .ok (.goto 4, 3) := dk_167 0 4 (dk_at dksX3_locks_4 17 rfl rfl)
theorem dX3_locks_114 : decode cX3_locks 114 = .ok (.iconst 0, 1) := dk_3 (dk_at dksX3_locks_4 20 rfl rfl)
theorem dX3_locks_115 : decode cX3_locks 115 = .ok (.iadd, 1) := dk_96 (dk_at dksX3_locks_4 21 rfl rfl)
theorem dX3_locks_116 : decode cX3_locks 116 = .ok (.istore_n 3, 1) := dk_62 (dk_at dksX3_locks_4 22 rfl rfl)
theorem dX3_locks_117 : decode cX3_locks 117 = .ok (.iinc 4 1, 3) := dk_132 4 1 (dk_at dksX3_locks_5 0 rfl rfl)
theorem dX3_locks_120 : decode cX3_locks 120 = .ok (.goto (-28), 3) := dk_167 255 228 (dk_at dksX3_locks_5 3 rfl rfl)
theorem dX3_locks_123 : decode cX3_locks 123 = .ok (.aload_n 0, 1) := dk_42 (dk_at dksX3_locks_5 6 rfl rfl)
theorem dX3_locks_124 : decode cX3_locks 124 = .ok (.iload_n 2, 1) := dk_28 (dk_at dksX3_locks_5 7 rfl rfl)
theorem dX3_locks_125 : decode cX3_locks 125 = .ok (.iconst 1, 1) := dk_4 (dk_at dksX3_locks_5 8 rfl rfl)
theorem dX3_locks_126 : decode cX3_locks 126 = .ok (.isub, 1) := dk_100 (dk_at dksX3_locks_5 9 rfl rfl)
theorem dX3_locks_127 : decode cX3_locks 127 = .ok (.invokevirtual 436, 3) := dk_182 1 180 (dk_at dksX3_locks_5 10 rfl rfl)
theorem dX3_locks_130 : decode cX3_locks 130 = .ok (.ifCond .eq 12, 3) := dk_153 0 12 (dk_at dksX3_locks_5 13 rfl rfl)
theorem dX3_locks_133 : decode cX3_locks 133 = .ok (.aload_n 0, 1) := dk_42 (dk_at dksX3_locks_5 16 rfl rfl)
theorem dX3_locks_134 : decode cX3_locks 134 = .ok (.getfield 154, 3) := dk_180 0 154 (dk_at dksX3_locks_5 17 rfl rfl)
theorem dX3_locks_137 : decode cX3_locks 137 = .ok (.iload_n 3, 1) := dk_29 (dk_at dksX3_locks_5 20 rfl rfl)
theorem dX3_locks_138 : decode cX3_locks 138 = .ok (.iaload, 1) := dk_46 (dk_at dksX3_locks_5 21 rfl rfl)
theorem dX3_locks_139 : decode cX3_locks 139 = .ok (.goto 4, 3) := dk_167 0 4 (dk_at dksX3_locks_6 0 rfl rfl)
theorem dX3_locks_142 : decode cX3_locks 142 = .ok (.iconst (-1), 1) := dk_2 (dk_at dksX3_locks_6 3 rfl rfl)
theorem dX3_locks_143 : decode cX3_locks 143 = .ok (.ireturn, 1) := dk_172 (dk_at dksX3_locks_6 4 rfl rfl)
abbrev cX3_findsLocks : ByteArray := prog_17_method_107_code
def yX3_findsLocks : MethodName := ⟨RX3, "findsLocks", "(I)V"⟩
def dkwX3_findsLocks_10 : List UInt8 := [132, 3, 1, 42, 180, 0, 151, 29, 2, 79, 167, 255, 71, 177]
abbrev dktX3_findsLocks_10 : List UInt8 := dkwX3_findsLocks_10 ++ []
def dkwX3_findsLocks_9 : List UInt8 := [180, 0, 154, 21, 6, 42, 180, 0, 151, 21, 6, 46, 79, 132, 6, 1, 167, 255, 233, 167, 0, 13]
abbrev dktX3_findsLocks_9 : List UInt8 := dkwX3_findsLocks_9 ++ dktX3_findsLocks_10
def dkwX3_findsLocks_8 : List UInt8 := [4, 100, 160, 0, 44, 42, 42, 28, 182, 2, 48, 181, 2, 45, 3, 54, 6, 21, 6, 28, 162, 0, 23, 42]
abbrev dktX3_findsLocks_8 : List UInt8 := dkwX3_findsLocks_8 ++ dktX3_findsLocks_9
def dkwX3_findsLocks_7 : List UInt8 := [42, 180, 0, 151, 29, 46, 21, 4, 163, 0, 8, 21, 5, 153, 0, 9, 132, 3, 255, 167, 0, 61, 29, 28]
abbrev dktX3_findsLocks_7 : List UInt8 := dkwX3_findsLocks_7 ++ dktX3_findsLocks_8
def dkwX3_findsLocks_6 : List UInt8 := [159, 0, 21, 42, 29, 4, 96, 182, 2, 48, 42, 180, 2, 45, 161, 0, 7, 4, 167, 0, 4, 3, 54, 5]
abbrev dktX3_findsLocks_6 : List UInt8 := dkwX3_findsLocks_6 ++ dktX3_findsLocks_7
def dkwX3_findsLocks_5 : List UInt8 := [46, 96, 27, 164, 0, 16, 42, 180, 0, 151, 29, 92, 46, 4, 96, 79, 167, 255, 208, 42, 180, 2, 45, 2]
abbrev dktX3_findsLocks_5 : List UInt8 := dkwX3_findsLocks_5 ++ dktX3_findsLocks_6
def dkwX3_findsLocks_4 : List UInt8 := [163, 0, 43, 42, 42, 180, 0, 151, 29, 46, 29, 182, 2, 51, 42, 180, 0, 25, 42, 180, 0, 157, 29, 46]
abbrev dktX3_findsLocks_4 : List UInt8 := dkwX3_findsLocks_4 ++ dktX3_findsLocks_5
def dkwX3_findsLocks_3 : List UInt8 := [180, 0, 151, 29, 92, 46, 4, 96, 79, 42, 29, 182, 2, 48, 54, 4, 42, 180, 0, 151, 29, 46, 21, 4]
abbrev dktX3_findsLocks_3 : List UInt8 := dkwX3_findsLocks_3 ++ dktX3_findsLocks_4
def dkwX3_findsLocks_2 : List UInt8 := [2, 181, 2, 45, 3, 62, 42, 180, 0, 151, 3, 2, 79, 29, 155, 0, 187, 28, 158, 0, 183, 42]
abbrev dktX3_findsLocks_2 : List UInt8 := dkwX3_findsLocks_2 ++ dktX3_findsLocks_3
def dkwX3_findsLocks_1 : List UInt8 := [180, 0, 157, 28, 29, 79, 132, 2, 1, 132, 3, 1, 167, 255, 224, 42, 28, 154, 0, 7, 3, 167, 0, 4]
abbrev dktX3_findsLocks_1 : List UInt8 := dkwX3_findsLocks_1 ++ dktX3_findsLocks_2
def dkwX3_findsLocks_0 : List UInt8 := [3, 61, 3, 62, 29, 42, 180, 0, 9, 6, 46, 162, 0, 28, 42, 180, 0, 34, 29, 46, 154, 0, 13, 42]
abbrev dktX3_findsLocks_0 : List UInt8 := dkwX3_findsLocks_0 ++ dktX3_findsLocks_1
theorem dksX3_findsLocks_0 : cX3_findsLocks.data.toList.drop 0 = dktX3_findsLocks_0 := by decide +kernel
theorem dksX3_findsLocks_1 : cX3_findsLocks.data.toList.drop 24 = dktX3_findsLocks_1 := dk_seg dksX3_findsLocks_0 24 rfl rfl
theorem dksX3_findsLocks_2 : cX3_findsLocks.data.toList.drop 48 = dktX3_findsLocks_2 := dk_seg dksX3_findsLocks_1 24 rfl rfl
theorem dksX3_findsLocks_3 : cX3_findsLocks.data.toList.drop 70 = dktX3_findsLocks_3 := dk_seg dksX3_findsLocks_2 22 rfl rfl
theorem dksX3_findsLocks_4 : cX3_findsLocks.data.toList.drop 94 = dktX3_findsLocks_4 := dk_seg dksX3_findsLocks_3 24 rfl rfl
theorem dksX3_findsLocks_5 : cX3_findsLocks.data.toList.drop 118 = dktX3_findsLocks_5 := dk_seg dksX3_findsLocks_4 24 rfl rfl
theorem dksX3_findsLocks_6 : cX3_findsLocks.data.toList.drop 142 = dktX3_findsLocks_6 := dk_seg dksX3_findsLocks_5 24 rfl rfl
theorem dksX3_findsLocks_7 : cX3_findsLocks.data.toList.drop 166 = dktX3_findsLocks_7 := dk_seg dksX3_findsLocks_6 24 rfl rfl
theorem dksX3_findsLocks_8 : cX3_findsLocks.data.toList.drop 190 = dktX3_findsLocks_8 := dk_seg dksX3_findsLocks_7 24 rfl rfl
theorem dksX3_findsLocks_9 : cX3_findsLocks.data.toList.drop 214 = dktX3_findsLocks_9 := dk_seg dksX3_findsLocks_8 24 rfl rfl
theorem dksX3_findsLocks_10 : cX3_findsLocks.data.toList.drop 236 = dktX3_findsLocks_10 := dk_seg dksX3_findsLocks_9 22 rfl rfl
theorem dX3_findsLocks_0 : decode cX3_findsLocks 0 = .ok (.iconst 0, 1) := dk_3 (dk_at dksX3_findsLocks_0 0 rfl rfl)
theorem dX3_findsLocks_1 : decode cX3_findsLocks 1 = .ok (.istore_n 2, 1) := dk_61 (dk_at dksX3_findsLocks_0 1 rfl rfl)
theorem dX3_findsLocks_2 : decode cX3_findsLocks 2 = .ok (.iconst 0, 1) := dk_3 (dk_at dksX3_findsLocks_0 2 rfl rfl)
theorem dX3_findsLocks_3 : decode cX3_findsLocks 3 = .ok (.istore_n 3, 1) := dk_62 (dk_at dksX3_findsLocks_0 3 rfl rfl)
theorem dX3_findsLocks_4 : decode cX3_findsLocks 4 = .ok (.iload_n 3, 1) := dk_29 (dk_at dksX3_findsLocks_0 4 rfl rfl)
theorem dX3_findsLocks_5 : decode cX3_findsLocks 5 = .ok (.aload_n 0, 1) := dk_42 (dk_at dksX3_findsLocks_0 5 rfl rfl)
theorem dX3_findsLocks_6 : decode cX3_findsLocks 6 = .ok (.getfield 9, 3) := dk_180 0 9 (dk_at dksX3_findsLocks_0 6 rfl rfl)
theorem dX3_findsLocks_9 : decode cX3_findsLocks 9 = .ok (.iconst 3, 1) := dk_6 (dk_at dksX3_findsLocks_0 9 rfl rfl)
theorem dX3_findsLocks_10 : decode cX3_findsLocks 10 = .ok (.iaload, 1) := dk_46 (dk_at dksX3_findsLocks_0 10 rfl rfl)
theorem dX3_findsLocks_11 : decode cX3_findsLocks 11 = .ok (.if_icmp .ge 28, 3) := dk_162 0 28 (dk_at dksX3_findsLocks_0 11 rfl rfl)
theorem dX3_findsLocks_14 : decode cX3_findsLocks 14 = .ok (.aload_n 0, 1) := dk_42 (dk_at dksX3_findsLocks_0 14 rfl rfl)
theorem dX3_findsLocks_15 : decode cX3_findsLocks 15 = .ok (.getfield 34, 3) := dk_180 0 34 (dk_at dksX3_findsLocks_0 15 rfl rfl)
theorem dX3_findsLocks_18 : decode cX3_findsLocks 18 = .ok (.iload_n 3, 1) := dk_29 (dk_at dksX3_findsLocks_0 18 rfl rfl)
theorem dX3_findsLocks_19 : decode cX3_findsLocks 19 = .ok (.iaload, 1) := dk_46 (dk_at dksX3_findsLocks_0 19 rfl rfl)
theorem dX3_findsLocks_20 : decode cX3_findsLocks 20 = .ok (.ifCond .ne 13, 3) := dk_154 0 13 (dk_at dksX3_findsLocks_0 20 rfl rfl)
theorem dX3_findsLocks_23 : decode cX3_findsLocks 23 = .ok (.aload_n 0, 1) := dk_42 (dk_at dksX3_findsLocks_0 23 rfl rfl)
theorem dX3_findsLocks_24 : decode cX3_findsLocks 24 = .ok (.getfield 157, 3) := dk_180 0 157 (dk_at dksX3_findsLocks_1 0 rfl rfl)
theorem dX3_findsLocks_27 : decode cX3_findsLocks 27 = .ok (.iload_n 2, 1) := dk_28 (dk_at dksX3_findsLocks_1 3 rfl rfl)
theorem dX3_findsLocks_28 : decode cX3_findsLocks 28 = .ok (.iload_n 3, 1) := dk_29 (dk_at dksX3_findsLocks_1 4 rfl rfl)
theorem dX3_findsLocks_29 : decode cX3_findsLocks 29 = .ok (.iastore, 1) := dk_79 (dk_at dksX3_findsLocks_1 5 rfl rfl)
theorem dX3_findsLocks_30 : decode cX3_findsLocks 30 = .ok (.iinc 2 1, 3) := dk_132 2 1 (dk_at dksX3_findsLocks_1 6 rfl rfl)
theorem dX3_findsLocks_33 : decode cX3_findsLocks 33 = .ok (.iinc 3 1, 3) := dk_132 3 1 (dk_at dksX3_findsLocks_1 9 rfl rfl)
theorem dX3_findsLocks_36 : decode cX3_findsLocks 36 = .ok (.goto (-32), 3) := dk_167 255 224 (dk_at dksX3_findsLocks_1 12 rfl rfl)
theorem dX3_findsLocks_39 : decode cX3_findsLocks 39 = .ok (.aload_n 0, 1) := dk_42 (dk_at dksX3_findsLocks_1 15 rfl rfl)
theorem dX3_findsLocks_40 : decode cX3_findsLocks 40 = .ok (.iload_n 2, 1) := dk_28 (dk_at dksX3_findsLocks_1 16 rfl rfl)
theorem dX3_findsLocks_41 : decode cX3_findsLocks 41 = .ok (.ifCond .ne 7, 3) := dk_154 0 7 (dk_at dksX3_findsLocks_1 17 rfl rfl)
theorem dX3_findsLocks_44 : decode cX3_findsLocks 44 = .ok (.iconst 0, 1) := dk_3 (dk_at dksX3_findsLocks_1 20 rfl rfl)
theorem dX3_findsLocks_45 : decode cX3_findsLocks 45 = .ok (.goto 4, 3) := dk_167 0 4 (dk_at dksX3_findsLocks_1 21 rfl rfl)
theorem dX3_findsLocks_48 : decode cX3_findsLocks 48 = .ok (.iconst (-1), 1) := dk_2 (dk_at dksX3_findsLocks_2 0 rfl rfl)
theorem dX3_findsLocks_49 : decode cX3_findsLocks 49 = .ok (.putfield 557, 3) := dk_181 2 45 (dk_at dksX3_findsLocks_2 1 rfl rfl)
theorem dX3_findsLocks_52 : decode cX3_findsLocks 52 = .ok (.iconst 0, 1) := dk_3 (dk_at dksX3_findsLocks_2 4 rfl rfl)
theorem dX3_findsLocks_53 : decode cX3_findsLocks 53 = .ok (.istore_n 3, 1) := dk_62 (dk_at dksX3_findsLocks_2 5 rfl rfl)
theorem dX3_findsLocks_54 : decode cX3_findsLocks 54 = .ok (.aload_n 0, 1) := dk_42 (dk_at dksX3_findsLocks_2 6 rfl rfl)
theorem dX3_findsLocks_55 : decode cX3_findsLocks 55 = .ok (.getfield 151, 3) := dk_180 0 151 (dk_at dksX3_findsLocks_2 7 rfl rfl)
theorem dX3_findsLocks_58 : decode cX3_findsLocks 58 = .ok (.iconst 0, 1) := dk_3 (dk_at dksX3_findsLocks_2 10 rfl rfl)
theorem dX3_findsLocks_59 : decode cX3_findsLocks 59 = .ok (.iconst (-1), 1) := dk_2 (dk_at dksX3_findsLocks_2 11 rfl rfl)
theorem dX3_findsLocks_60 : decode cX3_findsLocks 60 = .ok (.iastore, 1) := dk_79 (dk_at dksX3_findsLocks_2 12 rfl rfl)
theorem dX3_findsLocks_61 : decode cX3_findsLocks 61 = .ok (.iload_n 3, 1) := dk_29 (dk_at dksX3_findsLocks_2 13 rfl rfl)
theorem dX3_findsLocks_62 : decode cX3_findsLocks 62 = .ok (.ifCond .lt 187, 3) := dk_155 0 187 (dk_at dksX3_findsLocks_2 14 rfl rfl)
theorem dX3_findsLocks_65 : decode cX3_findsLocks 65 = .ok (.iload_n 2, 1) := dk_28 (dk_at dksX3_findsLocks_2 17 rfl rfl)
theorem dX3_findsLocks_66 : decode cX3_findsLocks 66 = .ok (.ifCond .le 183, 3) := dk_158 0 183 (dk_at dksX3_findsLocks_2 18 rfl rfl)
theorem dX3_findsLocks_69 : decode cX3_findsLocks 69 = .ok (.aload_n 0, 1) := dk_42 (dk_at dksX3_findsLocks_2 21 rfl rfl)
theorem dX3_findsLocks_70 : decode cX3_findsLocks 70 = .ok (.getfield 151, 3) := dk_180 0 151 (dk_at dksX3_findsLocks_3 0 rfl rfl)
theorem dX3_findsLocks_73 : decode cX3_findsLocks 73 = .ok (.iload_n 3, 1) := dk_29 (dk_at dksX3_findsLocks_3 3 rfl rfl)
theorem dX3_findsLocks_74 : decode cX3_findsLocks 74 = .ok (.dup2, 1) := dk_92 (dk_at dksX3_findsLocks_3 4 rfl rfl)
theorem dX3_findsLocks_75 : decode cX3_findsLocks 75 = .ok (.iaload, 1) := dk_46 (dk_at dksX3_findsLocks_3 5 rfl rfl)
theorem dX3_findsLocks_76 : decode cX3_findsLocks 76 = .ok (.iconst 1, 1) := dk_4 (dk_at dksX3_findsLocks_3 6 rfl rfl)
theorem dX3_findsLocks_77 : decode cX3_findsLocks 77 = .ok (.iadd, 1) := dk_96 (dk_at dksX3_findsLocks_3 7 rfl rfl)
theorem dX3_findsLocks_78 : decode cX3_findsLocks 78 = .ok (.iastore, 1) := dk_79 (dk_at dksX3_findsLocks_3 8 rfl rfl)
theorem dX3_findsLocks_79 : decode cX3_findsLocks 79 = .ok (.aload_n 0, 1) := dk_42 (dk_at dksX3_findsLocks_3 9 rfl rfl)
theorem dX3_findsLocks_80 : decode cX3_findsLocks 80 = .ok (.iload_n 3, 1) := dk_29 (dk_at dksX3_findsLocks_3 10 rfl rfl)
theorem dX3_findsLocks_81 : decode cX3_findsLocks 81 = .ok (.invokevirtual 560, 3) := dk_182 2 48 (dk_at dksX3_findsLocks_3 11 rfl rfl)
theorem dX3_findsLocks_84 : decode cX3_findsLocks 84 = .ok (.istore 4, 2) := dk_54 4 (dk_at dksX3_findsLocks_3 14 rfl rfl)
theorem dX3_findsLocks_86 : decode cX3_findsLocks 86 = .ok (.aload_n 0, 1) := dk_42 (dk_at dksX3_findsLocks_3 16 rfl rfl)
theorem dX3_findsLocks_87 : decode cX3_findsLocks 87 = .ok (.getfield 151, 3) := dk_180 0 151 (dk_at dksX3_findsLocks_3 17 rfl rfl)
theorem dX3_findsLocks_90 : decode cX3_findsLocks 90 = .ok (.iload_n 3, 1) := dk_29 (dk_at dksX3_findsLocks_3 20 rfl rfl)
theorem dX3_findsLocks_91 : decode cX3_findsLocks 91 = .ok (.iaload, 1) := dk_46 (dk_at dksX3_findsLocks_3 21 rfl rfl)
theorem dX3_findsLocks_92 : decode cX3_findsLocks 92 = .ok (.iload 4, 2) := dk_21 4 (dk_at dksX3_findsLocks_3 22 rfl rfl)
theorem dX3_findsLocks_94 : decode cX3_findsLocks 94 = .ok (.if_icmp .gt 43, 3) := dk_163 0 43 (dk_at dksX3_findsLocks_4 0 rfl rfl)
theorem dX3_findsLocks_97 : decode cX3_findsLocks 97 = .ok (.aload_n 0, 1) := dk_42 (dk_at dksX3_findsLocks_4 3 rfl rfl)
theorem dX3_findsLocks_98 : decode cX3_findsLocks 98 = .ok (.aload_n 0, 1) := dk_42 (dk_at dksX3_findsLocks_4 4 rfl rfl)
theorem dX3_findsLocks_99 : decode cX3_findsLocks 99 = .ok (.getfield 151, 3) := dk_180 0 151 (dk_at dksX3_findsLocks_4 5 rfl rfl)
theorem dX3_findsLocks_102 : decode cX3_findsLocks 102 = .ok (.iload_n 3, 1) := dk_29 (dk_at dksX3_findsLocks_4 8 rfl rfl)
theorem dX3_findsLocks_103 : decode cX3_findsLocks 103 = .ok (.iaload, 1) := dk_46 (dk_at dksX3_findsLocks_4 9 rfl rfl)
theorem dX3_findsLocks_104 : decode cX3_findsLocks 104 = .ok (.iload_n 3, 1) := dk_29 (dk_at dksX3_findsLocks_4 10 rfl rfl)
theorem dX3_findsLocks_105 : decode cX3_findsLocks 105 = .ok (.invokevirtual 563, 3) := dk_182 2 51 (dk_at dksX3_findsLocks_4 11 rfl rfl)
theorem dX3_findsLocks_108 : decode cX3_findsLocks 108 = .ok (.aload_n 0, 1) := dk_42 (dk_at dksX3_findsLocks_4 14 rfl rfl)
theorem dX3_findsLocks_109 : decode cX3_findsLocks 109 = .ok (.getfield 25, 3) := dk_180 0 25 (dk_at dksX3_findsLocks_4 15 rfl rfl)
theorem dX3_findsLocks_112 : decode cX3_findsLocks 112 = .ok (.aload_n 0, 1) := dk_42 (dk_at dksX3_findsLocks_4 18 rfl rfl)
theorem dX3_findsLocks_113 : decode cX3_findsLocks 113 = .ok (.getfield 157, 3) := dk_180 0 157 (dk_at dksX3_findsLocks_4 19 rfl rfl)
theorem dX3_findsLocks_116 : decode cX3_findsLocks 116 = .ok (.iload_n 3, 1) := dk_29 (dk_at dksX3_findsLocks_4 22 rfl rfl)
theorem dX3_findsLocks_117 : decode cX3_findsLocks 117 = .ok (.iaload, 1) := dk_46 (dk_at dksX3_findsLocks_4 23 rfl rfl)
theorem dX3_findsLocks_118 : decode cX3_findsLocks 118 = .ok (.iaload, 1) := dk_46 (dk_at dksX3_findsLocks_5 0 rfl rfl)
theorem dX3_findsLocks_119 : decode cX3_findsLocks 119 = .ok (.iadd, 1) := dk_96 (dk_at dksX3_findsLocks_5 1 rfl rfl)
theorem dX3_findsLocks_120 : decode cX3_findsLocks 120 = .ok (.iload_n 1, 1) := dk_27 (dk_at dksX3_findsLocks_5 2 rfl rfl)
theorem dX3_findsLocks_121 : decode cX3_findsLocks 121 = .ok (.if_icmp .le 16, 3) := dk_164 0 16 (dk_at dksX3_findsLocks_5 3 rfl rfl)
theorem dX3_findsLocks_124 : decode cX3_findsLocks 124 = .ok (.aload_n 0, 1) := dk_42 (dk_at dksX3_findsLocks_5 6 rfl rfl)
theorem dX3_findsLocks_125 : decode cX3_findsLocks 125 = .ok (.getfield 151, 3) := dk_180 0 151 (dk_at dksX3_findsLocks_5 7 rfl rfl)
theorem dX3_findsLocks_128 : decode cX3_findsLocks 128 = .ok (.iload_n 3, 1) := dk_29 (dk_at dksX3_findsLocks_5 10 rfl rfl)
theorem dX3_findsLocks_129 : decode cX3_findsLocks 129 = .ok (.dup2, 1) := dk_92 (dk_at dksX3_findsLocks_5 11 rfl rfl)
theorem dX3_findsLocks_130 : decode cX3_findsLocks 130 = .ok (.iaload, 1) := dk_46 (dk_at dksX3_findsLocks_5 12 rfl rfl)
theorem dX3_findsLocks_131 : decode cX3_findsLocks 131 = .ok (.iconst 1, 1) := dk_4 (dk_at dksX3_findsLocks_5 13 rfl rfl)
theorem dX3_findsLocks_132 : decode cX3_findsLocks 132 = .ok (.iadd, 1) := dk_96 (dk_at dksX3_findsLocks_5 14 rfl rfl)
theorem dX3_findsLocks_133 : decode cX3_findsLocks 133 = .ok (.iastore, 1) := dk_79 (dk_at dksX3_findsLocks_5 15 rfl rfl)
theorem dX3_findsLocks_134 : decode cX3_findsLocks 134 = .ok (.goto (-48), 3) := dk_167 255 208 (dk_at dksX3_findsLocks_5 16 rfl rfl)
theorem dX3_findsLocks_137 : decode cX3_findsLocks 137 = .ok (.aload_n 0, 1) := dk_42 (dk_at dksX3_findsLocks_5 19 rfl rfl)
theorem dX3_findsLocks_138 : decode cX3_findsLocks 138 = .ok (.getfield 557, 3) := dk_180 2 45 (dk_at dksX3_findsLocks_5 20 rfl rfl)
theorem dX3_findsLocks_141 : decode cX3_findsLocks 141 = .ok (.iconst (-1), 1) := dk_2 (dk_at dksX3_findsLocks_5 23 rfl rfl)
theorem dX3_findsLocks_142 : decode cX3_findsLocks 142 = .ok (.if_icmp .eq 21, 3) := dk_159 0 21 (dk_at dksX3_findsLocks_6 0 rfl rfl)
theorem dX3_findsLocks_145 : decode cX3_findsLocks 145 = .ok (.aload_n 0, 1) := dk_42 (dk_at dksX3_findsLocks_6 3 rfl rfl)
theorem dX3_findsLocks_146 : decode cX3_findsLocks 146 = .ok (.iload_n 3, 1) := dk_29 (dk_at dksX3_findsLocks_6 4 rfl rfl)
theorem dX3_findsLocks_147 : decode cX3_findsLocks 147 = .ok (.iconst 1, 1) := dk_4 (dk_at dksX3_findsLocks_6 5 rfl rfl)
theorem dX3_findsLocks_148 : decode cX3_findsLocks 148 = .ok (.iadd, 1) := dk_96 (dk_at dksX3_findsLocks_6 6 rfl rfl)
theorem dX3_findsLocks_149 : decode cX3_findsLocks 149 = .ok (.invokevirtual 560, 3) := dk_182 2 48 (dk_at dksX3_findsLocks_6 7 rfl rfl)
theorem dX3_findsLocks_152 : decode cX3_findsLocks 152 = .ok (.aload_n 0, 1) := dk_42 (dk_at dksX3_findsLocks_6 10 rfl rfl)
theorem dX3_findsLocks_153 : decode cX3_findsLocks 153 = .ok (.getfield 557, 3) := dk_180 2 45 (dk_at dksX3_findsLocks_6 11 rfl rfl)
theorem dX3_findsLocks_156 : decode cX3_findsLocks 156 = .ok (.if_icmp .lt 7, 3) := dk_161 0 7 (dk_at dksX3_findsLocks_6 14 rfl rfl)
theorem dX3_findsLocks_159 : decode cX3_findsLocks 159 = .ok (.iconst 1, 1) := dk_4 (dk_at dksX3_findsLocks_6 17 rfl rfl)
theorem dX3_findsLocks_160 : decode cX3_findsLocks 160 = .ok (.goto 4, 3) := dk_167 0 4 (dk_at dksX3_findsLocks_6 18 rfl rfl)
theorem dX3_findsLocks_163 : decode cX3_findsLocks 163 = .ok (.iconst 0, 1) := dk_3 (dk_at dksX3_findsLocks_6 21 rfl rfl)
theorem dX3_findsLocks_164 : decode cX3_findsLocks 164 = .ok (.istore 5, 2) := dk_54 5 (dk_at dksX3_findsLocks_6 22 rfl rfl)
theorem dX3_findsLocks_166 : decode cX3_findsLocks 166 = .ok (.aload_n 0, 1) := dk_42 (dk_at dksX3_findsLocks_7 0 rfl rfl)
theorem dX3_findsLocks_167 : decode cX3_findsLocks 167 = .ok (.getfield 151, 3) := dk_180 0 151 (dk_at dksX3_findsLocks_7 1 rfl rfl)
theorem dX3_findsLocks_170 : decode cX3_findsLocks 170 = .ok (.iload_n 3, 1) := dk_29 (dk_at dksX3_findsLocks_7 4 rfl rfl)
theorem dX3_findsLocks_171 : decode cX3_findsLocks 171 = .ok (.iaload, 1) := dk_46 (dk_at dksX3_findsLocks_7 5 rfl rfl)
theorem dX3_findsLocks_172 : decode cX3_findsLocks 172 = .ok (.iload 4, 2) := dk_21 4 (dk_at dksX3_findsLocks_7 6 rfl rfl)
theorem dX3_findsLocks_174 : decode cX3_findsLocks 174 = .ok (.if_icmp .gt 8, 3) := dk_163 0 8 (dk_at dksX3_findsLocks_7 8 rfl rfl)
theorem dX3_findsLocks_177 : decode cX3_findsLocks 177 = .ok (.iload 5, 2) := dk_21 5 (dk_at dksX3_findsLocks_7 11 rfl rfl)
theorem dX3_findsLocks_179 : decode cX3_findsLocks 179 = .ok (.ifCond .eq 9, 3) := dk_153 0 9 (dk_at dksX3_findsLocks_7 13 rfl rfl)
theorem dX3_findsLocks_182 : decode cX3_findsLocks 182 = .ok (.iinc 3 (-1), 3) := dk_132 3 255 (dk_at dksX3_findsLocks_7 16 rfl rfl)
theorem dX3_findsLocks_185 : decode cX3_findsLocks 185 = .ok (.goto 61, 3) := dk_167 0 61 (dk_at dksX3_findsLocks_7 19 rfl rfl)
theorem dX3_findsLocks_188 : decode cX3_findsLocks 188 = .ok (.iload_n 3, 1) := dk_29 (dk_at dksX3_findsLocks_7 22 rfl rfl)
theorem dX3_findsLocks_189 : decode cX3_findsLocks 189 = .ok (.iload_n 2, 1) := dk_28 (dk_at dksX3_findsLocks_7 23 rfl rfl)
theorem dX3_findsLocks_190 : decode cX3_findsLocks 190 = .ok (.iconst 1, 1) := dk_4 (dk_at dksX3_findsLocks_8 0 rfl rfl)
theorem dX3_findsLocks_191 : decode cX3_findsLocks 191 = .ok (.isub, 1) := dk_100 (dk_at dksX3_findsLocks_8 1 rfl rfl)
theorem dX3_findsLocks_192 : decode cX3_findsLocks 192 = .ok (.if_icmp .ne 44, 3) := dk_160 0 44 (dk_at dksX3_findsLocks_8 2 rfl rfl)
theorem dX3_findsLocks_195 : decode cX3_findsLocks 195 = .ok (.aload_n 0, 1) := dk_42 (dk_at dksX3_findsLocks_8 5 rfl rfl)
theorem dX3_findsLocks_196 : decode cX3_findsLocks 196 = .ok (.aload_n 0, 1) := dk_42 (dk_at dksX3_findsLocks_8 6 rfl rfl)
theorem dX3_findsLocks_197 : decode cX3_findsLocks 197 = .ok (.iload_n 2, 1) := dk_28 (dk_at dksX3_findsLocks_8 7 rfl rfl)
theorem dX3_findsLocks_198 : decode cX3_findsLocks 198 = .ok (.invokevirtual 560, 3) := dk_182 2 48 (dk_at dksX3_findsLocks_8 8 rfl rfl)
theorem dX3_findsLocks_201 : decode cX3_findsLocks 201 = .ok (.putfield 557, 3) := dk_181 2 45 (dk_at dksX3_findsLocks_8 11 rfl rfl)
theorem dX3_findsLocks_204 : decode cX3_findsLocks 204 = .ok (.iconst 0, 1) := dk_3 (dk_at dksX3_findsLocks_8 14 rfl rfl)
theorem dX3_findsLocks_205 : decode cX3_findsLocks 205 = .ok (.istore 6, 2) := dk_54 6 (dk_at dksX3_findsLocks_8 15 rfl rfl)
theorem dX3_findsLocks_207 : decode cX3_findsLocks 207 = .ok (.iload 6, 2) := dk_21 6 (dk_at dksX3_findsLocks_8 17 rfl rfl)
theorem dX3_findsLocks_209 : decode cX3_findsLocks 209 = .ok (.iload_n 2, 1) := dk_28 (dk_at dksX3_findsLocks_8 19 rfl rfl)
theorem dX3_findsLocks_210 : decode cX3_findsLocks 210 = .ok (.if_icmp .ge 23, 3) := dk_162 0 23 (dk_at dksX3_findsLocks_8 20 rfl rfl)
theorem dX3_findsLocks_213 : decode cX3_findsLocks 213 = .ok (.aload_n 0, 1) := dk_42 (dk_at dksX3_findsLocks_8 23 rfl rfl)
theorem dX3_findsLocks_214 : decode cX3_findsLocks 214 = .ok (.getfield 154, 3) := dk_180 0 154 (dk_at dksX3_findsLocks_9 0 rfl rfl)
theorem dX3_findsLocks_217 : decode cX3_findsLocks 217 = .ok (.iload 6, 2) := dk_21 6 (dk_at dksX3_findsLocks_9 3 rfl rfl)
theorem dX3_findsLocks_219 : decode cX3_findsLocks 219 = .ok (.aload_n 0, 1) := dk_42 (dk_at dksX3_findsLocks_9 5 rfl rfl)
theorem dX3_findsLocks_220 : decode cX3_findsLocks 220 = .ok (.getfield 151, 3) := dk_180 0 151 (dk_at dksX3_findsLocks_9 6 rfl rfl)
theorem dX3_findsLocks_223 : decode cX3_findsLocks 223 = .ok (.iload 6, 2) := dk_21 6 (dk_at dksX3_findsLocks_9 9 rfl rfl)
theorem dX3_findsLocks_225 : decode cX3_findsLocks 225 = .ok (.iaload, 1) := dk_46 (dk_at dksX3_findsLocks_9 11 rfl rfl)
theorem dX3_findsLocks_226 : decode cX3_findsLocks 226 = .ok (.iastore, 1) := dk_79 (dk_at dksX3_findsLocks_9 12 rfl rfl)
theorem dX3_findsLocks_227 : decode cX3_findsLocks 227 = .ok (.iinc 6 1, 3) := dk_132 6 1 (dk_at dksX3_findsLocks_9 13 rfl rfl)
theorem dX3_findsLocks_230 : decode cX3_findsLocks 230 = .ok (.goto (-23), 3) := dk_167 255 233 (dk_at dksX3_findsLocks_9 16 rfl rfl)
theorem dX3_findsLocks_233 : decode cX3_findsLocks 233 = .ok (.goto 13, 3) := dk_167 0 13 (dk_at dksX3_findsLocks_9 19 rfl rfl)
theorem dX3_findsLocks_236 : decode cX3_findsLocks 236 = .ok (.iinc 3 1, 3) := dk_132 3 1 (dk_at dksX3_findsLocks_10 0 rfl rfl)
theorem dX3_findsLocks_239 : decode cX3_findsLocks 239 = .ok (.aload_n 0, 1) := dk_42 (dk_at dksX3_findsLocks_10 3 rfl rfl)
theorem dX3_findsLocks_240 : decode cX3_findsLocks 240 = .ok (.getfield 151, 3) := dk_180 0 151 (dk_at dksX3_findsLocks_10 4 rfl rfl)
theorem dX3_findsLocks_243 : decode cX3_findsLocks 243 = .ok (.iload_n 3, 1) := dk_29 (dk_at dksX3_findsLocks_10 7 rfl rfl)
theorem dX3_findsLocks_244 : decode cX3_findsLocks 244 = .ok (.iconst (-1), 1) := dk_2 (dk_at dksX3_findsLocks_10 8 rfl rfl)
theorem dX3_findsLocks_245 : decode cX3_findsLocks 245 = .ok (.iastore, 1) := dk_79 (dk_at dksX3_findsLocks_10 9 rfl rfl)
theorem dX3_findsLocks_246 : decode cX3_findsLocks 246 = .ok (.goto (-185), 3) := dk_167 255 71 (dk_at dksX3_findsLocks_10 10 rfl rfl)
theorem dX3_findsLocks_249 : decode cX3_findsLocks 249 = .ok (.return_, 1) := dk_177 (dk_at dksX3_findsLocks_10 13 rfl rfl)
abbrev cX3_locksUsed : ByteArray := prog_17_method_105_code
def yX3_locksUsed : MethodName := ⟨RX3, "locksUsed", "(I)I"⟩
def dkwX3_locksUsed_1 : List UInt8 := [46, 4, 96, 167, 0, 4, 28, 61, 132, 3, 1, 167, 255, 225, 28, 172]
abbrev dktX3_locksUsed_1 : List UInt8 := dkwX3_locksUsed_1 ++ []
def dkwX3_locksUsed_0 : List UInt8 := [3, 61, 3, 62, 29, 27, 162, 0, 32, 42, 180, 0, 151, 29, 46, 28, 161, 0, 14, 42, 180, 0, 151, 29]
abbrev dktX3_locksUsed_0 : List UInt8 := dkwX3_locksUsed_0 ++ dktX3_locksUsed_1
theorem dksX3_locksUsed_0 : cX3_locksUsed.data.toList.drop 0 = dktX3_locksUsed_0 := by decide +kernel
theorem dksX3_locksUsed_1 : cX3_locksUsed.data.toList.drop 24 = dktX3_locksUsed_1 := dk_seg dksX3_locksUsed_0 24 rfl rfl
theorem dX3_locksUsed_0 : decode cX3_locksUsed 0 = .ok (.iconst 0, 1) := dk_3 (dk_at dksX3_locksUsed_0 0 rfl rfl)
theorem dX3_locksUsed_1 : decode cX3_locksUsed 1 = .ok (.istore_n 2, 1) := dk_61 (dk_at dksX3_locksUsed_0 1 rfl rfl)
theorem dX3_locksUsed_2 : decode cX3_locksUsed 2 = .ok (.iconst 0, 1) := dk_3 (dk_at dksX3_locksUsed_0 2 rfl rfl)
theorem dX3_locksUsed_3 : decode cX3_locksUsed 3 = .ok (.istore_n 3, 1) := dk_62 (dk_at dksX3_locksUsed_0 3 rfl rfl)
theorem dX3_locksUsed_4 : decode cX3_locksUsed 4 = .ok (.iload_n 3, 1) := dk_29 (dk_at dksX3_locksUsed_0 4 rfl rfl)
theorem dX3_locksUsed_5 : decode cX3_locksUsed 5 = .ok (.iload_n 1, 1) := dk_27 (dk_at dksX3_locksUsed_0 5 rfl rfl)
theorem dX3_locksUsed_6 : decode cX3_locksUsed 6 = .ok (.if_icmp .ge 32, 3) := dk_162 0 32 (dk_at dksX3_locksUsed_0 6 rfl rfl)
theorem dX3_locksUsed_9 : decode cX3_locksUsed 9 = .ok (.aload_n 0, 1) := dk_42 (dk_at dksX3_locksUsed_0 9 rfl rfl)
theorem dX3_locksUsed_10 : decode cX3_locksUsed 10 = .ok (.getfield 151, 3) := dk_180 0 151 (dk_at dksX3_locksUsed_0 10 rfl rfl)
theorem dX3_locksUsed_13 : decode cX3_locksUsed 13 = .ok (.iload_n 3, 1) := dk_29 (dk_at dksX3_locksUsed_0 13 rfl rfl)
theorem dX3_locksUsed_14 : decode cX3_locksUsed 14 = .ok (.iaload, 1) := dk_46 (dk_at dksX3_locksUsed_0 14 rfl rfl)
theorem dX3_locksUsed_15 : decode cX3_locksUsed 15 = .ok (.iload_n 2, 1) := dk_28 (dk_at dksX3_locksUsed_0 15 rfl rfl)
theorem dX3_locksUsed_16 : decode cX3_locksUsed 16 = .ok (.if_icmp .lt 14, 3) := dk_161 0 14 (dk_at dksX3_locksUsed_0 16 rfl rfl)
theorem dX3_locksUsed_19 : decode cX3_locksUsed 19 = .ok (.aload_n 0, 1) := dk_42 (dk_at dksX3_locksUsed_0 19 rfl rfl)
theorem dX3_locksUsed_20 : decode cX3_locksUsed 20 = .ok (.getfield 151, 3) := dk_180 0 151 (dk_at dksX3_locksUsed_0 20 rfl rfl)
theorem dX3_locksUsed_23 : decode cX3_locksUsed 23 = .ok (.iload_n 3, 1) := dk_29 (dk_at dksX3_locksUsed_0 23 rfl rfl)
theorem dX3_locksUsed_24 : decode cX3_locksUsed 24 = .ok (.iaload, 1) := dk_46 (dk_at dksX3_locksUsed_1 0 rfl rfl)
theorem dX3_locksUsed_25 : decode cX3_locksUsed 25 = .ok (.iconst 1, 1) := dk_4 (dk_at dksX3_locksUsed_1 1 rfl rfl)
theorem dX3_locksUsed_26 : decode cX3_locksUsed 26 = .ok (.iadd, 1) := dk_96 (dk_at dksX3_locksUsed_1 2 rfl rfl)
theorem dX3_locksUsed_27 : decode cX3_locksUsed 27 = .ok (.goto 4, 3) := dk_167 0 4 (dk_at dksX3_locksUsed_1 3 rfl rfl)
theorem dX3_locksUsed_30 : decode cX3_locksUsed 30 = .ok (.iload_n 2, 1) := dk_28 (dk_at dksX3_locksUsed_1 6 rfl rfl)
theorem dX3_locksUsed_31 : decode cX3_locksUsed 31 = .ok (.istore_n 2, 1) := dk_61 (dk_at dksX3_locksUsed_1 7 rfl rfl)
theorem dX3_locksUsed_32 : decode cX3_locksUsed 32 = .ok (.iinc 3 1, 3) := dk_132 3 1 (dk_at dksX3_locksUsed_1 8 rfl rfl)
theorem dX3_locksUsed_35 : decode cX3_locksUsed 35 = .ok (.goto (-31), 3) := dk_167 255 225 (dk_at dksX3_locksUsed_1 11 rfl rfl)
theorem dX3_locksUsed_38 : decode cX3_locksUsed 38 = .ok (.iload_n 2, 1) := dk_28 (dk_at dksX3_locksUsed_1 14 rfl rfl)
theorem dX3_locksUsed_39 : decode cX3_locksUsed 39 = .ok (.ireturn, 1) := dk_172 (dk_at dksX3_locksUsed_1 15 rfl rfl)
abbrev cX3_loadOf : ByteArray := prog_17_method_106_code
def yX3_loadOf : MethodName := ⟨RX3, "loadOf", "(II)I"⟩
def dkwX3_loadOf_2 : List UInt8 := [172]
abbrev dktX3_loadOf_2 : List UInt8 := dkwX3_loadOf_2 ++ []
def dkwX3_loadOf_1 : List UInt8 := [180, 0, 25, 42, 180, 0, 157, 21, 4, 46, 46, 167, 0, 4, 3, 96, 62, 132, 4, 1, 167, 255, 217, 29]
abbrev dktX3_loadOf_1 : List UInt8 := dkwX3_loadOf_1 ++ dktX3_loadOf_2
def dkwX3_loadOf_0 : List UInt8 := [3, 62, 3, 54, 4, 21, 4, 28, 162, 0, 39, 29, 42, 180, 0, 151, 21, 4, 46, 27, 160, 0, 18, 42]
abbrev dktX3_loadOf_0 : List UInt8 := dkwX3_loadOf_0 ++ dktX3_loadOf_1
theorem dksX3_loadOf_0 : cX3_loadOf.data.toList.drop 0 = dktX3_loadOf_0 := by decide +kernel
theorem dksX3_loadOf_1 : cX3_loadOf.data.toList.drop 24 = dktX3_loadOf_1 := dk_seg dksX3_loadOf_0 24 rfl rfl
theorem dksX3_loadOf_2 : cX3_loadOf.data.toList.drop 48 = dktX3_loadOf_2 := dk_seg dksX3_loadOf_1 24 rfl rfl
theorem dX3_loadOf_0 : decode cX3_loadOf 0 = .ok (.iconst 0, 1) := dk_3 (dk_at dksX3_loadOf_0 0 rfl rfl)
theorem dX3_loadOf_1 : decode cX3_loadOf 1 = .ok (.istore_n 3, 1) := dk_62 (dk_at dksX3_loadOf_0 1 rfl rfl)
theorem dX3_loadOf_2 : decode cX3_loadOf 2 = .ok (.iconst 0, 1) := dk_3 (dk_at dksX3_loadOf_0 2 rfl rfl)
theorem dX3_loadOf_3 : decode cX3_loadOf 3 = .ok (.istore 4, 2) := dk_54 4 (dk_at dksX3_loadOf_0 3 rfl rfl)
theorem dX3_loadOf_5 : decode cX3_loadOf 5 = .ok (.iload 4, 2) := dk_21 4 (dk_at dksX3_loadOf_0 5 rfl rfl)
theorem dX3_loadOf_7 : decode cX3_loadOf 7 = .ok (.iload_n 2, 1) := dk_28 (dk_at dksX3_loadOf_0 7 rfl rfl)
theorem dX3_loadOf_8 : decode cX3_loadOf 8 = .ok (.if_icmp .ge 39, 3) := dk_162 0 39 (dk_at dksX3_loadOf_0 8 rfl rfl)
theorem dX3_loadOf_11 : decode cX3_loadOf 11 = .ok (.iload_n 3, 1) := dk_29 (dk_at dksX3_loadOf_0 11 rfl rfl)
theorem dX3_loadOf_12 : decode cX3_loadOf 12 = .ok (.aload_n 0, 1) := dk_42 (dk_at dksX3_loadOf_0 12 rfl rfl)
theorem dX3_loadOf_13 : decode cX3_loadOf 13 = .ok (.getfield 151, 3) := dk_180 0 151 (dk_at dksX3_loadOf_0 13 rfl rfl)
theorem dX3_loadOf_16 : decode cX3_loadOf 16 = .ok (.iload 4, 2) := dk_21 4 (dk_at dksX3_loadOf_0 16 rfl rfl)
theorem dX3_loadOf_18 : decode cX3_loadOf 18 = .ok (.iaload, 1) := dk_46 (dk_at dksX3_loadOf_0 18 rfl rfl)
theorem dX3_loadOf_19 : decode cX3_loadOf 19 = .ok (.iload_n 1, 1) := dk_27 (dk_at dksX3_loadOf_0 19 rfl rfl)
theorem dX3_loadOf_20 : decode cX3_loadOf 20 = .ok (.if_icmp .ne 18, 3) := dk_160 0 18 (dk_at dksX3_loadOf_0 20 rfl rfl)
theorem dX3_loadOf_23 : decode cX3_loadOf 23 = .ok (.aload_n 0, 1) := dk_42 (dk_at dksX3_loadOf_0 23 rfl rfl)
theorem dX3_loadOf_24 : decode cX3_loadOf 24 = .ok (.getfield 25, 3) := dk_180 0 25 (dk_at dksX3_loadOf_1 0 rfl rfl)
theorem dX3_loadOf_27 : decode cX3_loadOf 27 = .ok (.aload_n 0, 1) := dk_42 (dk_at dksX3_loadOf_1 3 rfl rfl)
theorem dX3_loadOf_28 : decode cX3_loadOf 28 = .ok (.getfield 157, 3) := dk_180 0 157 (dk_at dksX3_loadOf_1 4 rfl rfl)
theorem dX3_loadOf_31 : decode cX3_loadOf 31 = .ok (.iload 4, 2) := dk_21 4 (dk_at dksX3_loadOf_1 7 rfl rfl)
theorem dX3_loadOf_33 : decode cX3_loadOf 33 = .ok (.iaload, 1) := dk_46 (dk_at dksX3_loadOf_1 9 rfl rfl)
theorem dX3_loadOf_34 : decode cX3_loadOf 34 = .ok (.iaload, 1) := dk_46 (dk_at dksX3_loadOf_1 10 rfl rfl)
theorem dX3_loadOf_35 : decode cX3_loadOf 35 = .ok (.goto 4, 3) := dk_167 0 4 (dk_at dksX3_loadOf_1 11 rfl rfl)
theorem dX3_loadOf_38 : decode cX3_loadOf 38 = .ok (.iconst 0, 1) := dk_3 (dk_at dksX3_loadOf_1 14 rfl rfl)
theorem dX3_loadOf_39 : decode cX3_loadOf 39 = .ok (.iadd, 1) := dk_96 (dk_at dksX3_loadOf_1 15 rfl rfl)
theorem dX3_loadOf_40 : decode cX3_loadOf 40 = .ok (.istore_n 3, 1) := dk_62 (dk_at dksX3_loadOf_1 16 rfl rfl)
theorem dX3_loadOf_41 : decode cX3_loadOf 41 = .ok (.iinc 4 1, 3) := dk_132 4 1 (dk_at dksX3_loadOf_1 17 rfl rfl)
theorem dX3_loadOf_44 : decode cX3_loadOf 44 = .ok (.goto (-39), 3) := dk_167 255 217 (dk_at dksX3_loadOf_1 20 rfl rfl)
theorem dX3_loadOf_47 : decode cX3_loadOf 47 = .ok (.iload_n 3, 1) := dk_29 (dk_at dksX3_loadOf_1 23 rfl rfl)
theorem dX3_loadOf_48 : decode cX3_loadOf 48 = .ok (.ireturn, 1) := dk_172 (dk_at dksX3_loadOf_2 0 rfl rfl)
abbrev cX3_delta : ByteArray := prog_17_method_110_code
def yX3_delta : MethodName := ⟨RX3, "delta", "(I)I"⟩
def dkwX3_delta_13 : List UInt8 := [132, 9, 1, 167, 255, 211, 167, 255, 17, 27, 154, 0, 7, 28, 167, 0, 4, 29, 172]
abbrev dktX3_delta_13 : List UInt8 := dkwX3_delta_13 ++ []
def dkwX3_delta_12 : List UInt8 := [180, 0, 160, 21, 9, 46, 21, 7, 160, 0, 8, 21, 8, 167, 0, 10, 42, 180, 0, 160, 21, 9, 46, 79]
abbrev dktX3_delta_12 : List UInt8 := dkwX3_delta_12 ++ dktX3_delta_13
def dkwX3_delta_11 : List UInt8 := [54, 8, 3, 54, 9, 21, 9, 42, 180, 0, 9, 6, 46, 162, 0, 40, 42, 180, 0, 160, 21, 9, 42]
abbrev dktX3_delta_11 : List UInt8 := dkwX3_delta_11 ++ dktX3_delta_12
def dkwX3_delta_10 : List UInt8 := [182, 2, 61, 96, 61, 132, 3, 1, 42, 180, 0, 160, 21, 6, 46, 54, 7, 42, 180, 0, 160, 21, 5, 46]
abbrev dktX3_delta_10 : List UInt8 := dkwX3_delta_10 ++ dktX3_delta_11
def dkwX3_delta_9 : List UInt8 := [21, 5, 2, 159, 0, 7, 4, 167, 0, 4, 3, 54, 4, 21, 4, 153, 0, 86, 28, 42, 21, 5, 21, 6]
abbrev dktX3_delta_9 : List UInt8 := dkwX3_delta_9 ++ dktX3_delta_10
def dkwX3_delta_8 : List UInt8 := [162, 0, 11, 21, 7, 54, 5, 21, 8, 54, 6, 132, 8, 1, 167, 255, 158, 132, 7, 1, 167, 255, 135]
abbrev dktX3_delta_8 : List UInt8 := dkwX3_delta_8 ++ dktX3_delta_9
def dkwX3_delta_7 : List UInt8 := [21, 5, 2, 159, 0, 22, 42, 21, 7, 21, 8, 182, 2, 61, 42, 21, 5, 21, 6, 182, 2, 61]
abbrev dktX3_delta_7 : List UInt8 := dkwX3_delta_7 ++ dktX3_delta_8
def dkwX3_delta_6 : List UInt8 := [46, 42, 180, 0, 160, 21, 8, 46, 159, 0, 7, 4, 167, 0, 4, 3, 54, 9, 21, 9, 153, 0, 36]
abbrev dktX3_delta_6 : List UInt8 := dkwX3_delta_6 ++ dktX3_delta_7
def dkwX3_delta_5 : List UInt8 := [21, 7, 46, 2, 159, 0, 35, 42, 180, 0, 160, 21, 8, 46, 2, 159, 0, 24, 42, 180, 0, 160, 21, 7]
abbrev dktX3_delta_5 : List UInt8 := dkwX3_delta_5 ++ dktX3_delta_6
def dkwX3_delta_4 : List UInt8 := [162, 0, 116, 21, 7, 4, 96, 54, 8, 21, 8, 42, 180, 0, 9, 6, 46, 162, 0, 93, 42, 180, 0, 160]
abbrev dktX3_delta_4 : List UInt8 := dkwX3_delta_4 ++ dktX3_delta_5
def dkwX3_delta_3 : List UInt8 := [21, 4, 153, 0, 240, 2, 54, 5, 2, 54, 6, 3, 54, 7, 21, 7, 42, 180, 0, 9, 6, 46]
abbrev dktX3_delta_3 : List UInt8 := dkwX3_delta_3 ++ dktX3_delta_4
def dkwX3_delta_2 : List UInt8 := [182, 1, 168, 184, 1, 165, 167, 0, 4, 2, 79, 132, 2, 1, 167, 255, 216, 3, 61, 3, 62, 4, 54, 4]
abbrev dktX3_delta_2 : List UInt8 := dkwX3_delta_2 ++ dktX3_delta_3
def dkwX3_delta_1 : List UInt8 := [180, 0, 9, 6, 46, 162, 0, 36, 42, 180, 0, 160, 28, 42, 180, 0, 34, 28, 46, 154, 0, 14, 42, 28]
abbrev dktX3_delta_1 : List UInt8 := dkwX3_delta_1 ++ dktX3_delta_2
def dkwX3_delta_0 : List UInt8 := [42, 182, 1, 174, 153, 0, 13, 27, 133, 9, 10, 184, 0, 176, 154, 0, 5, 2, 172, 3, 61, 28, 42]
abbrev dktX3_delta_0 : List UInt8 := dkwX3_delta_0 ++ dktX3_delta_1
theorem dksX3_delta_0 : cX3_delta.data.toList.drop 0 = dktX3_delta_0 := by decide +kernel
theorem dksX3_delta_1 : cX3_delta.data.toList.drop 23 = dktX3_delta_1 := dk_seg dksX3_delta_0 23 rfl rfl
theorem dksX3_delta_2 : cX3_delta.data.toList.drop 47 = dktX3_delta_2 := dk_seg dksX3_delta_1 24 rfl rfl
theorem dksX3_delta_3 : cX3_delta.data.toList.drop 71 = dktX3_delta_3 := dk_seg dksX3_delta_2 24 rfl rfl
theorem dksX3_delta_4 : cX3_delta.data.toList.drop 93 = dktX3_delta_4 := dk_seg dksX3_delta_3 22 rfl rfl
theorem dksX3_delta_5 : cX3_delta.data.toList.drop 117 = dktX3_delta_5 := dk_seg dksX3_delta_4 24 rfl rfl
theorem dksX3_delta_6 : cX3_delta.data.toList.drop 141 = dktX3_delta_6 := dk_seg dksX3_delta_5 24 rfl rfl
theorem dksX3_delta_7 : cX3_delta.data.toList.drop 164 = dktX3_delta_7 := dk_seg dksX3_delta_6 23 rfl rfl
theorem dksX3_delta_8 : cX3_delta.data.toList.drop 186 = dktX3_delta_8 := dk_seg dksX3_delta_7 22 rfl rfl
theorem dksX3_delta_9 : cX3_delta.data.toList.drop 209 = dktX3_delta_9 := dk_seg dksX3_delta_8 23 rfl rfl
theorem dksX3_delta_10 : cX3_delta.data.toList.drop 233 = dktX3_delta_10 := dk_seg dksX3_delta_9 24 rfl rfl
theorem dksX3_delta_11 : cX3_delta.data.toList.drop 257 = dktX3_delta_11 := dk_seg dksX3_delta_10 24 rfl rfl
theorem dksX3_delta_12 : cX3_delta.data.toList.drop 280 = dktX3_delta_12 := dk_seg dksX3_delta_11 23 rfl rfl
theorem dksX3_delta_13 : cX3_delta.data.toList.drop 304 = dktX3_delta_13 := dk_seg dksX3_delta_12 24 rfl rfl
theorem dX3_delta_0 : decode cX3_delta 0 = .ok (.aload_n 0, 1) := dk_42 (dk_at dksX3_delta_0 0 rfl rfl)
theorem dX3_delta_1 : decode cX3_delta 1 = .ok (.invokevirtual 430, 3) := dk_182 1 174 (dk_at dksX3_delta_0 1 rfl rfl)
theorem dX3_delta_4 : decode cX3_delta 4 = .ok (.ifCond .eq 13, 3) := dk_153 0 13 (dk_at dksX3_delta_0 4 rfl rfl)
theorem dX3_delta_7 : decode cX3_delta 7 = .ok (.iload_n 1, 1) := dk_27 (dk_at dksX3_delta_0 7 rfl rfl)
theorem dX3_delta_8 : decode cX3_delta 8 = .ok (.i2l, 1) := dk_133 (dk_at dksX3_delta_0 8 rfl rfl)
theorem dX3_delta_9 : decode cX3_delta 9 = .ok (.lconst 0, 1) := dk_9 (dk_at dksX3_delta_0 9 rfl rfl)
theorem dX3_delta_10 : decode cX3_delta 10 = .ok (.lconst 1, 1) := dk_10 (dk_at dksX3_delta_0 10 rfl rfl)
theorem dX3_delta_11 : decode cX3_delta 11 = .ok (.invokestatic 176, 3) := dk_184 0 176 (dk_at dksX3_delta_0 11 rfl rfl)
theorem dX3_delta_14 : decode cX3_delta 14 = .ok (.ifCond .ne 5, 3) := dk_154 0 5 (dk_at dksX3_delta_0 14 rfl rfl)
theorem dX3_delta_17 : decode cX3_delta 17 = .ok (.iconst (-1), 1) := dk_2 (dk_at dksX3_delta_0 17 rfl rfl)
theorem dX3_delta_18 : decode cX3_delta 18 = .ok (.ireturn, 1) := dk_172 (dk_at dksX3_delta_0 18 rfl rfl)
theorem dX3_delta_19 : decode cX3_delta 19 = .ok (.iconst 0, 1) := dk_3 (dk_at dksX3_delta_0 19 rfl rfl)
theorem dX3_delta_20 : decode cX3_delta 20 = .ok (.istore_n 2, 1) := dk_61 (dk_at dksX3_delta_0 20 rfl rfl)
theorem dX3_delta_21 : decode cX3_delta 21 = .ok (.iload_n 2, 1) := dk_28 (dk_at dksX3_delta_0 21 rfl rfl)
theorem dX3_delta_22 : decode cX3_delta 22 = .ok (.aload_n 0, 1) := dk_42 (dk_at dksX3_delta_0 22 rfl rfl)
theorem dX3_delta_23 : decode cX3_delta 23 = .ok (.getfield 9, 3) := dk_180 0 9 (dk_at dksX3_delta_1 0 rfl rfl)
theorem dX3_delta_26 : decode cX3_delta 26 = .ok (.iconst 3, 1) := dk_6 (dk_at dksX3_delta_1 3 rfl rfl)
theorem dX3_delta_27 : decode cX3_delta 27 = .ok (.iaload, 1) := dk_46 (dk_at dksX3_delta_1 4 rfl rfl)
theorem dX3_delta_28 : decode cX3_delta 28 = .ok (.if_icmp .ge 36, 3) := dk_162 0 36 (dk_at dksX3_delta_1 5 rfl rfl)
theorem dX3_delta_31 : decode cX3_delta 31 = .ok (.aload_n 0, 1) := dk_42 (dk_at dksX3_delta_1 8 rfl rfl)
theorem dX3_delta_32 : decode cX3_delta 32 = .ok (.getfield 160, 3) := dk_180 0 160 (dk_at dksX3_delta_1 9 rfl rfl)
theorem dX3_delta_35 : decode cX3_delta 35 = .ok (.iload_n 2, 1) := dk_28 (dk_at dksX3_delta_1 12 rfl rfl)
theorem dX3_delta_36 : decode cX3_delta 36 = .ok (.aload_n 0, 1) := dk_42 (dk_at dksX3_delta_1 13 rfl rfl)
theorem dX3_delta_37 : decode cX3_delta 37 = .ok (.getfield 34, 3) := dk_180 0 34 (dk_at dksX3_delta_1 14 rfl rfl)
theorem dX3_delta_40 : decode cX3_delta 40 = .ok (.iload_n 2, 1) := dk_28 (dk_at dksX3_delta_1 17 rfl rfl)
theorem dX3_delta_41 : decode cX3_delta 41 = .ok (.iaload, 1) := dk_46 (dk_at dksX3_delta_1 18 rfl rfl)
theorem dX3_delta_42 : decode cX3_delta 42 = .ok (.ifCond .ne 14, 3) := dk_154 0 14 (dk_at dksX3_delta_1 19 rfl rfl)
theorem dX3_delta_45 : decode cX3_delta 45 = .ok (.aload_n 0, 1) := dk_42 (dk_at dksX3_delta_1 22 rfl rfl)
theorem dX3_delta_46 : decode cX3_delta 46 = .ok (.iload_n 2, 1) := dk_28 (dk_at dksX3_delta_1 23 rfl rfl)
theorem dX3_delta_47 : decode cX3_delta 47 = .ok (.invokevirtual 424, 3) := dk_182 1 168 (dk_at dksX3_delta_2 0 rfl rfl)
theorem dX3_delta_50 : decode cX3_delta 50 = .ok (.invokestatic 421, 3) := dk_184 1 165 (dk_at dksX3_delta_2 3 rfl rfl)
theorem dX3_delta_53 : decode cX3_delta 53 = .ok (.goto 4, 3) := dk_167 0 4 (dk_at dksX3_delta_2 6 rfl rfl)
theorem dX3_delta_56 : decode cX3_delta 56 = .ok (.iconst (-1), 1) := dk_2 (dk_at dksX3_delta_2 9 rfl rfl)
theorem dX3_delta_57 : decode cX3_delta 57 = .ok (.iastore, 1) := dk_79 (dk_at dksX3_delta_2 10 rfl rfl)
theorem dX3_delta_58 : decode cX3_delta 58 = .ok (.iinc 2 1, 3) := dk_132 2 1 (dk_at dksX3_delta_2 11 rfl rfl)
theorem dX3_delta_61 : decode cX3_delta 61 = .ok (.goto (-40), 3) := dk_167 255 216 (dk_at dksX3_delta_2 14 rfl rfl)
theorem dX3_delta_64 : decode cX3_delta 64 = .ok (.iconst 0, 1) := dk_3 (dk_at dksX3_delta_2 17 rfl rfl)
theorem dX3_delta_65 : decode cX3_delta 65 = .ok (.istore_n 2, 1) := dk_61 (dk_at dksX3_delta_2 18 rfl rfl)
theorem dX3_delta_66 : decode cX3_delta 66 = .ok (.iconst 0, 1) := dk_3 (dk_at dksX3_delta_2 19 rfl rfl)
theorem dX3_delta_67 : decode cX3_delta 67 = .ok (.istore_n 3, 1) := dk_62 (dk_at dksX3_delta_2 20 rfl rfl)
theorem dX3_delta_68 : decode cX3_delta 68 = .ok (.iconst 1, 1) := dk_4 (dk_at dksX3_delta_2 21 rfl rfl)
theorem dX3_delta_69 : decode cX3_delta 69 = .ok (.istore 4, 2) := dk_54 4 (dk_at dksX3_delta_2 22 rfl rfl)
theorem dX3_delta_71 : decode cX3_delta 71 = .ok (.iload 4, 2) := dk_21 4 (dk_at dksX3_delta_3 0 rfl rfl)
theorem dX3_delta_73 : decode cX3_delta 73 = .ok (.ifCond .eq 240, 3) := dk_153 0 240 (dk_at dksX3_delta_3 2 rfl rfl)
theorem dX3_delta_76 : decode cX3_delta 76 = .ok (.iconst (-1), 1) := dk_2 (dk_at dksX3_delta_3 5 rfl rfl)
theorem dX3_delta_77 : decode cX3_delta 77 = .ok (.istore 5, 2) := dk_54 5 (dk_at dksX3_delta_3 6 rfl rfl)
theorem dX3_delta_79 : decode cX3_delta 79 = .ok (.iconst (-1), 1) := dk_2 (dk_at dksX3_delta_3 8 rfl rfl)
theorem dX3_delta_80 : decode cX3_delta 80 = .ok (.istore 6, 2) := dk_54 6 (dk_at dksX3_delta_3 9 rfl rfl)
theorem dX3_delta_82 : decode cX3_delta 82 = .ok (.iconst 0, 1) := dk_3 (dk_at dksX3_delta_3 11 rfl rfl)
theorem dX3_delta_83 : decode cX3_delta 83 = .ok (.istore 7, 2) := dk_54 7 (dk_at dksX3_delta_3 12 rfl rfl)
theorem dX3_delta_85 : decode cX3_delta 85 = .ok (.iload 7, 2) := dk_21 7 (dk_at dksX3_delta_3 14 rfl rfl)
theorem dX3_delta_87 : decode cX3_delta 87 = .ok (.aload_n 0, 1) := dk_42 (dk_at dksX3_delta_3 16 rfl rfl)
theorem dX3_delta_88 : decode cX3_delta 88 = .ok (.getfield 9, 3) := dk_180 0 9 (dk_at dksX3_delta_3 17 rfl rfl)
theorem dX3_delta_91 : decode cX3_delta 91 = .ok (.iconst 3, 1) := dk_6 (dk_at dksX3_delta_3 20 rfl rfl)
theorem dX3_delta_92 : decode cX3_delta 92 = .ok (.iaload, 1) := dk_46 (dk_at dksX3_delta_3 21 rfl rfl)
theorem dX3_delta_93 : decode cX3_delta 93 = .ok (.if_icmp .ge 116, 3) := dk_162 0 116 (dk_at dksX3_delta_4 0 rfl rfl)
theorem dX3_delta_96 : decode cX3_delta 96 = .ok (.iload 7, 2) := dk_21 7 (dk_at dksX3_delta_4 3 rfl rfl)
theorem dX3_delta_98 : decode cX3_delta 98 = .ok (.iconst 1, 1) := dk_4 (dk_at dksX3_delta_4 5 rfl rfl)
theorem dX3_delta_99 : decode cX3_delta 99 = .ok (.iadd, 1) := dk_96 (dk_at dksX3_delta_4 6 rfl rfl)
theorem dX3_delta_100 : decode cX3_delta 100 = .ok (.istore 8, 2) := dk_54 8 (dk_at dksX3_delta_4 7 rfl rfl)
theorem dX3_delta_102 : decode cX3_delta 102 = .ok (.iload 8, 2) := dk_21 8 (dk_at dksX3_delta_4 9 rfl rfl)
theorem dX3_delta_104 : decode cX3_delta 104 = .ok (.aload_n 0, 1) := dk_42 (dk_at dksX3_delta_4 11 rfl rfl)
theorem dX3_delta_105 : decode cX3_delta 105 = .ok (.getfield 9, 3) := dk_180 0 9 (dk_at dksX3_delta_4 12 rfl rfl)
theorem dX3_delta_108 : decode cX3_delta 108 = .ok (.iconst 3, 1) := dk_6 (dk_at dksX3_delta_4 15 rfl rfl)
theorem dX3_delta_109 : decode cX3_delta 109 = .ok (.iaload, 1) := dk_46 (dk_at dksX3_delta_4 16 rfl rfl)
theorem dX3_delta_110 : decode cX3_delta 110 = .ok (.if_icmp .ge 93, 3) := dk_162 0 93 (dk_at dksX3_delta_4 17 rfl rfl)
theorem dX3_delta_113 : decode cX3_delta 113 = .ok (.aload_n 0, 1) := dk_42 (dk_at dksX3_delta_4 20 rfl rfl)
theorem dX3_delta_114 : decode cX3_delta 114 = .ok (.getfield 160, 3) := dk_180 0 160 (dk_at dksX3_delta_4 21 rfl rfl)
theorem dX3_delta_117 : decode cX3_delta 117 = .ok (.iload 7, 2) := dk_21 7 (dk_at dksX3_delta_5 0 rfl rfl)
theorem dX3_delta_119 : decode cX3_delta 119 = .ok (.iaload, 1) := dk_46 (dk_at dksX3_delta_5 2 rfl rfl)
theorem dX3_delta_120 : decode cX3_delta 120 = .ok (.iconst (-1), 1) := dk_2 (dk_at dksX3_delta_5 3 rfl rfl)
theorem dX3_delta_121 : decode cX3_delta 121 = .ok (.if_icmp .eq 35, 3) := dk_159 0 35 (dk_at dksX3_delta_5 4 rfl rfl)
theorem dX3_delta_124 : decode cX3_delta 124 = .ok (.aload_n 0, 1) := dk_42 (dk_at dksX3_delta_5 7 rfl rfl)
theorem dX3_delta_125 : decode cX3_delta 125 = .ok (.getfield 160, 3) := dk_180 0 160 (dk_at dksX3_delta_5 8 rfl rfl)
theorem dX3_delta_128 : decode cX3_delta 128 = .ok (.iload 8, 2) := dk_21 8 (dk_at dksX3_delta_5 11 rfl rfl)
theorem dX3_delta_130 : decode cX3_delta 130 = .ok (.iaload, 1) := dk_46 (dk_at dksX3_delta_5 13 rfl rfl)
theorem dX3_delta_131 : decode cX3_delta 131 = .ok (.iconst (-1), 1) := dk_2 (dk_at dksX3_delta_5 14 rfl rfl)
theorem dX3_delta_132 : decode cX3_delta 132 = .ok (.if_icmp .eq 24, 3) := dk_159 0 24 (dk_at dksX3_delta_5 15 rfl rfl)
theorem dX3_delta_135 : decode cX3_delta 135 = .ok (.aload_n 0, 1) := dk_42 (dk_at dksX3_delta_5 18 rfl rfl)
theorem dX3_delta_136 : decode cX3_delta 136 = .ok (.getfield 160, 3) := dk_180 0 160 (dk_at dksX3_delta_5 19 rfl rfl)
theorem dX3_delta_139 : decode cX3_delta 139 = .ok (.iload 7, 2) := dk_21 7 (dk_at dksX3_delta_5 22 rfl rfl)
theorem dX3_delta_141 : decode cX3_delta 141 = .ok (.iaload, 1) := dk_46 (dk_at dksX3_delta_6 0 rfl rfl)
theorem dX3_delta_142 : decode cX3_delta 142 = .ok (.aload_n 0, 1) := dk_42 (dk_at dksX3_delta_6 1 rfl rfl)
theorem dX3_delta_143 : decode cX3_delta 143 = .ok (.getfield 160, 3) := dk_180 0 160 (dk_at dksX3_delta_6 2 rfl rfl)
theorem dX3_delta_146 : decode cX3_delta 146 = .ok (.iload 8, 2) := dk_21 8 (dk_at dksX3_delta_6 5 rfl rfl)
theorem dX3_delta_148 : decode cX3_delta 148 = .ok (.iaload, 1) := dk_46 (dk_at dksX3_delta_6 7 rfl rfl)
theorem dX3_delta_149 : decode cX3_delta 149 = .ok (.if_icmp .eq 7, 3) := dk_159 0 7 (dk_at dksX3_delta_6 8 rfl rfl)
theorem dX3_delta_152 : decode cX3_delta 152 = .ok (.iconst 1, 1) := dk_4 (dk_at dksX3_delta_6 11 rfl rfl)
theorem dX3_delta_153 : decode cX3_delta 153 = .ok (.goto 4, 3) := dk_167 0 4 (dk_at dksX3_delta_6 12 rfl rfl)
theorem dX3_delta_156 : decode cX3_delta 156 = .ok (.iconst 0, 1) := dk_3 (dk_at dksX3_delta_6 15 rfl rfl)
theorem dX3_delta_157 : decode cX3_delta 157 = .ok (.istore 9, 2) := dk_54 9 (dk_at dksX3_delta_6 16 rfl rfl)
theorem dX3_delta_159 : decode cX3_delta 159 = .ok (.iload 9, 2) := dk_21 9 (dk_at dksX3_delta_6 18 rfl rfl)
theorem dX3_delta_161 : decode cX3_delta 161 = .ok (.ifCond .eq 36, 3) := dk_153 0 36 (dk_at dksX3_delta_6 20 rfl rfl)
theorem dX3_delta_164 : decode cX3_delta 164 = .ok (.iload 5, 2) := dk_21 5 (dk_at dksX3_delta_7 0 rfl rfl)
theorem dX3_delta_166 : decode cX3_delta 166 = .ok (.iconst (-1), 1) := dk_2 (dk_at dksX3_delta_7 2 rfl rfl)
theorem dX3_delta_167 : decode cX3_delta 167 = .ok (.if_icmp .eq 22, 3) := dk_159 0 22 (dk_at dksX3_delta_7 3 rfl rfl)
theorem dX3_delta_170 : decode cX3_delta 170 = .ok (.aload_n 0, 1) := dk_42 (dk_at dksX3_delta_7 6 rfl rfl)
theorem dX3_delta_171 : decode cX3_delta 171 = .ok (.iload 7, 2) := dk_21 7 (dk_at dksX3_delta_7 7 rfl rfl)
theorem dX3_delta_173 : decode cX3_delta 173 = .ok (.iload 8, 2) := dk_21 8 (dk_at dksX3_delta_7 9 rfl rfl)
theorem dX3_delta_175 : decode cX3_delta 175 = .ok (.invokevirtual 573, 3) := dk_182 2 61 (dk_at dksX3_delta_7 11 rfl rfl)
theorem dX3_delta_178 : decode cX3_delta 178 = .ok (.aload_n 0, 1) := dk_42 (dk_at dksX3_delta_7 14 rfl rfl)
theorem dX3_delta_179 : decode cX3_delta 179 = .ok (.iload 5, 2) := dk_21 5 (dk_at dksX3_delta_7 15 rfl rfl)
theorem dX3_delta_181 : decode cX3_delta 181 = .ok (.iload 6, 2) := dk_21 6 (dk_at dksX3_delta_7 17 rfl rfl)
theorem dX3_delta_183 : decode cX3_delta 183 = .ok (.invokevirtual 573, 3) := dk_182 2 61 (dk_at dksX3_delta_7 19 rfl rfl)
theorem dX3_delta_186 : decode cX3_delta 186 = .ok (.if_icmp .ge 11, 3) := dk_162 0 11 (dk_at dksX3_delta_8 0 rfl rfl)
theorem dX3_delta_189 : decode cX3_delta 189 = .ok (.iload 7, 2) := dk_21 7 (dk_at dksX3_delta_8 3 rfl rfl)
theorem dX3_delta_191 : decode cX3_delta 191 = .ok (.istore 5, 2) := dk_54 5 (dk_at dksX3_delta_8 5 rfl rfl)
theorem dX3_delta_193 : decode cX3_delta 193 = .ok (.iload 8, 2) := dk_21 8 (dk_at dksX3_delta_8 7 rfl rfl)
theorem dX3_delta_195 : decode cX3_delta 195 = .ok (.istore 6, 2) := dk_54 6 (dk_at dksX3_delta_8 9 rfl rfl)
theorem dX3_delta_197 : decode cX3_delta 197 = .ok (.iinc 8 1, 3) := dk_132 8 1 (dk_at dksX3_delta_8 11 rfl rfl)
theorem dX3_delta_200 : decode cX3_delta 200 = .ok (.goto (-98), 3) := dk_167 255 158 (dk_at dksX3_delta_8 14 rfl rfl)
theorem dX3_delta_203 : decode cX3_delta 203 = .ok (.iinc 7 1, 3) := dk_132 7 1 (dk_at dksX3_delta_8 17 rfl rfl)
theorem dX3_delta_206 : decode cX3_delta 206 = .ok (.goto (-121), 3) := dk_167 255 135 (dk_at dksX3_delta_8 20 rfl rfl)
theorem dX3_delta_209 : decode cX3_delta 209 = .ok (.iload 5, 2) := dk_21 5 (dk_at dksX3_delta_9 0 rfl rfl)
theorem dX3_delta_211 : decode cX3_delta 211 = .ok (.iconst (-1), 1) := dk_2 (dk_at dksX3_delta_9 2 rfl rfl)
theorem dX3_delta_212 : decode cX3_delta 212 = .ok (.if_icmp .eq 7, 3) := dk_159 0 7 (dk_at dksX3_delta_9 3 rfl rfl)
theorem dX3_delta_215 : decode cX3_delta 215 = .ok (.iconst 1, 1) := dk_4 (dk_at dksX3_delta_9 6 rfl rfl)
theorem dX3_delta_216 : decode cX3_delta 216 = .ok (.goto 4, 3) := dk_167 0 4 (dk_at dksX3_delta_9 7 rfl rfl)
theorem dX3_delta_219 : decode cX3_delta 219 = .ok (.iconst 0, 1) := dk_3 (dk_at dksX3_delta_9 10 rfl rfl)
theorem dX3_delta_220 : decode cX3_delta 220 = .ok (.istore 4, 2) := dk_54 4 (dk_at dksX3_delta_9 11 rfl rfl)
theorem dX3_delta_222 : decode cX3_delta 222 = .ok (.iload 4, 2) := dk_21 4 (dk_at dksX3_delta_9 13 rfl rfl)
theorem dX3_delta_224 : decode cX3_delta 224 = .ok (.ifCond .eq 86, 3) := dk_153 0 86 (dk_at dksX3_delta_9 15 rfl rfl)
theorem dX3_delta_227 : decode cX3_delta 227 = .ok (.iload_n 2, 1) := dk_28 (dk_at dksX3_delta_9 18 rfl rfl)
theorem dX3_delta_228 : decode cX3_delta 228 = .ok (.aload_n 0, 1) := dk_42 (dk_at dksX3_delta_9 19 rfl rfl)
theorem dX3_delta_229 : decode cX3_delta 229 = .ok (.iload 5, 2) := dk_21 5 (dk_at dksX3_delta_9 20 rfl rfl)
theorem dX3_delta_231 : decode cX3_delta 231 = .ok (.iload 6, 2) := dk_21 6 (dk_at dksX3_delta_9 22 rfl rfl)
theorem dX3_delta_233 : decode cX3_delta 233 = .ok (.invokevirtual 573, 3) := dk_182 2 61 (dk_at dksX3_delta_10 0 rfl rfl)
theorem dX3_delta_236 : decode cX3_delta 236 = .ok (.iadd, 1) := dk_96 (dk_at dksX3_delta_10 3 rfl rfl)
theorem dX3_delta_237 : decode cX3_delta 237 = .ok (.istore_n 2, 1) := dk_61 (dk_at dksX3_delta_10 4 rfl rfl)
theorem dX3_delta_238 : decode cX3_delta 238 = .ok (.iinc 3 1, 3) := dk_132 3 1 (dk_at dksX3_delta_10 5 rfl rfl)
theorem dX3_delta_241 : decode cX3_delta 241 = .ok (.aload_n 0, 1) := dk_42 (dk_at dksX3_delta_10 8 rfl rfl)
theorem dX3_delta_242 : decode cX3_delta 242 = .ok (.getfield 160, 3) := dk_180 0 160 (dk_at dksX3_delta_10 9 rfl rfl)
theorem dX3_delta_245 : decode cX3_delta 245 = .ok (.iload 6, 2) := dk_21 6 (dk_at dksX3_delta_10 12 rfl rfl)
theorem dX3_delta_247 : decode cX3_delta 247 = .ok (.iaload, 1) := dk_46 (dk_at dksX3_delta_10 14 rfl rfl)
theorem dX3_delta_248 : decode cX3_delta 248 = .ok (.istore 7, 2) := dk_54 7 (dk_at dksX3_delta_10 15 rfl rfl)
theorem dX3_delta_250 : decode cX3_delta 250 = .ok (.aload_n 0, 1) := dk_42 (dk_at dksX3_delta_10 17 rfl rfl)
theorem dX3_delta_251 : decode cX3_delta 251 = .ok (.getfield 160, 3) := dk_180 0 160 (dk_at dksX3_delta_10 18 rfl rfl)
theorem dX3_delta_254 : decode cX3_delta 254 = .ok (.iload 5, 2) := dk_21 5 (dk_at dksX3_delta_10 21 rfl rfl)
theorem dX3_delta_256 : decode cX3_delta 256 = .ok (.iaload, 1) := dk_46 (dk_at dksX3_delta_10 23 rfl rfl)
theorem dX3_delta_257 : decode cX3_delta 257 = .ok (.istore 8, 2) := dk_54 8 (dk_at dksX3_delta_11 0 rfl rfl)
theorem dX3_delta_259 : decode cX3_delta 259 = .ok (.iconst 0, 1) := dk_3 (dk_at dksX3_delta_11 2 rfl rfl)
theorem dX3_delta_260 : decode cX3_delta 260 = .ok (.istore 9, 2) := dk_54 9 (dk_at dksX3_delta_11 3 rfl rfl)
theorem dX3_delta_262 : decode cX3_delta 262 = .ok (.iload 9, 2) := dk_21 9 (dk_at dksX3_delta_11 5 rfl rfl)
theorem dX3_delta_264 : decode cX3_delta 264 = .ok (.aload_n 0, 1) := dk_42 (dk_at dksX3_delta_11 7 rfl rfl)
theorem dX3_delta_265 : decode cX3_delta 265 = .ok (.getfield 9, 3) := dk_180 0 9 (dk_at dksX3_delta_11 8 rfl rfl)
theorem dX3_delta_268 : decode cX3_delta 268 = .ok (.iconst 3, 1) := dk_6 (dk_at dksX3_delta_11 11 rfl rfl)
theorem dX3_delta_269 : decode cX3_delta 269 = .ok (.iaload, 1) := dk_46 (dk_at dksX3_delta_11 12 rfl rfl)
theorem dX3_delta_270 : decode cX3_delta 270 = .ok (.if_icmp .ge 40, 3) := dk_162 0 40 (dk_at dksX3_delta_11 13 rfl rfl)
theorem dX3_delta_273 : decode cX3_delta 273 = .ok (.aload_n 0, 1) := dk_42 (dk_at dksX3_delta_11 16 rfl rfl)
theorem dX3_delta_274 : decode cX3_delta 274 = .ok (.getfield 160, 3) := dk_180 0 160 (dk_at dksX3_delta_11 17 rfl rfl)
theorem dX3_delta_277 : decode cX3_delta 277 = .ok (.iload 9, 2) := dk_21 9 (dk_at dksX3_delta_11 20 rfl rfl)
theorem dX3_delta_279 : decode cX3_delta 279 = .ok (.aload_n 0, 1) := dk_42 (dk_at dksX3_delta_11 22 rfl rfl)
theorem dX3_delta_280 : decode cX3_delta 280 = .ok (.getfield 160, 3) := dk_180 0 160 (dk_at dksX3_delta_12 0 rfl rfl)
theorem dX3_delta_283 : decode cX3_delta 283 = .ok (.iload 9, 2) := dk_21 9 (dk_at dksX3_delta_12 3 rfl rfl)
theorem dX3_delta_285 : decode cX3_delta 285 = .ok (.iaload, 1) := dk_46 (dk_at dksX3_delta_12 5 rfl rfl)
theorem dX3_delta_286 : decode cX3_delta 286 = .ok (.iload 7, 2) := dk_21 7 (dk_at dksX3_delta_12 6 rfl rfl)
theorem dX3_delta_288 : decode cX3_delta 288 = .ok (.if_icmp .ne 8, 3) := dk_160 0 8 (dk_at dksX3_delta_12 8 rfl rfl)
theorem dX3_delta_291 : decode cX3_delta 291 = .ok (.iload 8, 2) := dk_21 8 (dk_at dksX3_delta_12 11 rfl rfl)
theorem dX3_delta_293 : decode cX3_delta 293 = .ok (.goto 10, 3) := dk_167 0 10 (dk_at dksX3_delta_12 13 rfl rfl)
theorem dX3_delta_296 : decode cX3_delta 296 = .ok (.aload_n 0, 1) := dk_42 (dk_at dksX3_delta_12 16 rfl rfl)
theorem dX3_delta_297 : decode cX3_delta 297 = .ok (.getfield 160, 3) := dk_180 0 160 (dk_at dksX3_delta_12 17 rfl rfl)
theorem dX3_delta_300 : decode cX3_delta 300 = .ok (.iload 9, 2) := dk_21 9 (dk_at dksX3_delta_12 20 rfl rfl)
theorem dX3_delta_302 : decode cX3_delta 302 = .ok (.iaload, 1) := dk_46 (dk_at dksX3_delta_12 22 rfl rfl)
theorem dX3_delta_303 : decode cX3_delta 303 = .ok (.iastore, 1) := dk_79 (dk_at dksX3_delta_12 23 rfl rfl)
theorem dX3_delta_304 : decode cX3_delta 304 = .ok (.iinc 9 1, 3) := dk_132 9 1 (dk_at dksX3_delta_13 0 rfl rfl)
theorem dX3_delta_307 : decode cX3_delta 307 = .ok (.goto (-45), 3) := dk_167 255 211 (dk_at dksX3_delta_13 3 rfl rfl)
theorem dX3_delta_310 : decode cX3_delta 310 = .ok (.goto (-239), 3) := dk_167 255 17 (dk_at dksX3_delta_13 6 rfl rfl)
theorem dX3_delta_313 : decode cX3_delta 313 = .ok (.iload_n 1, 1) := dk_27 (dk_at dksX3_delta_13 9 rfl rfl)
theorem dX3_delta_314 : decode cX3_delta 314 = .ok (.ifCond .ne 7, 3) := dk_154 0 7 (dk_at dksX3_delta_13 10 rfl rfl)
theorem dX3_delta_317 : decode cX3_delta 317 = .ok (.iload_n 2, 1) := dk_28 (dk_at dksX3_delta_13 13 rfl rfl)
theorem dX3_delta_318 : decode cX3_delta 318 = .ok (.goto 4, 3) := dk_167 0 4 (dk_at dksX3_delta_13 14 rfl rfl)
theorem dX3_delta_321 : decode cX3_delta 321 = .ok (.iload_n 3, 1) := dk_29 (dk_at dksX3_delta_13 17 rfl rfl)
theorem dX3_delta_322 : decode cX3_delta 322 = .ok (.ireturn, 1) := dk_172 (dk_at dksX3_delta_13 18 rfl rfl)
abbrev cX3_ropeBetween : ByteArray := prog_17_method_109_code
def yX3_ropeBetween : MethodName := ⟨RX3, "ropeBetween", "(II)I"⟩
def dkwX3_ropeBetween_2 : List UInt8 := [29, 8, 108, 96, 172]
abbrev dktX3_ropeBetween_2 : List UInt8 := dkwX3_ropeBetween_2 ++ []
def dkwX3_ropeBetween_1 : List UInt8 := [180, 0, 25, 27, 46, 100, 167, 0, 16, 42, 180, 0, 25, 27, 46, 42, 180, 0, 25, 28, 46, 100, 62, 4]
abbrev dktX3_ropeBetween_1 : List UInt8 := dkwX3_ropeBetween_1 ++ dktX3_ropeBetween_2
def dkwX3_ropeBetween_0 : List UInt8 := [42, 180, 0, 25, 27, 46, 42, 180, 0, 25, 28, 46, 162, 0, 19, 42, 180, 0, 25, 28, 46, 42]
abbrev dktX3_ropeBetween_0 : List UInt8 := dkwX3_ropeBetween_0 ++ dktX3_ropeBetween_1
theorem dksX3_ropeBetween_0 : cX3_ropeBetween.data.toList.drop 0 = dktX3_ropeBetween_0 := by decide +kernel
theorem dksX3_ropeBetween_1 : cX3_ropeBetween.data.toList.drop 22 = dktX3_ropeBetween_1 := dk_seg dksX3_ropeBetween_0 22 rfl rfl
theorem dksX3_ropeBetween_2 : cX3_ropeBetween.data.toList.drop 46 = dktX3_ropeBetween_2 := dk_seg dksX3_ropeBetween_1 24 rfl rfl
theorem dX3_ropeBetween_0 : decode cX3_ropeBetween 0 = .ok (.aload_n 0, 1) := dk_42 (dk_at dksX3_ropeBetween_0 0 rfl rfl)
theorem dX3_ropeBetween_1 : decode cX3_ropeBetween 1 = .ok (.getfield 25, 3) := dk_180 0 25 (dk_at dksX3_ropeBetween_0 1 rfl rfl)
theorem dX3_ropeBetween_4 : decode cX3_ropeBetween 4 = .ok (.iload_n 1, 1) := dk_27 (dk_at dksX3_ropeBetween_0 4 rfl rfl)
theorem dX3_ropeBetween_5 : decode cX3_ropeBetween 5 = .ok (.iaload, 1) := dk_46 (dk_at dksX3_ropeBetween_0 5 rfl rfl)
theorem dX3_ropeBetween_6 : decode cX3_ropeBetween 6 = .ok (.aload_n 0, 1) := dk_42 (dk_at dksX3_ropeBetween_0 6 rfl rfl)
theorem dX3_ropeBetween_7 : decode cX3_ropeBetween 7 = .ok (.getfield 25, 3) := dk_180 0 25 (dk_at dksX3_ropeBetween_0 7 rfl rfl)
theorem dX3_ropeBetween_10 : decode cX3_ropeBetween 10 = .ok (.iload_n 2, 1) := dk_28 (dk_at dksX3_ropeBetween_0 10 rfl rfl)
theorem dX3_ropeBetween_11 : decode cX3_ropeBetween 11 = .ok (.iaload, 1) := dk_46 (dk_at dksX3_ropeBetween_0 11 rfl rfl)
theorem dX3_ropeBetween_12 : decode cX3_ropeBetween 12 = .ok (.if_icmp .ge 19, 3) := dk_162 0 19 (dk_at dksX3_ropeBetween_0 12 rfl rfl)
theorem dX3_ropeBetween_15 : decode cX3_ropeBetween 15 = .ok (.aload_n 0, 1) := dk_42 (dk_at dksX3_ropeBetween_0 15 rfl rfl)
theorem dX3_ropeBetween_16 : decode cX3_ropeBetween 16 = .ok (.getfield 25, 3) := dk_180 0 25 (dk_at dksX3_ropeBetween_0 16 rfl rfl)
theorem dX3_ropeBetween_19 : decode cX3_ropeBetween 19 = .ok (.iload_n 2, 1) := dk_28 (dk_at dksX3_ropeBetween_0 19 rfl rfl)
theorem dX3_ropeBetween_20 : decode cX3_ropeBetween 20 = .ok (.iaload, 1) := dk_46 (dk_at dksX3_ropeBetween_0 20 rfl rfl)
theorem dX3_ropeBetween_21 : decode cX3_ropeBetween 21 = .ok (.aload_n 0, 1) := dk_42 (dk_at dksX3_ropeBetween_0 21 rfl rfl)
theorem dX3_ropeBetween_22 : decode cX3_ropeBetween 22 = .ok (.getfield 25, 3) := dk_180 0 25 (dk_at dksX3_ropeBetween_1 0 rfl rfl)
theorem dX3_ropeBetween_25 : decode cX3_ropeBetween 25 = .ok (.iload_n 1, 1) := dk_27 (dk_at dksX3_ropeBetween_1 3 rfl rfl)
theorem dX3_ropeBetween_26 : decode cX3_ropeBetween 26 = .ok (.iaload, 1) := dk_46 (dk_at dksX3_ropeBetween_1 4 rfl rfl)
theorem dX3_ropeBetween_27 : decode cX3_ropeBetween 27 = .ok (.isub, 1) := dk_100 (dk_at dksX3_ropeBetween_1 5 rfl rfl)
theorem dX3_ropeBetween_28 : decode cX3_ropeBetween 28 = .ok (.goto 16, 3) := dk_167 0 16 (dk_at dksX3_ropeBetween_1 6 rfl rfl)
theorem dX3_ropeBetween_31 : decode cX3_ropeBetween 31 = .ok (.aload_n 0, 1) := dk_42 (dk_at dksX3_ropeBetween_1 9 rfl rfl)
theorem dX3_ropeBetween_32 : decode cX3_ropeBetween 32 = .ok (.getfield 25, 3) := dk_180 0 25 (dk_at dksX3_ropeBetween_1 10 rfl rfl)
theorem dX3_ropeBetween_35 : decode cX3_ropeBetween 35 = .ok (.iload_n 1, 1) := dk_27 (dk_at dksX3_ropeBetween_1 13 rfl rfl)
theorem dX3_ropeBetween_36 : decode cX3_ropeBetween 36 = .ok (.iaload, 1) := dk_46 (dk_at dksX3_ropeBetween_1 14 rfl rfl)
theorem dX3_ropeBetween_37 : decode cX3_ropeBetween 37 = .ok (.aload_n 0, 1) := dk_42 (dk_at dksX3_ropeBetween_1 15 rfl rfl)
theorem dX3_ropeBetween_38 : decode cX3_ropeBetween 38 = .ok (.getfield 25, 3) := dk_180 0 25 (dk_at dksX3_ropeBetween_1 16 rfl rfl)
theorem dX3_ropeBetween_41 : decode cX3_ropeBetween 41 = .ok (.iload_n 2, 1) := dk_28 (dk_at dksX3_ropeBetween_1 19 rfl rfl)
theorem dX3_ropeBetween_42 : decode cX3_ropeBetween 42 = .ok (.iaload, 1) := dk_46 (dk_at dksX3_ropeBetween_1 20 rfl rfl)
theorem dX3_ropeBetween_43 : decode cX3_ropeBetween 43 = .ok (.isub, 1) := dk_100 (dk_at dksX3_ropeBetween_1 21 rfl rfl)
theorem dX3_ropeBetween_44 : decode cX3_ropeBetween 44 = .ok (.istore_n 3, 1) := dk_62 (dk_at dksX3_ropeBetween_1 22 rfl rfl)
theorem dX3_ropeBetween_45 : decode cX3_ropeBetween 45 = .ok (.iconst 1, 1) := dk_4 (dk_at dksX3_ropeBetween_1 23 rfl rfl)
theorem dX3_ropeBetween_46 : decode cX3_ropeBetween 46 = .ok (.iload_n 3, 1) := dk_29 (dk_at dksX3_ropeBetween_2 0 rfl rfl)
theorem dX3_ropeBetween_47 : decode cX3_ropeBetween 47 = .ok (.iconst 5, 1) := dk_8 (dk_at dksX3_ropeBetween_2 1 rfl rfl)
theorem dX3_ropeBetween_48 : decode cX3_ropeBetween 48 = .ok (.idiv, 1) := dk_108 (dk_at dksX3_ropeBetween_2 2 rfl rfl)
theorem dX3_ropeBetween_49 : decode cX3_ropeBetween 49 = .ok (.iadd, 1) := dk_96 (dk_at dksX3_ropeBetween_2 3 rfl rfl)
theorem dX3_ropeBetween_50 : decode cX3_ropeBetween 50 = .ok (.ireturn, 1) := dk_172 (dk_at dksX3_ropeBetween_2 4 rfl rfl)
abbrev cX3_weak : ByteArray := prog_17_method_112_code
def yX3_weak : MethodName := ⟨RX3, "weak", "(I)I"⟩
def dkwX3_weak_6 : List UInt8 := [172]
abbrev dktX3_weak_6 : List UInt8 := dkwX3_weak_6 ++ []
def dkwX3_weak_5 : List UInt8 := [42, 29, 182, 2, 64, 153, 0, 9, 4, 29, 120, 167, 0, 4, 3, 128, 61, 132, 3, 1, 167, 255, 211, 28]
abbrev dktX3_weak_5 : List UInt8 := dkwX3_weak_5 ++ dktX3_weak_6
def dkwX3_weak_4 : List UInt8 := [42, 180, 0, 9, 6, 46, 162, 0, 41, 27, 4, 160, 0, 36, 28, 42, 180, 0, 34, 29, 46, 154, 0, 17]
abbrev dktX3_weak_4 : List UInt8 := dkwX3_weak_4 ++ dktX3_weak_5
def dkwX3_weak_3 : List UInt8 := [184, 1, 134, 153, 0, 7, 3, 167, 0, 6, 4, 29, 120, 128, 61, 132, 3, 1, 167, 255, 193, 3, 62, 29]
abbrev dktX3_weak_3 : List UInt8 := dkwX3_weak_3 ++ dktX3_weak_4
def dkwX3_weak_2 : List UInt8 := [182, 1, 137, 42, 182, 1, 140, 4, 29, 120, 2, 130, 126, 182, 1, 143, 42, 180, 0, 43, 29, 46]
abbrev dktX3_weak_2 : List UInt8 := dkwX3_weak_2 ++ dktX3_weak_3
def dkwX3_weak_1 : List UInt8 := [42, 180, 0, 9, 7, 46, 162, 0, 59, 27, 154, 0, 55, 28, 42, 42, 180, 0, 40, 29, 46, 42]
abbrev dktX3_weak_1 : List UInt8 := dkwX3_weak_1 ++ dktX3_weak_2
def dkwX3_weak_0 : List UInt8 := [42, 182, 1, 174, 153, 0, 13, 27, 133, 9, 10, 184, 0, 176, 154, 0, 5, 2, 172, 3, 61, 3, 62, 29]
abbrev dktX3_weak_0 : List UInt8 := dkwX3_weak_0 ++ dktX3_weak_1
theorem dksX3_weak_0 : cX3_weak.data.toList.drop 0 = dktX3_weak_0 := by decide +kernel
theorem dksX3_weak_1 : cX3_weak.data.toList.drop 24 = dktX3_weak_1 := dk_seg dksX3_weak_0 24 rfl rfl
theorem dksX3_weak_2 : cX3_weak.data.toList.drop 46 = dktX3_weak_2 := dk_seg dksX3_weak_1 22 rfl rfl
theorem dksX3_weak_3 : cX3_weak.data.toList.drop 68 = dktX3_weak_3 := dk_seg dksX3_weak_2 22 rfl rfl
theorem dksX3_weak_4 : cX3_weak.data.toList.drop 92 = dktX3_weak_4 := dk_seg dksX3_weak_3 24 rfl rfl
theorem dksX3_weak_5 : cX3_weak.data.toList.drop 116 = dktX3_weak_5 := dk_seg dksX3_weak_4 24 rfl rfl
theorem dksX3_weak_6 : cX3_weak.data.toList.drop 140 = dktX3_weak_6 := dk_seg dksX3_weak_5 24 rfl rfl
theorem dX3_weak_0 : decode cX3_weak 0 = .ok (.aload_n 0, 1) := dk_42 (dk_at dksX3_weak_0 0 rfl rfl)
theorem dX3_weak_1 : decode cX3_weak 1 = .ok (.invokevirtual 430, 3) := dk_182 1 174 (dk_at dksX3_weak_0 1 rfl rfl)
theorem dX3_weak_4 : decode cX3_weak 4 = .ok (.ifCond .eq 13, 3) := dk_153 0 13 (dk_at dksX3_weak_0 4 rfl rfl)
theorem dX3_weak_7 : decode cX3_weak 7 = .ok (.iload_n 1, 1) := dk_27 (dk_at dksX3_weak_0 7 rfl rfl)
theorem dX3_weak_8 : decode cX3_weak 8 = .ok (.i2l, 1) := dk_133 (dk_at dksX3_weak_0 8 rfl rfl)
theorem dX3_weak_9 : decode cX3_weak 9 = .ok (.lconst 0, 1) := dk_9 (dk_at dksX3_weak_0 9 rfl rfl)
theorem dX3_weak_10 : decode cX3_weak 10 = .ok (.lconst 1, 1) := dk_10 (dk_at dksX3_weak_0 10 rfl rfl)
theorem dX3_weak_11 : decode cX3_weak 11 = .ok (.invokestatic 176, 3) := dk_184 0 176 (dk_at dksX3_weak_0 11 rfl rfl)
theorem dX3_weak_14 : decode cX3_weak 14 = .ok (.ifCond .ne 5, 3) := dk_154 0 5 (dk_at dksX3_weak_0 14 rfl rfl)
theorem dX3_weak_17 : decode cX3_weak 17 = .ok (.iconst (-1), 1) := dk_2 (dk_at dksX3_weak_0 17 rfl rfl)
theorem dX3_weak_18 : decode cX3_weak 18 = .ok (.ireturn, 1) := dk_172 (dk_at dksX3_weak_0 18 rfl rfl)
theorem dX3_weak_19 : decode cX3_weak 19 = .ok (.iconst 0, 1) := dk_3 (dk_at dksX3_weak_0 19 rfl rfl)
theorem dX3_weak_20 : decode cX3_weak 20 = .ok (.istore_n 2, 1) := dk_61 (dk_at dksX3_weak_0 20 rfl rfl)
theorem dX3_weak_21 : decode cX3_weak 21 = .ok (.iconst 0, 1) := dk_3 (dk_at dksX3_weak_0 21 rfl rfl)
theorem dX3_weak_22 : decode cX3_weak 22 = .ok (.istore_n 3, 1) := dk_62 (dk_at dksX3_weak_0 22 rfl rfl)
theorem dX3_weak_23 : decode cX3_weak 23 = .ok (.iload_n 3, 1) := dk_29 (dk_at dksX3_weak_0 23 rfl rfl)
theorem dX3_weak_24 : decode cX3_weak 24 = .ok (.aload_n 0, 1) := dk_42 (dk_at dksX3_weak_1 0 rfl rfl)
theorem dX3_weak_25 : decode cX3_weak 25 = .ok (.getfield 9, 3) := dk_180 0 9 (dk_at dksX3_weak_1 1 rfl rfl)
theorem dX3_weak_28 : decode cX3_weak 28 = .ok (.iconst 4, 1) := dk_7 (dk_at dksX3_weak_1 4 rfl rfl)
theorem dX3_weak_29 : decode cX3_weak 29 = .ok (.iaload, 1) := dk_46 (dk_at dksX3_weak_1 5 rfl rfl)
theorem dX3_weak_30 : decode cX3_weak 30 = .ok (.if_icmp .ge 59, 3) := dk_162 0 59 (dk_at dksX3_weak_1 6 rfl rfl)
theorem dX3_weak_33 : decode cX3_weak 33 = .ok (.iload_n 1, 1) := dk_27 (dk_at dksX3_weak_1 9 rfl rfl)
theorem dX3_weak_34 : decode cX3_weak 34 = .ok (.ifCond .ne 55, 3) := dk_154 0 55 (dk_at dksX3_weak_1 10 rfl rfl)
theorem dX3_weak_37 : decode cX3_weak 37 = .ok (.iload_n 2, 1) := dk_28 (dk_at dksX3_weak_1 13 rfl rfl)
theorem dX3_weak_38 : decode cX3_weak 38 = .ok (.aload_n 0, 1) := dk_42 (dk_at dksX3_weak_1 14 rfl rfl)
theorem dX3_weak_39 : decode cX3_weak 39 = .ok (.aload_n 0, 1) := dk_42 (dk_at dksX3_weak_1 15 rfl rfl)
theorem dX3_weak_40 : decode cX3_weak 40 = .ok (.getfield 40, 3) := dk_180 0 40 (dk_at dksX3_weak_1 16 rfl rfl)
theorem dX3_weak_43 : decode cX3_weak 43 = .ok (.iload_n 3, 1) := dk_29 (dk_at dksX3_weak_1 19 rfl rfl)
theorem dX3_weak_44 : decode cX3_weak 44 = .ok (.iaload, 1) := dk_46 (dk_at dksX3_weak_1 20 rfl rfl)
theorem dX3_weak_45 : decode cX3_weak 45 = .ok (.aload_n 0, 1) := dk_42 (dk_at dksX3_weak_1 21 rfl rfl)
theorem dX3_weak_46 : decode cX3_weak 46 = .ok (.invokevirtual 393, 3) := dk_182 1 137 (dk_at dksX3_weak_2 0 rfl rfl)
theorem dX3_weak_49 : decode cX3_weak 49 = .ok (.aload_n 0, 1) := dk_42 (dk_at dksX3_weak_2 3 rfl rfl)
theorem dX3_weak_50 : decode cX3_weak 50 = .ok (.invokevirtual 396, 3) := dk_182 1 140 (dk_at dksX3_weak_2 4 rfl rfl)
theorem dX3_weak_53 : decode cX3_weak 53 = .ok (.iconst 1, 1) := dk_4 (dk_at dksX3_weak_2 7 rfl rfl)
theorem dX3_weak_54 : decode cX3_weak 54 = .ok (.iload_n 3, 1) := dk_29 (dk_at dksX3_weak_2 8 rfl rfl)
theorem dX3_weak_55 : decode cX3_weak 55 = .ok (.ishl, 1) := dk_120 (dk_at dksX3_weak_2 9 rfl rfl)
theorem dX3_weak_56 : decode cX3_weak 56 = .ok (.iconst (-1), 1) := dk_2 (dk_at dksX3_weak_2 10 rfl rfl)
theorem dX3_weak_57 : decode cX3_weak 57 = .ok (.ixor, 1) := dk_130 (dk_at dksX3_weak_2 11 rfl rfl)
theorem dX3_weak_58 : decode cX3_weak 58 = .ok (.iand, 1) := dk_126 (dk_at dksX3_weak_2 12 rfl rfl)
theorem dX3_weak_59 : decode cX3_weak 59 = .ok (.invokevirtual 399, 3) := dk_182 1 143 (dk_at dksX3_weak_2 13 rfl rfl)
theorem dX3_weak_62 : decode cX3_weak 62 = .ok (.aload_n 0, 1) := dk_42 (dk_at dksX3_weak_2 16 rfl rfl)
theorem dX3_weak_63 : decode cX3_weak 63 = .ok (.getfield 43, 3) := dk_180 0 43 (dk_at dksX3_weak_2 17 rfl rfl)
theorem dX3_weak_66 : decode cX3_weak 66 = .ok (.iload_n 3, 1) := dk_29 (dk_at dksX3_weak_2 20 rfl rfl)
theorem dX3_weak_67 : decode cX3_weak 67 = .ok (.iaload, 1) := dk_46 (dk_at dksX3_weak_2 21 rfl rfl)
theorem dX3_weak_68 : decode cX3_weak 68 = .ok (.invokestatic 390, 3) := dk_184 1 134 (dk_at dksX3_weak_3 0 rfl rfl)
theorem dX3_weak_71 : decode cX3_weak 71 = .ok (.ifCond .eq 7, 3) := dk_153 0 7 (dk_at dksX3_weak_3 3 rfl rfl)
theorem dX3_weak_74 : decode cX3_weak 74 = .ok (.iconst 0, 1) := dk_3 (dk_at dksX3_weak_3 6 rfl rfl)
theorem dX3_weak_75 : decode cX3_weak 75 = .ok (.goto 6, 3) := dk_167 0 6 (dk_at dksX3_weak_3 7 rfl rfl)
theorem dX3_weak_78 : decode cX3_weak 78 = .ok (.iconst 1, 1) := dk_4 (dk_at dksX3_weak_3 10 rfl rfl)
theorem dX3_weak_79 : decode cX3_weak 79 = .ok (.iload_n 3, 1) := dk_29 (dk_at dksX3_weak_3 11 rfl rfl)
theorem dX3_weak_80 : decode cX3_weak 80 = .ok (.ishl, 1) := dk_120 (dk_at dksX3_weak_3 12 rfl rfl)
theorem dX3_weak_81 : decode cX3_weak 81 = .ok (.ior, 1) := dk_128 (dk_at dksX3_weak_3 13 rfl rfl)
theorem dX3_weak_82 : decode cX3_weak 82 = .ok (.istore_n 2, 1) := dk_61 (dk_at dksX3_weak_3 14 rfl rfl)
theorem dX3_weak_83 : decode cX3_weak 83 = .ok (.iinc 3 1, 3) := dk_132 3 1 (dk_at dksX3_weak_3 15 rfl rfl)
theorem dX3_weak_86 : decode cX3_weak 86 = .ok (.goto (-63), 3) := dk_167 255 193 (dk_at dksX3_weak_3 18 rfl rfl)
theorem dX3_weak_89 : decode cX3_weak 89 = .ok (.iconst 0, 1) := dk_3 (dk_at dksX3_weak_3 21 rfl rfl)
theorem dX3_weak_90 : decode cX3_weak 90 = .ok (.istore_n 3, 1) := dk_62 (dk_at dksX3_weak_3 22 rfl rfl)
theorem dX3_weak_91 : decode cX3_weak 91 = .ok (.iload_n 3, 1) := dk_29 (dk_at dksX3_weak_3 23 rfl rfl)
theorem dX3_weak_92 : decode cX3_weak 92 = .ok (.aload_n 0, 1) := dk_42 (dk_at dksX3_weak_4 0 rfl rfl)
theorem dX3_weak_93 : decode cX3_weak 93 = .ok (.getfield 9, 3) := dk_180 0 9 (dk_at dksX3_weak_4 1 rfl rfl)
theorem dX3_weak_96 : decode cX3_weak 96 = .ok (.iconst 3, 1) := dk_6 (dk_at dksX3_weak_4 4 rfl rfl)
theorem dX3_weak_97 : decode cX3_weak 97 = .ok (.iaload, 1) := dk_46 (dk_at dksX3_weak_4 5 rfl rfl)
theorem dX3_weak_98 : decode cX3_weak 98 = .ok (.if_icmp .ge 41, 3) := dk_162 0 41 (dk_at dksX3_weak_4 6 rfl rfl)
theorem dX3_weak_101 : decode cX3_weak 101 = .ok (.iload_n 1, 1) := dk_27 (dk_at dksX3_weak_4 9 rfl rfl)
theorem dX3_weak_102 : decode cX3_weak 102 = .ok (.iconst 1, 1) := dk_4 (dk_at dksX3_weak_4 10 rfl rfl)
theorem dX3_weak_103 : decode cX3_weak 103 = .ok (.if_icmp .ne 36, 3) := dk_160 0 36 (dk_at dksX3_weak_4 11 rfl rfl)
theorem dX3_weak_106 : decode cX3_weak 106 = .ok (.iload_n 2, 1) := dk_28 (dk_at dksX3_weak_4 14 rfl rfl)
theorem dX3_weak_107 : decode cX3_weak 107 = .ok (.aload_n 0, 1) := dk_42 (dk_at dksX3_weak_4 15 rfl rfl)
theorem dX3_weak_108 : decode cX3_weak 108 = .ok (.getfield 34, 3) := dk_180 0 34 (dk_at dksX3_weak_4 16 rfl rfl)
theorem dX3_weak_111 : decode cX3_weak 111 = .ok (.iload_n 3, 1) := dk_29 (dk_at dksX3_weak_4 19 rfl rfl)
theorem dX3_weak_112 : decode cX3_weak 112 = .ok (.iaload, 1) := dk_46 (dk_at dksX3_weak_4 20 rfl rfl)
theorem dX3_weak_113 : decode cX3_weak 113 = .ok (.ifCond .ne 17, 3) := dk_154 0 17 (dk_at dksX3_weak_4 21 rfl rfl)
theorem dX3_weak_116 : decode cX3_weak 116 = .ok (.aload_n 0, 1) := dk_42 (dk_at dksX3_weak_5 0 rfl rfl)
theorem dX3_weak_117 : decode cX3_weak 117 = .ok (.iload_n 3, 1) := dk_29 (dk_at dksX3_weak_5 1 rfl rfl)
theorem dX3_weak_118 : decode cX3_weak 118 = .ok (.invokevirtual 576, 3) := dk_182 2 64 (dk_at dksX3_weak_5 2 rfl rfl)
theorem dX3_weak_121 : decode cX3_weak 121 = .ok (.ifCond .eq 9, 3) := dk_153 0 9 (dk_at dksX3_weak_5 5 rfl rfl)
theorem dX3_weak_124 : decode cX3_weak 124 = .ok (.iconst 1, 1) := dk_4 (dk_at dksX3_weak_5 8 rfl rfl)
theorem dX3_weak_125 : decode cX3_weak 125 = .ok (.iload_n 3, 1) := dk_29 (dk_at dksX3_weak_5 9 rfl rfl)
theorem dX3_weak_126 : decode cX3_weak 126 = .ok (.ishl, 1) := dk_120 (dk_at dksX3_weak_5 10 rfl rfl)
theorem dX3_weak_127 : decode cX3_weak 127 = .ok (.goto 4, 3) := dk_167 0 4 (dk_at dksX3_weak_5 11 rfl rfl)
theorem dX3_weak_130 : decode cX3_weak 130 = .ok (.iconst 0, 1) := dk_3 (dk_at dksX3_weak_5 14 rfl rfl)
theorem dX3_weak_131 : decode cX3_weak 131 = .ok (.ior, 1) := dk_128 (dk_at dksX3_weak_5 15 rfl rfl)
theorem dX3_weak_132 : decode cX3_weak 132 = .ok (.istore_n 2, 1) := dk_61 (dk_at dksX3_weak_5 16 rfl rfl)
theorem dX3_weak_133 : decode cX3_weak 133 = .ok (.iinc 3 1, 3) := dk_132 3 1 (dk_at dksX3_weak_5 17 rfl rfl)
theorem dX3_weak_136 : decode cX3_weak 136 = .ok (.goto (-45), 3) := dk_167 255 211 (dk_at dksX3_weak_5 20 rfl rfl)
theorem dX3_weak_139 : decode cX3_weak 139 = .ok (.iload_n 2, 1) := dk_28 (dk_at dksX3_weak_5 23 rfl rfl)
theorem dX3_weak_140 : decode cX3_weak 140 = .ok (.ireturn, 1) := dk_172 (dk_at dksX3_weak_6 0 rfl rfl)
abbrev cX3_isWeakThing : ByteArray := prog_17_method_111_code
def yX3_isWeakThing : MethodName := ⟨RX3, "isWeakThing", "(I)Z"⟩
def dkwX3_isWeakThing_1 : List UInt8 := [182, 1, 140, 182, 1, 143, 28, 159, 0, 7, 4, 167, 0, 4, 3, 172]
abbrev dktX3_isWeakThing_1 : List UInt8 := dkwX3_isWeakThing_1 ++ []
def dkwX3_isWeakThing_0 : List UInt8 := [42, 27, 182, 1, 168, 4, 27, 120, 2, 130, 126, 61, 28, 153, 0, 24, 42, 28, 184, 1, 165, 28, 42]
abbrev dktX3_isWeakThing_0 : List UInt8 := dkwX3_isWeakThing_0 ++ dktX3_isWeakThing_1
theorem dksX3_isWeakThing_0 : cX3_isWeakThing.data.toList.drop 0 = dktX3_isWeakThing_0 := by decide +kernel
theorem dksX3_isWeakThing_1 : cX3_isWeakThing.data.toList.drop 23 = dktX3_isWeakThing_1 := dk_seg dksX3_isWeakThing_0 23 rfl rfl
theorem dX3_isWeakThing_0 : decode cX3_isWeakThing 0 = .ok (.aload_n 0, 1) := dk_42 (dk_at dksX3_isWeakThing_0 0 rfl rfl)
theorem dX3_isWeakThing_1 : decode cX3_isWeakThing 1 = .ok (.iload_n 1, 1) := dk_27 (dk_at dksX3_isWeakThing_0 1 rfl rfl)
theorem dX3_isWeakThing_2 : decode cX3_isWeakThing 2 = .ok (.invokevirtual 424, 3) := dk_182 1 168 (dk_at dksX3_isWeakThing_0 2 rfl rfl)
theorem dX3_isWeakThing_5 : decode cX3_isWeakThing 5 = .ok (.iconst 1, 1) := dk_4 (dk_at dksX3_isWeakThing_0 5 rfl rfl)
theorem dX3_isWeakThing_6 : decode cX3_isWeakThing 6 = .ok (.iload_n 1, 1) := dk_27 (dk_at dksX3_isWeakThing_0 6 rfl rfl)
theorem dX3_isWeakThing_7 : decode cX3_isWeakThing 7 = .ok (.ishl, 1) := dk_120 (dk_at dksX3_isWeakThing_0 7 rfl rfl)
theorem dX3_isWeakThing_8 : decode cX3_isWeakThing 8 = .ok (.iconst (-1), 1) := dk_2 (dk_at dksX3_isWeakThing_0 8 rfl rfl)
theorem dX3_isWeakThing_9 : decode cX3_isWeakThing 9 = .ok (.ixor, 1) := dk_130 (dk_at dksX3_isWeakThing_0 9 rfl rfl)
theorem dX3_isWeakThing_10 : decode cX3_isWeakThing 10 = .ok (.iand, 1) := dk_126 (dk_at dksX3_isWeakThing_0 10 rfl rfl)
theorem dX3_isWeakThing_11 : decode cX3_isWeakThing 11 = .ok (.istore_n 2, 1) := dk_61 (dk_at dksX3_isWeakThing_0 11 rfl rfl)
theorem dX3_isWeakThing_12 : decode cX3_isWeakThing 12 = .ok (.iload_n 2, 1) := dk_28 (dk_at dksX3_isWeakThing_0 12 rfl rfl)
theorem dX3_isWeakThing_13 : decode cX3_isWeakThing 13 = .ok (.ifCond .eq 24, 3) := dk_153 0 24 (dk_at dksX3_isWeakThing_0 13 rfl rfl)
theorem dX3_isWeakThing_16 : decode cX3_isWeakThing 16 = .ok (.aload_n 0, 1) := dk_42 (dk_at dksX3_isWeakThing_0 16 rfl rfl)
theorem dX3_isWeakThing_17 : decode cX3_isWeakThing 17 = .ok (.iload_n 2, 1) := dk_28 (dk_at dksX3_isWeakThing_0 17 rfl rfl)
theorem dX3_isWeakThing_18 : decode cX3_isWeakThing 18 = .ok (.invokestatic 421, 3) := dk_184 1 165 (dk_at dksX3_isWeakThing_0 18 rfl rfl)
theorem dX3_isWeakThing_21 : decode cX3_isWeakThing 21 = .ok (.iload_n 2, 1) := dk_28 (dk_at dksX3_isWeakThing_0 21 rfl rfl)
theorem dX3_isWeakThing_22 : decode cX3_isWeakThing 22 = .ok (.aload_n 0, 1) := dk_42 (dk_at dksX3_isWeakThing_0 22 rfl rfl)
theorem dX3_isWeakThing_23 : decode cX3_isWeakThing 23 = .ok (.invokevirtual 396, 3) := dk_182 1 140 (dk_at dksX3_isWeakThing_1 0 rfl rfl)
theorem dX3_isWeakThing_26 : decode cX3_isWeakThing 26 = .ok (.invokevirtual 399, 3) := dk_182 1 143 (dk_at dksX3_isWeakThing_1 3 rfl rfl)
theorem dX3_isWeakThing_29 : decode cX3_isWeakThing 29 = .ok (.iload_n 2, 1) := dk_28 (dk_at dksX3_isWeakThing_1 6 rfl rfl)
theorem dX3_isWeakThing_30 : decode cX3_isWeakThing 30 = .ok (.if_icmp .eq 7, 3) := dk_159 0 7 (dk_at dksX3_isWeakThing_1 7 rfl rfl)
theorem dX3_isWeakThing_33 : decode cX3_isWeakThing 33 = .ok (.iconst 1, 1) := dk_4 (dk_at dksX3_isWeakThing_1 10 rfl rfl)
theorem dX3_isWeakThing_34 : decode cX3_isWeakThing 34 = .ok (.goto 4, 3) := dk_167 0 4 (dk_at dksX3_isWeakThing_1 11 rfl rfl)
theorem dX3_isWeakThing_37 : decode cX3_isWeakThing 37 = .ok (.iconst 0, 1) := dk_3 (dk_at dksX3_isWeakThing_1 14 rfl rfl)
theorem dX3_isWeakThing_38 : decode cX3_isWeakThing 38 = .ok (.ireturn, 1) := dk_172 (dk_at dksX3_isWeakThing_1 15 rfl rfl)
abbrev cX3_offer : ByteArray := prog_17_method_113_code
def yX3_offer : MethodName := ⟨RX3, "offer", "(III)I"⟩
def dkwX3_offer_4 : List UInt8 := [42, 180, 0, 61, 21, 4, 29, 79, 42, 180, 0, 9, 16, 7, 92, 46, 4, 96, 79, 21, 4, 4, 96, 172]
abbrev dktX3_offer_4 : List UInt8 := dkwX3_offer_4 ++ []
def dkwX3_offer_3 : List UInt8 := [16, 6, 160, 0, 6, 16, 254, 172, 42, 180, 0, 55, 21, 4, 27, 79, 42, 180, 0, 58, 21, 4, 28, 79]
abbrev dktX3_offer_3 : List UInt8 := dkwX3_offer_3 ++ dktX3_offer_4
def dkwX3_offer_2 : List UInt8 := [20, 2, 69, 184, 0, 176, 153, 0, 22, 29, 133, 9, 20, 1, 186, 184, 0, 176, 153, 0, 10, 21, 4]
abbrev dktX3_offer_2 : List UInt8 := dkwX3_offer_2 ++ dktX3_offer_3
def dkwX3_offer_1 : List UInt8 := [42, 182, 1, 174, 153, 0, 46, 27, 133, 9, 20, 2, 67, 184, 0, 176, 153, 0, 34, 28, 133, 9]
abbrev dktX3_offer_1 : List UInt8 := dkwX3_offer_1 ++ dktX3_offer_2
def dkwX3_offer_0 : List UInt8 := [27, 2, 160, 0, 13, 42, 180, 0, 9, 16, 7, 3, 79, 3, 172, 42, 180, 0, 9, 16, 7, 46, 54, 4]
abbrev dktX3_offer_0 : List UInt8 := dkwX3_offer_0 ++ dktX3_offer_1
theorem dksX3_offer_0 : cX3_offer.data.toList.drop 0 = dktX3_offer_0 := by decide +kernel
theorem dksX3_offer_1 : cX3_offer.data.toList.drop 24 = dktX3_offer_1 := dk_seg dksX3_offer_0 24 rfl rfl
theorem dksX3_offer_2 : cX3_offer.data.toList.drop 46 = dktX3_offer_2 := dk_seg dksX3_offer_1 22 rfl rfl
theorem dksX3_offer_3 : cX3_offer.data.toList.drop 69 = dktX3_offer_3 := dk_seg dksX3_offer_2 23 rfl rfl
theorem dksX3_offer_4 : cX3_offer.data.toList.drop 93 = dktX3_offer_4 := dk_seg dksX3_offer_3 24 rfl rfl
theorem dX3_offer_0 : decode cX3_offer 0 = .ok (.iload_n 1, 1) := dk_27 (dk_at dksX3_offer_0 0 rfl rfl)
theorem dX3_offer_1 : decode cX3_offer 1 = .ok (.iconst (-1), 1) := dk_2 (dk_at dksX3_offer_0 1 rfl rfl)
theorem dX3_offer_2 : decode cX3_offer 2 = .ok (.if_icmp .ne 13, 3) := dk_160 0 13 (dk_at dksX3_offer_0 2 rfl rfl)
theorem dX3_offer_5 : decode cX3_offer 5 = .ok (.aload_n 0, 1) := dk_42 (dk_at dksX3_offer_0 5 rfl rfl)
theorem dX3_offer_6 : decode cX3_offer 6 = .ok (.getfield 9, 3) := dk_180 0 9 (dk_at dksX3_offer_0 6 rfl rfl)
theorem dX3_offer_9 : decode cX3_offer 9 = .ok (.bipush 7, 2) := dk_16 7 (dk_at dksX3_offer_0 9 rfl rfl)
theorem dX3_offer_11 : decode cX3_offer 11 = .ok (.iconst 0, 1) := dk_3 (dk_at dksX3_offer_0 11 rfl rfl)
theorem dX3_offer_12 : decode cX3_offer 12 = .ok (.iastore, 1) := dk_79 (dk_at dksX3_offer_0 12 rfl rfl)
theorem dX3_offer_13 : decode cX3_offer 13 = .ok (.iconst 0, 1) := dk_3 (dk_at dksX3_offer_0 13 rfl rfl)
theorem dX3_offer_14 : decode cX3_offer 14 = .ok (.ireturn, 1) := dk_172 (dk_at dksX3_offer_0 14 rfl rfl)
theorem dX3_offer_15 : decode cX3_offer 15 = .ok (.aload_n 0, 1) := dk_42 (dk_at dksX3_offer_0 15 rfl rfl)
theorem dX3_offer_16 : decode cX3_offer 16 = .ok (.getfield 9, 3) := dk_180 0 9 (dk_at dksX3_offer_0 16 rfl rfl)
theorem dX3_offer_19 : decode cX3_offer 19 = .ok (.bipush 7, 2) := dk_16 7 (dk_at dksX3_offer_0 19 rfl rfl)
theorem dX3_offer_21 : decode cX3_offer 21 = .ok (.iaload, 1) := dk_46 (dk_at dksX3_offer_0 21 rfl rfl)
theorem dX3_offer_22 : decode cX3_offer 22 = .ok (.istore 4, 2) := dk_54 4 (dk_at dksX3_offer_0 22 rfl rfl)
theorem dX3_offer_24 : decode cX3_offer 24 = .ok (.aload_n 0, 1) := dk_42 (dk_at dksX3_offer_1 0 rfl rfl)
theorem dX3_offer_25 : decode cX3_offer 25 = .ok (.invokevirtual 430, 3) := dk_182 1 174 (dk_at dksX3_offer_1 1 rfl rfl)
theorem dX3_offer_28 : decode cX3_offer 28 = .ok (.ifCond .eq 46, 3) := dk_153 0 46 (dk_at dksX3_offer_1 4 rfl rfl)
theorem dX3_offer_31 : decode cX3_offer 31 = .ok (.iload_n 1, 1) := dk_27 (dk_at dksX3_offer_1 7 rfl rfl)
theorem dX3_offer_32 : decode cX3_offer 32 = .ok (.i2l, 1) := dk_133 (dk_at dksX3_offer_1 8 rfl rfl)
theorem dX3_offer_33 : decode cX3_offer 33 = .ok (.lconst 0, 1) := dk_9 (dk_at dksX3_offer_1 9 rfl rfl)
theorem dX3_offer_34 : decode cX3_offer 34 = .ok (.ldc2_w 579, 3) := dk_20 2 67 (dk_at dksX3_offer_1 10 rfl rfl)
theorem dX3_offer_37 : decode cX3_offer 37 = .ok (.invokestatic 176, 3) := dk_184 0 176 (dk_at dksX3_offer_1 13 rfl rfl)
theorem dX3_offer_40 : decode cX3_offer 40 = .ok (.ifCond .eq 34, 3) := dk_153 0 34 (dk_at dksX3_offer_1 16 rfl rfl)
theorem dX3_offer_43 : decode cX3_offer 43 = .ok (.iload_n 2, 1) := dk_28 (dk_at dksX3_offer_1 19 rfl rfl)
theorem dX3_offer_44 : decode cX3_offer 44 = .ok (.i2l, 1) := dk_133 (dk_at dksX3_offer_1 20 rfl rfl)
theorem dX3_offer_45 : decode cX3_offer 45 = .ok (.lconst 0, 1) := dk_9 (dk_at dksX3_offer_1 21 rfl rfl)
theorem dX3_offer_46 : decode cX3_offer 46 = .ok (.ldc2_w 581, 3) := dk_20 2 69 (dk_at dksX3_offer_2 0 rfl rfl)
theorem dX3_offer_49 : decode cX3_offer 49 = .ok (.invokestatic 176, 3) := dk_184 0 176 (dk_at dksX3_offer_2 3 rfl rfl)
theorem dX3_offer_52 : decode cX3_offer 52 = .ok (.ifCond .eq 22, 3) := dk_153 0 22 (dk_at dksX3_offer_2 6 rfl rfl)
theorem dX3_offer_55 : decode cX3_offer 55 = .ok (.iload_n 3, 1) := dk_29 (dk_at dksX3_offer_2 9 rfl rfl)
theorem dX3_offer_56 : decode cX3_offer 56 = .ok (.i2l, 1) := dk_133 (dk_at dksX3_offer_2 10 rfl rfl)
theorem dX3_offer_57 : decode cX3_offer 57 = .ok (.lconst 0, 1) := dk_9 (dk_at dksX3_offer_2 11 rfl rfl)
theorem dX3_offer_58 : decode cX3_offer 58 = .ok (.ldc2_w 442, 3) := dk_20 1 186 (dk_at dksX3_offer_2 12 rfl rfl)
theorem dX3_offer_61 : decode cX3_offer 61 = .ok (.invokestatic 176, 3) := dk_184 0 176 (dk_at dksX3_offer_2 15 rfl rfl)
theorem dX3_offer_64 : decode cX3_offer 64 = .ok (.ifCond .eq 10, 3) := dk_153 0 10 (dk_at dksX3_offer_2 18 rfl rfl)
theorem dX3_offer_67 : decode cX3_offer 67 = .ok (.iload 4, 2) := dk_21 4 (dk_at dksX3_offer_2 21 rfl rfl)
theorem dX3_offer_69 : decode cX3_offer 69 = .ok (.bipush 6, 2) := dk_16 6 (dk_at dksX3_offer_3 0 rfl rfl)
theorem dX3_offer_71 : decode cX3_offer 71 = .ok (.if_icmp .ne 6, 3) := dk_160 0 6 (dk_at dksX3_offer_3 2 rfl rfl)
theorem dX3_offer_74 : decode cX3_offer 74 = .ok (.bipush (-2), 2) := dk_16 254 (dk_at dksX3_offer_3 5 rfl rfl)
theorem dX3_offer_76 : decode cX3_offer 76 = .ok (.ireturn, 1) := dk_172 (dk_at dksX3_offer_3 7 rfl rfl)
theorem dX3_offer_77 : decode cX3_offer 77 = .ok (.aload_n 0, 1) := dk_42 (dk_at dksX3_offer_3 8 rfl rfl)
theorem dX3_offer_78 : decode cX3_offer 78 = .ok (.getfield 55, 3) := dk_180 0 55 (dk_at dksX3_offer_3 9 rfl rfl)
theorem dX3_offer_81 : decode cX3_offer 81 = .ok (.iload 4, 2) := dk_21 4 (dk_at dksX3_offer_3 12 rfl rfl)
theorem dX3_offer_83 : decode cX3_offer 83 = .ok (.iload_n 1, 1) := dk_27 (dk_at dksX3_offer_3 14 rfl rfl)
theorem dX3_offer_84 : decode cX3_offer 84 = .ok (.iastore, 1) := dk_79 (dk_at dksX3_offer_3 15 rfl rfl)
theorem dX3_offer_85 : decode cX3_offer 85 = .ok (.aload_n 0, 1) := dk_42 (dk_at dksX3_offer_3 16 rfl rfl)
theorem dX3_offer_86 : decode cX3_offer 86 = .ok (.getfield 58, 3) := dk_180 0 58 (dk_at dksX3_offer_3 17 rfl rfl)
theorem dX3_offer_89 : decode cX3_offer 89 = .ok (.iload 4, 2) := dk_21 4 (dk_at dksX3_offer_3 20 rfl rfl)
theorem dX3_offer_91 : decode cX3_offer 91 = .ok (.iload_n 2, 1) := dk_28 (dk_at dksX3_offer_3 22 rfl rfl)
theorem dX3_offer_92 : decode cX3_offer 92 = .ok (.iastore, 1) := dk_79 (dk_at dksX3_offer_3 23 rfl rfl)
theorem dX3_offer_93 : decode cX3_offer 93 = .ok (.aload_n 0, 1) := dk_42 (dk_at dksX3_offer_4 0 rfl rfl)
theorem dX3_offer_94 : decode cX3_offer 94 = .ok (.getfield 61, 3) := dk_180 0 61 (dk_at dksX3_offer_4 1 rfl rfl)
theorem dX3_offer_97 : decode cX3_offer 97 = .ok (.iload 4, 2) := dk_21 4 (dk_at dksX3_offer_4 4 rfl rfl)
theorem dX3_offer_99 : decode cX3_offer 99 = .ok (.iload_n 3, 1) := dk_29 (dk_at dksX3_offer_4 6 rfl rfl)
theorem dX3_offer_100 : decode cX3_offer 100 = .ok (.iastore, 1) := dk_79 (dk_at dksX3_offer_4 7 rfl rfl)
theorem dX3_offer_101 : decode cX3_offer 101 = .ok (.aload_n 0, 1) := dk_42 (dk_at dksX3_offer_4 8 rfl rfl)
theorem dX3_offer_102 : decode cX3_offer 102 = .ok (.getfield 9, 3) := dk_180 0 9 (dk_at dksX3_offer_4 9 rfl rfl)
theorem dX3_offer_105 : decode cX3_offer 105 = .ok (.bipush 7, 2) := dk_16 7 (dk_at dksX3_offer_4 12 rfl rfl)
theorem dX3_offer_107 : decode cX3_offer 107 = .ok (.dup2, 1) := dk_92 (dk_at dksX3_offer_4 14 rfl rfl)
theorem dX3_offer_108 : decode cX3_offer 108 = .ok (.iaload, 1) := dk_46 (dk_at dksX3_offer_4 15 rfl rfl)
theorem dX3_offer_109 : decode cX3_offer 109 = .ok (.iconst 1, 1) := dk_4 (dk_at dksX3_offer_4 16 rfl rfl)
theorem dX3_offer_110 : decode cX3_offer 110 = .ok (.iadd, 1) := dk_96 (dk_at dksX3_offer_4 17 rfl rfl)
theorem dX3_offer_111 : decode cX3_offer 111 = .ok (.iastore, 1) := dk_79 (dk_at dksX3_offer_4 18 rfl rfl)
theorem dX3_offer_112 : decode cX3_offer 112 = .ok (.iload 4, 2) := dk_21 4 (dk_at dksX3_offer_4 19 rfl rfl)
theorem dX3_offer_114 : decode cX3_offer 114 = .ok (.iconst 1, 1) := dk_4 (dk_at dksX3_offer_4 21 rfl rfl)
theorem dX3_offer_115 : decode cX3_offer 115 = .ok (.iadd, 1) := dk_96 (dk_at dksX3_offer_4 22 rfl rfl)
theorem dX3_offer_116 : decode cX3_offer 116 = .ok (.ireturn, 1) := dk_172 (dk_at dksX3_offer_4 23 rfl rfl)
abbrev cX3_take : ByteArray := prog_17_method_116_code
def yX3_take : MethodName := ⟨RX3, "take", "(II)I"⟩
def dkwX3_take_4 : List UInt8 := [167, 0, 5, 21, 5, 172]
abbrev dktX3_take_4 : List UInt8 := dkwX3_take_4 ++ []
def dkwX3_take_3 : List UInt8 := [164, 0, 11, 21, 6, 54, 4, 21, 7, 54, 5, 132, 6, 1, 167, 255, 217, 28, 154, 0, 8, 21, 4]
abbrev dktX3_take_3 : List UInt8 := dkwX3_take_3 ++ dktX3_take_4
def dkwX3_take_2 : List UInt8 := [180, 0, 9, 16, 7, 46, 162, 0, 33, 42, 29, 21, 6, 182, 2, 74, 54, 7, 21, 7, 21, 5]
abbrev dktX3_take_2 : List UInt8 := dkwX3_take_2 ++ dktX3_take_3
def dkwX3_take_1 : List UInt8 := [182, 1, 168, 62, 16, 254, 54, 4, 42, 29, 2, 182, 2, 74, 54, 5, 3, 54, 6, 21, 6, 42]
abbrev dktX3_take_1 : List UInt8 := dkwX3_take_1 ++ dktX3_take_2
def dkwX3_take_0 : List UInt8 := [42, 27, 182, 1, 180, 153, 0, 13, 28, 133, 9, 10, 184, 0, 176, 154, 0, 5, 2, 172, 42, 27]
abbrev dktX3_take_0 : List UInt8 := dkwX3_take_0 ++ dktX3_take_1
theorem dksX3_take_0 : cX3_take.data.toList.drop 0 = dktX3_take_0 := by decide +kernel
theorem dksX3_take_1 : cX3_take.data.toList.drop 22 = dktX3_take_1 := dk_seg dksX3_take_0 22 rfl rfl
theorem dksX3_take_2 : cX3_take.data.toList.drop 44 = dktX3_take_2 := dk_seg dksX3_take_1 22 rfl rfl
theorem dksX3_take_3 : cX3_take.data.toList.drop 66 = dktX3_take_3 := dk_seg dksX3_take_2 22 rfl rfl
theorem dksX3_take_4 : cX3_take.data.toList.drop 89 = dktX3_take_4 := dk_seg dksX3_take_3 23 rfl rfl
theorem dX3_take_0 : decode cX3_take 0 = .ok (.aload_n 0, 1) := dk_42 (dk_at dksX3_take_0 0 rfl rfl)
theorem dX3_take_1 : decode cX3_take 1 = .ok (.iload_n 1, 1) := dk_27 (dk_at dksX3_take_0 1 rfl rfl)
theorem dX3_take_2 : decode cX3_take 2 = .ok (.invokevirtual 436, 3) := dk_182 1 180 (dk_at dksX3_take_0 2 rfl rfl)
theorem dX3_take_5 : decode cX3_take 5 = .ok (.ifCond .eq 13, 3) := dk_153 0 13 (dk_at dksX3_take_0 5 rfl rfl)
theorem dX3_take_8 : decode cX3_take 8 = .ok (.iload_n 2, 1) := dk_28 (dk_at dksX3_take_0 8 rfl rfl)
theorem dX3_take_9 : decode cX3_take 9 = .ok (.i2l, 1) := dk_133 (dk_at dksX3_take_0 9 rfl rfl)
theorem dX3_take_10 : decode cX3_take 10 = .ok (.lconst 0, 1) := dk_9 (dk_at dksX3_take_0 10 rfl rfl)
theorem dX3_take_11 : decode cX3_take 11 = .ok (.lconst 1, 1) := dk_10 (dk_at dksX3_take_0 11 rfl rfl)
theorem dX3_take_12 : decode cX3_take 12 = .ok (.invokestatic 176, 3) := dk_184 0 176 (dk_at dksX3_take_0 12 rfl rfl)
theorem dX3_take_15 : decode cX3_take 15 = .ok (.ifCond .ne 5, 3) := dk_154 0 5 (dk_at dksX3_take_0 15 rfl rfl)
theorem dX3_take_18 : decode cX3_take 18 = .ok (.iconst (-1), 1) := dk_2 (dk_at dksX3_take_0 18 rfl rfl)
theorem dX3_take_19 : decode cX3_take 19 = .ok (.ireturn, 1) := dk_172 (dk_at dksX3_take_0 19 rfl rfl)
theorem dX3_take_20 : decode cX3_take 20 = .ok (.aload_n 0, 1) := dk_42 (dk_at dksX3_take_0 20 rfl rfl)
theorem dX3_take_21 : decode cX3_take 21 = .ok (.iload_n 1, 1) := dk_27 (dk_at dksX3_take_0 21 rfl rfl)
theorem dX3_take_22 : decode cX3_take 22 = .ok (.invokevirtual 424, 3) := dk_182 1 168 (dk_at dksX3_take_1 0 rfl rfl)
theorem dX3_take_25 : decode cX3_take 25 = .ok (.istore_n 3, 1) := dk_62 (dk_at dksX3_take_1 3 rfl rfl)
theorem dX3_take_26 : decode cX3_take 26 = .ok (.bipush (-2), 2) := dk_16 254 (dk_at dksX3_take_1 4 rfl rfl)
theorem dX3_take_28 : decode cX3_take 28 = .ok (.istore 4, 2) := dk_54 4 (dk_at dksX3_take_1 6 rfl rfl)
theorem dX3_take_30 : decode cX3_take 30 = .ok (.aload_n 0, 1) := dk_42 (dk_at dksX3_take_1 8 rfl rfl)
theorem dX3_take_31 : decode cX3_take 31 = .ok (.iload_n 3, 1) := dk_29 (dk_at dksX3_take_1 9 rfl rfl)
theorem dX3_take_32 : decode cX3_take 32 = .ok (.iconst (-1), 1) := dk_2 (dk_at dksX3_take_1 10 rfl rfl)
theorem dX3_take_33 : decode cX3_take 33 = .ok (.invokevirtual 586, 3) := dk_182 2 74 (dk_at dksX3_take_1 11 rfl rfl)
theorem dX3_take_36 : decode cX3_take 36 = .ok (.istore 5, 2) := dk_54 5 (dk_at dksX3_take_1 14 rfl rfl)
theorem dX3_take_38 : decode cX3_take 38 = .ok (.iconst 0, 1) := dk_3 (dk_at dksX3_take_1 16 rfl rfl)
theorem dX3_take_39 : decode cX3_take 39 = .ok (.istore 6, 2) := dk_54 6 (dk_at dksX3_take_1 17 rfl rfl)
theorem dX3_take_41 : decode cX3_take 41 = .ok (.iload 6, 2) := dk_21 6 (dk_at dksX3_take_1 19 rfl rfl)
theorem dX3_take_43 : decode cX3_take 43 = .ok (.aload_n 0, 1) := dk_42 (dk_at dksX3_take_1 21 rfl rfl)
theorem dX3_take_44 : decode cX3_take 44 = .ok (.getfield 9, 3) := dk_180 0 9 (dk_at dksX3_take_2 0 rfl rfl)
theorem dX3_take_47 : decode cX3_take 47 = .ok (.bipush 7, 2) := dk_16 7 (dk_at dksX3_take_2 3 rfl rfl)
theorem dX3_take_49 : decode cX3_take 49 = .ok (.iaload, 1) := dk_46 (dk_at dksX3_take_2 5 rfl rfl)
theorem dX3_take_50 : decode cX3_take 50 = .ok (.if_icmp .ge 33, 3) := dk_162 0 33 (dk_at dksX3_take_2 6 rfl rfl)
theorem dX3_take_53 : decode cX3_take 53 = .ok (.aload_n 0, 1) := dk_42 (dk_at dksX3_take_2 9 rfl rfl)
theorem dX3_take_54 : decode cX3_take 54 = .ok (.iload_n 3, 1) := dk_29 (dk_at dksX3_take_2 10 rfl rfl)
theorem dX3_take_55 : decode cX3_take 55 = .ok (.iload 6, 2) := dk_21 6 (dk_at dksX3_take_2 11 rfl rfl)
theorem dX3_take_57 : decode cX3_take 57 = .ok (.invokevirtual 586, 3) := dk_182 2 74 (dk_at dksX3_take_2 13 rfl rfl)
theorem dX3_take_60 : decode cX3_take 60 = .ok (.istore 7, 2) := dk_54 7 (dk_at dksX3_take_2 16 rfl rfl)
theorem dX3_take_62 : decode cX3_take 62 = .ok (.iload 7, 2) := dk_21 7 (dk_at dksX3_take_2 18 rfl rfl)
theorem dX3_take_64 : decode cX3_take 64 = .ok (.iload 5, 2) := dk_21 5 (dk_at dksX3_take_2 20 rfl rfl)
theorem dX3_take_66 : decode cX3_take 66 = .ok (.if_icmp .le 11, 3) := dk_164 0 11 (dk_at dksX3_take_3 0 rfl rfl)
theorem dX3_take_69 : decode cX3_take 69 = .ok (.iload 6, 2) := dk_21 6 (dk_at dksX3_take_3 3 rfl rfl)
theorem dX3_take_71 : decode cX3_take 71 = .ok (.istore 4, 2) := dk_54 4 (dk_at dksX3_take_3 5 rfl rfl)
theorem dX3_take_73 : decode cX3_take 73 = .ok (.iload 7, 2) := dk_21 7 (dk_at dksX3_take_3 7 rfl rfl)
theorem dX3_take_75 : decode cX3_take 75 = .ok (.istore 5, 2) := dk_54 5 (dk_at dksX3_take_3 9 rfl rfl)
theorem dX3_take_77 : decode cX3_take 77 = .ok (.iinc 6 1, 3) := dk_132 6 1 (dk_at dksX3_take_3 11 rfl rfl)
theorem dX3_take_80 : decode cX3_take 80 = .ok (.goto (-39), 3) := dk_167 255 217 (dk_at dksX3_take_3 14 rfl rfl)
theorem dX3_take_83 : decode cX3_take 83 = .ok (.iload_n 2, 1) := dk_28 (dk_at dksX3_take_3 17 rfl rfl)
theorem dX3_take_84 : decode cX3_take 84 = .ok (.ifCond .ne 8, 3) := dk_154 0 8 (dk_at dksX3_take_3 18 rfl rfl)
theorem dX3_take_87 : decode cX3_take 87 = .ok (.iload 4, 2) := dk_21 4 (dk_at dksX3_take_3 21 rfl rfl)
theorem dX3_take_89 : decode cX3_take 89 = .ok (.goto 5, 3) := dk_167 0 5 (dk_at dksX3_take_4 0 rfl rfl)
theorem dX3_take_92 : decode cX3_take 92 = .ok (.iload 5, 2) := dk_21 5 (dk_at dksX3_take_4 3 rfl rfl)
theorem dX3_take_94 : decode cX3_take 94 = .ok (.ireturn, 1) := dk_172 (dk_at dksX3_take_4 5 rfl rfl)
abbrev cX3_milesWith : ByteArray := prog_17_method_115_code
def yX3_milesWith : MethodName := ⟨RX3, "milesWith", "(II)I"⟩
def dkwX3_milesWith_7 : List UInt8 := [21, 4, 172]
abbrev dktX3_milesWith_7 : List UInt8 := dkwX3_milesWith_7 ++ []
def dkwX3_milesWith_6 : List UInt8 := [167, 0, 4, 3, 54, 5, 21, 4, 21, 5, 153, 0, 7, 4, 167, 0, 4, 3, 96, 54, 4, 167, 255, 131]
abbrev dktX3_milesWith_6 : List UInt8 := dkwX3_milesWith_6 ++ dktX3_milesWith_7
def dkwX3_milesWith_5 : List UInt8 := [184, 2, 71, 167, 0, 4, 3, 96, 54, 6, 132, 7, 1, 167, 255, 205, 21, 6, 29, 161, 0, 7, 4]
abbrev dktX3_milesWith_5 : List UInt8 := dkwX3_milesWith_5 ++ dktX3_milesWith_6
def dkwX3_milesWith_4 : List UInt8 := [21, 7, 184, 1, 134, 153, 0, 25, 42, 180, 0, 28, 21, 7, 46, 42, 180, 0, 31, 21, 7, 46, 21, 4]
abbrev dktX3_milesWith_4 : List UInt8 := dkwX3_milesWith_4 ++ dktX3_milesWith_5
def dkwX3_milesWith_3 : List UInt8 := [21, 4, 184, 2, 71, 54, 6, 3, 54, 7, 21, 7, 42, 180, 0, 9, 6, 46, 162, 0, 46, 21, 6, 27]
abbrev dktX3_milesWith_3 : List UInt8 := dkwX3_milesWith_3 ++ dktX3_milesWith_4
def dkwX3_milesWith_2 : List UInt8 := [153, 0, 119, 28, 2, 160, 0, 7, 3, 167, 0, 20, 42, 180, 0, 58, 28, 46, 42, 180, 0, 61, 28, 46]
abbrev dktX3_milesWith_2 : List UInt8 := dkwX3_milesWith_2 ++ dktX3_milesWith_3
def dkwX3_milesWith_1 : List UInt8 := [42, 180, 0, 55, 28, 46, 96, 62, 3, 54, 4, 4, 54, 5, 21, 4, 16, 100, 162, 0, 124, 21, 5]
abbrev dktX3_milesWith_1 : List UInt8 := dkwX3_milesWith_1 ++ dktX3_milesWith_2
def dkwX3_milesWith_0 : List UInt8 := [42, 27, 182, 1, 153, 42, 27, 42, 182, 1, 140, 182, 1, 156, 96, 28, 2, 160, 0, 7, 3, 167, 0, 9]
abbrev dktX3_milesWith_0 : List UInt8 := dkwX3_milesWith_0 ++ dktX3_milesWith_1
theorem dksX3_milesWith_0 : cX3_milesWith.data.toList.drop 0 = dktX3_milesWith_0 := by decide +kernel
theorem dksX3_milesWith_1 : cX3_milesWith.data.toList.drop 24 = dktX3_milesWith_1 := dk_seg dksX3_milesWith_0 24 rfl rfl
theorem dksX3_milesWith_2 : cX3_milesWith.data.toList.drop 47 = dktX3_milesWith_2 := dk_seg dksX3_milesWith_1 23 rfl rfl
theorem dksX3_milesWith_3 : cX3_milesWith.data.toList.drop 71 = dktX3_milesWith_3 := dk_seg dksX3_milesWith_2 24 rfl rfl
theorem dksX3_milesWith_4 : cX3_milesWith.data.toList.drop 95 = dktX3_milesWith_4 := dk_seg dksX3_milesWith_3 24 rfl rfl
theorem dksX3_milesWith_5 : cX3_milesWith.data.toList.drop 119 = dktX3_milesWith_5 := dk_seg dksX3_milesWith_4 24 rfl rfl
theorem dksX3_milesWith_6 : cX3_milesWith.data.toList.drop 142 = dktX3_milesWith_6 := dk_seg dksX3_milesWith_5 23 rfl rfl
theorem dksX3_milesWith_7 : cX3_milesWith.data.toList.drop 166 = dktX3_milesWith_7 := dk_seg dksX3_milesWith_6 24 rfl rfl
theorem dX3_milesWith_0 : decode cX3_milesWith 0 = .ok (.aload_n 0, 1) := dk_42 (dk_at dksX3_milesWith_0 0 rfl rfl)
theorem dX3_milesWith_1 : decode cX3_milesWith 1 = .ok (.iload_n 1, 1) := dk_27 (dk_at dksX3_milesWith_0 1 rfl rfl)
theorem dX3_milesWith_2 : decode cX3_milesWith 2 = .ok (.invokevirtual 409, 3) := dk_182 1 153 (dk_at dksX3_milesWith_0 2 rfl rfl)
theorem dX3_milesWith_5 : decode cX3_milesWith 5 = .ok (.aload_n 0, 1) := dk_42 (dk_at dksX3_milesWith_0 5 rfl rfl)
theorem dX3_milesWith_6 : decode cX3_milesWith 6 = .ok (.iload_n 1, 1) := dk_27 (dk_at dksX3_milesWith_0 6 rfl rfl)
theorem dX3_milesWith_7 : decode cX3_milesWith 7 = .ok (.aload_n 0, 1) := dk_42 (dk_at dksX3_milesWith_0 7 rfl rfl)
theorem dX3_milesWith_8 : decode cX3_milesWith 8 = .ok (.invokevirtual 396, 3) := dk_182 1 140 (dk_at dksX3_milesWith_0 8 rfl rfl)
theorem dX3_milesWith_11 : decode cX3_milesWith 11 = .ok (.invokevirtual 412, 3) := dk_182 1 156 (dk_at dksX3_milesWith_0 11 rfl rfl)
theorem dX3_milesWith_14 : decode cX3_milesWith 14 = .ok (.iadd, 1) := dk_96 (dk_at dksX3_milesWith_0 14 rfl rfl)
theorem dX3_milesWith_15 : decode cX3_milesWith 15 = .ok (.iload_n 2, 1) := dk_28 (dk_at dksX3_milesWith_0 15 rfl rfl)
theorem dX3_milesWith_16 : decode cX3_milesWith 16 = .ok (.iconst (-1), 1) := dk_2 (dk_at dksX3_milesWith_0 16 rfl rfl)
theorem dX3_milesWith_17 : decode cX3_milesWith 17 = .ok (.if_icmp .ne 7, 3) := dk_160 0 7 (dk_at dksX3_milesWith_0 17 rfl rfl)
theorem dX3_milesWith_20 : decode cX3_milesWith 20 = .ok (.iconst 0, 1) := dk_3 (dk_at dksX3_milesWith_0 20 rfl rfl)
theorem dX3_milesWith_21 : decode cX3_milesWith 21 = .ok (.goto 9, 3) := dk_167 0 9 (dk_at dksX3_milesWith_0 21 rfl rfl)
theorem dX3_milesWith_24 : decode cX3_milesWith 24 = .ok (.aload_n 0, 1) := dk_42 (dk_at dksX3_milesWith_1 0 rfl rfl)
theorem dX3_milesWith_25 : decode cX3_milesWith 25 = .ok (.getfield 55, 3) := dk_180 0 55 (dk_at dksX3_milesWith_1 1 rfl rfl)
theorem dX3_milesWith_28 : decode cX3_milesWith 28 = .ok (.iload_n 2, 1) := dk_28 (dk_at dksX3_milesWith_1 4 rfl rfl)
theorem dX3_milesWith_29 : decode cX3_milesWith 29 = .ok (.iaload, 1) := dk_46 (dk_at dksX3_milesWith_1 5 rfl rfl)
theorem dX3_milesWith_30 : decode cX3_milesWith 30 = .ok (.iadd, 1) := dk_96 (dk_at dksX3_milesWith_1 6 rfl rfl)
theorem dX3_milesWith_31 : decode cX3_milesWith 31 = .ok (.istore_n 3, 1) := dk_62 (dk_at dksX3_milesWith_1 7 rfl rfl)
theorem dX3_milesWith_32 : decode cX3_milesWith 32 = .ok (.iconst 0, 1) := dk_3 (dk_at dksX3_milesWith_1 8 rfl rfl)
theorem dX3_milesWith_33 : decode cX3_milesWith 33 = .ok (.istore 4, 2) := dk_54 4 (dk_at dksX3_milesWith_1 9 rfl rfl)
theorem dX3_milesWith_35 : decode cX3_milesWith 35 = .ok (.iconst 1, 1) := dk_4 (dk_at dksX3_milesWith_1 11 rfl rfl)
theorem dX3_milesWith_36 : decode cX3_milesWith 36 = .ok (.istore 5, 2) := dk_54 5 (dk_at dksX3_milesWith_1 12 rfl rfl)
theorem dX3_milesWith_38 : decode cX3_milesWith 38 = .ok (.iload 4, 2) := dk_21 4 (dk_at dksX3_milesWith_1 14 rfl rfl)
theorem dX3_milesWith_40 : decode cX3_milesWith 40 = .ok (.bipush 100, 2) := dk_16 100 (dk_at dksX3_milesWith_1 16 rfl rfl)
theorem dX3_milesWith_42 : decode cX3_milesWith 42 = .ok (.if_icmp .ge 124, 3) := dk_162 0 124 (dk_at dksX3_milesWith_1 18 rfl rfl)
theorem dX3_milesWith_45 : decode cX3_milesWith 45 = .ok (.iload 5, 2) := dk_21 5 (dk_at dksX3_milesWith_1 21 rfl rfl)
theorem dX3_milesWith_47 : decode cX3_milesWith 47 = .ok (.ifCond .eq 119, 3) := dk_153 0 119 (dk_at dksX3_milesWith_2 0 rfl rfl)
theorem dX3_milesWith_50 : decode cX3_milesWith 50 = .ok (.iload_n 2, 1) := dk_28 (dk_at dksX3_milesWith_2 3 rfl rfl)
theorem dX3_milesWith_51 : decode cX3_milesWith 51 = .ok (.iconst (-1), 1) := dk_2 (dk_at dksX3_milesWith_2 4 rfl rfl)
theorem dX3_milesWith_52 : decode cX3_milesWith 52 = .ok (.if_icmp .ne 7, 3) := dk_160 0 7 (dk_at dksX3_milesWith_2 5 rfl rfl)
theorem dX3_milesWith_55 : decode cX3_milesWith 55 = .ok (.iconst 0, 1) := dk_3 (dk_at dksX3_milesWith_2 8 rfl rfl)
theorem dX3_milesWith_56 : decode cX3_milesWith 56 = .ok (.goto 20, 3) := dk_167 0 20 (dk_at dksX3_milesWith_2 9 rfl rfl)
theorem dX3_milesWith_59 : decode cX3_milesWith 59 = .ok (.aload_n 0, 1) := dk_42 (dk_at dksX3_milesWith_2 12 rfl rfl)
theorem dX3_milesWith_60 : decode cX3_milesWith 60 = .ok (.getfield 58, 3) := dk_180 0 58 (dk_at dksX3_milesWith_2 13 rfl rfl)
theorem dX3_milesWith_63 : decode cX3_milesWith 63 = .ok (.iload_n 2, 1) := dk_28 (dk_at dksX3_milesWith_2 16 rfl rfl)
theorem dX3_milesWith_64 : decode cX3_milesWith 64 = .ok (.iaload, 1) := dk_46 (dk_at dksX3_milesWith_2 17 rfl rfl)
theorem dX3_milesWith_65 : decode cX3_milesWith 65 = .ok (.aload_n 0, 1) := dk_42 (dk_at dksX3_milesWith_2 18 rfl rfl)
theorem dX3_milesWith_66 : decode cX3_milesWith 66 = .ok (.getfield 61, 3) := dk_180 0 61 (dk_at dksX3_milesWith_2 19 rfl rfl)
theorem dX3_milesWith_69 : decode cX3_milesWith 69 = .ok (.iload_n 2, 1) := dk_28 (dk_at dksX3_milesWith_2 22 rfl rfl)
theorem dX3_milesWith_70 : decode cX3_milesWith 70 = .ok (.iaload, 1) := dk_46 (dk_at dksX3_milesWith_2 23 rfl rfl)
theorem dX3_milesWith_71 : decode cX3_milesWith 71 = .ok (.iload 4, 2) := dk_21 4 (dk_at dksX3_milesWith_3 0 rfl rfl)
theorem dX3_milesWith_73 : decode cX3_milesWith 73 = .ok (.invokestatic 583, 3) := dk_184 2 71 (dk_at dksX3_milesWith_3 2 rfl rfl)
theorem dX3_milesWith_76 : decode cX3_milesWith 76 = .ok (.istore 6, 2) := dk_54 6 (dk_at dksX3_milesWith_3 5 rfl rfl)
theorem dX3_milesWith_78 : decode cX3_milesWith 78 = .ok (.iconst 0, 1) := dk_3 (dk_at dksX3_milesWith_3 7 rfl rfl)
theorem dX3_milesWith_79 : decode cX3_milesWith 79 = .ok (.istore 7, 2) := dk_54 7 (dk_at dksX3_milesWith_3 8 rfl rfl)
theorem dX3_milesWith_81 : decode cX3_milesWith 81 = .ok (.iload 7, 2) := dk_21 7 (dk_at dksX3_milesWith_3 10 rfl rfl)
theorem dX3_milesWith_83 : decode cX3_milesWith 83 = .ok (.aload_n 0, 1) := dk_42 (dk_at dksX3_milesWith_3 12 rfl rfl)
theorem dX3_milesWith_84 : decode cX3_milesWith 84 = .ok (.getfield 9, 3) := dk_180 0 9 (dk_at dksX3_milesWith_3 13 rfl rfl)
theorem dX3_milesWith_87 : decode cX3_milesWith 87 = .ok (.iconst 3, 1) := dk_6 (dk_at dksX3_milesWith_3 16 rfl rfl)
theorem dX3_milesWith_88 : decode cX3_milesWith 88 = .ok (.iaload, 1) := dk_46 (dk_at dksX3_milesWith_3 17 rfl rfl)
theorem dX3_milesWith_89 : decode cX3_milesWith 89 = .ok (.if_icmp .ge 46, 3) := dk_162 0 46 (dk_at dksX3_milesWith_3 18 rfl rfl)
theorem dX3_milesWith_92 : decode cX3_milesWith 92 = .ok (.iload 6, 2) := dk_21 6 (dk_at dksX3_milesWith_3 21 rfl rfl)
theorem dX3_milesWith_94 : decode cX3_milesWith 94 = .ok (.iload_n 1, 1) := dk_27 (dk_at dksX3_milesWith_3 23 rfl rfl)
theorem dX3_milesWith_95 : decode cX3_milesWith 95 = .ok (.iload 7, 2) := dk_21 7 (dk_at dksX3_milesWith_4 0 rfl rfl)
theorem dX3_milesWith_97 : decode cX3_milesWith 97 = .ok (.invokestatic 390, 3) := dk_184 1 134 (dk_at dksX3_milesWith_4 2 rfl rfl)
theorem dX3_milesWith_100 : decode cX3_milesWith 100 = .ok (.ifCond .eq 25, 3) := dk_153 0 25 (dk_at dksX3_milesWith_4 5 rfl rfl)
theorem dX3_milesWith_103 : decode cX3_milesWith 103 = .ok (.aload_n 0, 1) := dk_42 (dk_at dksX3_milesWith_4 8 rfl rfl)
theorem dX3_milesWith_104 : decode cX3_milesWith 104 = .ok (.getfield 28, 3) := dk_180 0 28 (dk_at dksX3_milesWith_4 9 rfl rfl)
theorem dX3_milesWith_107 : decode cX3_milesWith 107 = .ok (.iload 7, 2) := dk_21 7 (dk_at dksX3_milesWith_4 12 rfl rfl)
theorem dX3_milesWith_109 : decode cX3_milesWith 109 = .ok (.iaload, 1) := dk_46 (dk_at dksX3_milesWith_4 14 rfl rfl)
theorem dX3_milesWith_110 : decode cX3_milesWith 110 = .ok (.aload_n 0, 1) := dk_42 (dk_at dksX3_milesWith_4 15 rfl rfl)
theorem dX3_milesWith_111 : decode cX3_milesWith 111 = .ok (.getfield 31, 3) := dk_180 0 31 (dk_at dksX3_milesWith_4 16 rfl rfl)
theorem dX3_milesWith_114 : decode cX3_milesWith 114 = .ok (.iload 7, 2) := dk_21 7 (dk_at dksX3_milesWith_4 19 rfl rfl)
theorem dX3_milesWith_116 : decode cX3_milesWith 116 = .ok (.iaload, 1) := dk_46 (dk_at dksX3_milesWith_4 21 rfl rfl)
theorem dX3_milesWith_117 : decode cX3_milesWith 117 = .ok (.iload 4, 2) := dk_21 4 (dk_at dksX3_milesWith_4 22 rfl rfl)
theorem dX3_milesWith_119 : decode cX3_milesWith 119 = .ok (.invokestatic 583, 3) := dk_184 2 71 (dk_at dksX3_milesWith_5 0 rfl rfl)
theorem dX3_milesWith_122 : decode cX3_milesWith 122 = .ok (.goto 4, 3) := dk_167 0 4 (dk_at dksX3_milesWith_5 3 rfl rfl)
theorem dX3_milesWith_125 : decode cX3_milesWith 125 = .ok (.iconst 0, 1) := dk_3 (dk_at dksX3_milesWith_5 6 rfl rfl)
theorem dX3_milesWith_126 : decode cX3_milesWith 126 = .ok (.iadd, 1) := dk_96 (dk_at dksX3_milesWith_5 7 rfl rfl)
theorem dX3_milesWith_127 : decode cX3_milesWith 127 = .ok (.istore 6, 2) := dk_54 6 (dk_at dksX3_milesWith_5 8 rfl rfl)
theorem dX3_milesWith_129 : decode cX3_milesWith 129 = .ok (.iinc 7 1, 3) := dk_132 7 1 (dk_at dksX3_milesWith_5 10 rfl rfl)
theorem dX3_milesWith_132 : decode cX3_milesWith 132 = .ok (.goto (-51), 3) := dk_167 255 205 (dk_at dksX3_milesWith_5 13 rfl rfl)
theorem dX3_milesWith_135 : decode cX3_milesWith 135 = .ok (.iload 6, 2) := dk_21 6 (dk_at dksX3_milesWith_5 16 rfl rfl)
theorem dX3_milesWith_137 : decode cX3_milesWith 137 = .ok (.iload_n 3, 1) := dk_29 (dk_at dksX3_milesWith_5 18 rfl rfl)
theorem dX3_milesWith_138 : decode cX3_milesWith 138 = .ok (.if_icmp .lt 7, 3) := dk_161 0 7 (dk_at dksX3_milesWith_5 19 rfl rfl)
theorem dX3_milesWith_141 : decode cX3_milesWith 141 = .ok (.iconst 1, 1) := dk_4 (dk_at dksX3_milesWith_5 22 rfl rfl)
theorem dX3_milesWith_142 : decode cX3_milesWith 142 = .ok (.goto 4, 3) := dk_167 0 4 (dk_at dksX3_milesWith_6 0 rfl rfl)
theorem dX3_milesWith_145 : decode cX3_milesWith 145 = .ok (.iconst 0, 1) := dk_3 (dk_at dksX3_milesWith_6 3 rfl rfl)
theorem dX3_milesWith_146 : decode cX3_milesWith 146 = .ok (.istore 5, 2) := dk_54 5 (dk_at dksX3_milesWith_6 4 rfl rfl)
theorem dX3_milesWith_148 : decode cX3_milesWith 148 = .ok (.iload 4, 2) := dk_21 4 (dk_at dksX3_milesWith_6 6 rfl rfl)
theorem dX3_milesWith_150 : decode cX3_milesWith 150 = .ok (.iload 5, 2) := dk_21 5 (dk_at dksX3_milesWith_6 8 rfl rfl)
theorem dX3_milesWith_152 : decode cX3_milesWith 152 = .ok (.ifCond .eq 7, 3) := dk_153 0 7 (dk_at dksX3_milesWith_6 10 rfl rfl)
theorem dX3_milesWith_155 : decode cX3_milesWith 155 = .ok (.iconst 1, 1) := dk_4 (dk_at dksX3_milesWith_6 13 rfl rfl)
theorem dX3_milesWith_156 : decode cX3_milesWith 156 = .ok (.goto 4, 3) := dk_167 0 4 (dk_at dksX3_milesWith_6 14 rfl rfl)
theorem dX3_milesWith_159 : decode cX3_milesWith 159 = .ok (.iconst 0, 1) := dk_3 (dk_at dksX3_milesWith_6 17 rfl rfl)
theorem dX3_milesWith_160 : decode cX3_milesWith 160 = .ok (.iadd, 1) := dk_96 (dk_at dksX3_milesWith_6 18 rfl rfl)
theorem dX3_milesWith_161 : decode cX3_milesWith 161 = .ok (.istore 4, 2) := dk_54 4 (dk_at dksX3_milesWith_6 19 rfl rfl)
theorem dX3_milesWith_163 : decode cX3_milesWith 163 = .ok (.goto (-125), 3) := dk_167 255 131 (dk_at dksX3_milesWith_6 21 rfl rfl)
theorem dX3_milesWith_166 : decode cX3_milesWith 166 = .ok (.iload 4, 2) := dk_21 4 (dk_at dksX3_milesWith_7 0 rfl rfl)
theorem dX3_milesWith_168 : decode cX3_milesWith 168 = .ok (.ireturn, 1) := dk_172 (dk_at dksX3_milesWith_7 2 rfl rfl)
abbrev cX3_soaked : ByteArray := prog_17_method_114_code
def yX3_soaked : MethodName := ⟨RX3, "soaked", "(III)I"⟩
def dkwX3_soaked_0 : List UInt8 := [26, 27, 28, 104, 100, 62, 29, 158, 0, 7, 29, 167, 0, 4, 3, 172]
abbrev dktX3_soaked_0 : List UInt8 := dkwX3_soaked_0 ++ []
theorem dksX3_soaked_0 : cX3_soaked.data.toList.drop 0 = dktX3_soaked_0 := by decide +kernel
theorem dX3_soaked_0 : decode cX3_soaked 0 = .ok (.iload_n 0, 1) := dk_26 (dk_at dksX3_soaked_0 0 rfl rfl)
theorem dX3_soaked_1 : decode cX3_soaked 1 = .ok (.iload_n 1, 1) := dk_27 (dk_at dksX3_soaked_0 1 rfl rfl)
theorem dX3_soaked_2 : decode cX3_soaked 2 = .ok (.iload_n 2, 1) := dk_28 (dk_at dksX3_soaked_0 2 rfl rfl)
theorem dX3_soaked_3 : decode cX3_soaked 3 = .ok (.imul, 1) := dk_104 (dk_at dksX3_soaked_0 3 rfl rfl)
theorem dX3_soaked_4 : decode cX3_soaked 4 = .ok (.isub, 1) := dk_100 (dk_at dksX3_soaked_0 4 rfl rfl)
theorem dX3_soaked_5 : decode cX3_soaked 5 = .ok (.istore_n 3, 1) := dk_62 (dk_at dksX3_soaked_0 5 rfl rfl)
theorem dX3_soaked_6 : decode cX3_soaked 6 = .ok (.iload_n 3, 1) := dk_29 (dk_at dksX3_soaked_0 6 rfl rfl)
theorem dX3_soaked_7 : decode cX3_soaked 7 = .ok (.ifCond .le 7, 3) := dk_158 0 7 (dk_at dksX3_soaked_0 7 rfl rfl)
theorem dX3_soaked_10 : decode cX3_soaked 10 = .ok (.iload_n 3, 1) := dk_29 (dk_at dksX3_soaked_0 10 rfl rfl)
theorem dX3_soaked_11 : decode cX3_soaked 11 = .ok (.goto 4, 3) := dk_167 0 4 (dk_at dksX3_soaked_0 11 rfl rfl)
theorem dX3_soaked_14 : decode cX3_soaked 14 = .ok (.iconst 0, 1) := dk_3 (dk_at dksX3_soaked_0 14 rfl rfl)
theorem dX3_soaked_15 : decode cX3_soaked 15 = .ok (.ireturn, 1) := dk_172 (dk_at dksX3_soaked_0 15 rfl rfl)
abbrev cX3_game : ByteArray := prog_17_method_118_code
def yX3_game : MethodName := ⟨RX3, "game", "(II)I"⟩
def dkwX3_game_4 : List UInt8 := [180, 0, 163, 29, 51, 153, 0, 11, 42, 29, 182, 2, 77, 167, 0, 5, 16, 254, 172]
abbrev dktX3_game_4 : List UInt8 := dkwX3_game_4 ++ []
def dkwX3_game_3 : List UInt8 := [167, 255, 216, 28, 154, 0, 18, 42, 180, 0, 163, 29, 51, 153, 0, 7, 4, 167, 0, 4, 3, 172, 42]
abbrev dktX3_game_3 : List UInt8 := dkwX3_game_3 ++ dktX3_game_4
def dkwX3_game_2 : List UInt8 := [180, 0, 163, 21, 4, 42, 21, 4, 182, 2, 77, 2, 159, 0, 7, 4, 167, 0, 4, 3, 84, 132, 4, 1]
abbrev dktX3_game_2 : List UInt8 := dkwX3_game_2 ++ dktX3_game_3
def dkwX3_game_1 : List UInt8 := [182, 1, 168, 62, 3, 54, 4, 21, 4, 29, 163, 0, 40, 21, 4, 29, 2, 130, 126, 154, 0, 25, 42]
abbrev dktX3_game_1 : List UInt8 := dkwX3_game_1 ++ dktX3_game_2
def dkwX3_game_0 : List UInt8 := [42, 27, 182, 1, 180, 153, 0, 13, 28, 133, 9, 10, 184, 0, 176, 154, 0, 5, 2, 172, 42, 27]
abbrev dktX3_game_0 : List UInt8 := dkwX3_game_0 ++ dktX3_game_1
theorem dksX3_game_0 : cX3_game.data.toList.drop 0 = dktX3_game_0 := by decide +kernel
theorem dksX3_game_1 : cX3_game.data.toList.drop 22 = dktX3_game_1 := dk_seg dksX3_game_0 22 rfl rfl
theorem dksX3_game_2 : cX3_game.data.toList.drop 45 = dktX3_game_2 := dk_seg dksX3_game_1 23 rfl rfl
theorem dksX3_game_3 : cX3_game.data.toList.drop 69 = dktX3_game_3 := dk_seg dksX3_game_2 24 rfl rfl
theorem dksX3_game_4 : cX3_game.data.toList.drop 92 = dktX3_game_4 := dk_seg dksX3_game_3 23 rfl rfl
theorem dX3_game_0 : decode cX3_game 0 = .ok (.aload_n 0, 1) := dk_42 (dk_at dksX3_game_0 0 rfl rfl)
theorem dX3_game_1 : decode cX3_game 1 = .ok (.iload_n 1, 1) := dk_27 (dk_at dksX3_game_0 1 rfl rfl)
theorem dX3_game_2 : decode cX3_game 2 = .ok (.invokevirtual 436, 3) := dk_182 1 180 (dk_at dksX3_game_0 2 rfl rfl)
theorem dX3_game_5 : decode cX3_game 5 = .ok (.ifCond .eq 13, 3) := dk_153 0 13 (dk_at dksX3_game_0 5 rfl rfl)
theorem dX3_game_8 : decode cX3_game 8 = .ok (.iload_n 2, 1) := dk_28 (dk_at dksX3_game_0 8 rfl rfl)
theorem dX3_game_9 : decode cX3_game 9 = .ok (.i2l, 1) := dk_133 (dk_at dksX3_game_0 9 rfl rfl)
theorem dX3_game_10 : decode cX3_game 10 = .ok (.lconst 0, 1) := dk_9 (dk_at dksX3_game_0 10 rfl rfl)
theorem dX3_game_11 : decode cX3_game 11 = .ok (.lconst 1, 1) := dk_10 (dk_at dksX3_game_0 11 rfl rfl)
theorem dX3_game_12 : decode cX3_game 12 = .ok (.invokestatic 176, 3) := dk_184 0 176 (dk_at dksX3_game_0 12 rfl rfl)
theorem dX3_game_15 : decode cX3_game 15 = .ok (.ifCond .ne 5, 3) := dk_154 0 5 (dk_at dksX3_game_0 15 rfl rfl)
theorem dX3_game_18 : decode cX3_game 18 = .ok (.iconst (-1), 1) := dk_2 (dk_at dksX3_game_0 18 rfl rfl)
theorem dX3_game_19 : decode cX3_game 19 = .ok (.ireturn, 1) := dk_172 (dk_at dksX3_game_0 19 rfl rfl)
theorem dX3_game_20 : decode cX3_game 20 = .ok (.aload_n 0, 1) := dk_42 (dk_at dksX3_game_0 20 rfl rfl)
theorem dX3_game_21 : decode cX3_game 21 = .ok (.iload_n 1, 1) := dk_27 (dk_at dksX3_game_0 21 rfl rfl)
theorem dX3_game_22 : decode cX3_game 22 = .ok (.invokevirtual 424, 3) := dk_182 1 168 (dk_at dksX3_game_1 0 rfl rfl)
theorem dX3_game_25 : decode cX3_game 25 = .ok (.istore_n 3, 1) := dk_62 (dk_at dksX3_game_1 3 rfl rfl)
theorem dX3_game_26 : decode cX3_game 26 = .ok (.iconst 0, 1) := dk_3 (dk_at dksX3_game_1 4 rfl rfl)
theorem dX3_game_27 : decode cX3_game 27 = .ok (.istore 4, 2) := dk_54 4 (dk_at dksX3_game_1 5 rfl rfl)
theorem dX3_game_29 : decode cX3_game 29 = .ok (.iload 4, 2) := dk_21 4 (dk_at dksX3_game_1 7 rfl rfl)
theorem dX3_game_31 : decode cX3_game 31 = .ok (.iload_n 3, 1) := dk_29 (dk_at dksX3_game_1 9 rfl rfl)
theorem dX3_game_32 : decode cX3_game 32 = .ok (.if_icmp .gt 40, 3) := dk_163 0 40 (dk_at dksX3_game_1 10 rfl rfl)
theorem dX3_game_35 : decode cX3_game 35 = .ok (.iload 4, 2) := dk_21 4 (dk_at dksX3_game_1 13 rfl rfl)
theorem dX3_game_37 : decode cX3_game 37 = .ok (.iload_n 3, 1) := dk_29 (dk_at dksX3_game_1 15 rfl rfl)
theorem dX3_game_38 : decode cX3_game 38 = .ok (.iconst (-1), 1) := dk_2 (dk_at dksX3_game_1 16 rfl rfl)
theorem dX3_game_39 : decode cX3_game 39 = .ok (.ixor, 1) := dk_130 (dk_at dksX3_game_1 17 rfl rfl)
theorem dX3_game_40 : decode cX3_game 40 = .ok (.iand, 1) := dk_126 (dk_at dksX3_game_1 18 rfl rfl)
theorem dX3_game_41 : decode cX3_game 41 = .ok (.ifCond .ne 25, 3) := dk_154 0 25 (dk_at dksX3_game_1 19 rfl rfl)
theorem dX3_game_44 : decode cX3_game 44 = .ok (.aload_n 0, 1) := dk_42 (dk_at dksX3_game_1 22 rfl rfl)
theorem dX3_game_45 : decode cX3_game 45 = .ok (.getfield 163, 3) := dk_180 0 163 (dk_at dksX3_game_2 0 rfl rfl)
theorem dX3_game_48 : decode cX3_game 48 = .ok (.iload 4, 2) := dk_21 4 (dk_at dksX3_game_2 3 rfl rfl)
theorem dX3_game_50 : decode cX3_game 50 = .ok (.aload_n 0, 1) := dk_42 (dk_at dksX3_game_2 5 rfl rfl)
theorem dX3_game_51 : decode cX3_game 51 = .ok (.iload 4, 2) := dk_21 4 (dk_at dksX3_game_2 6 rfl rfl)
theorem dX3_game_53 : decode cX3_game 53 = .ok (.invokevirtual 589, 3) := dk_182 2 77 (dk_at dksX3_game_2 8 rfl rfl)
theorem dX3_game_56 : decode cX3_game 56 = .ok (.iconst (-1), 1) := dk_2 (dk_at dksX3_game_2 11 rfl rfl)
theorem dX3_game_57 : decode cX3_game 57 = .ok (.if_icmp .eq 7, 3) := dk_159 0 7 (dk_at dksX3_game_2 12 rfl rfl)
theorem dX3_game_60 : decode cX3_game 60 = .ok (.iconst 1, 1) := dk_4 (dk_at dksX3_game_2 15 rfl rfl)
theorem dX3_game_61 : decode cX3_game 61 = .ok (.goto 4, 3) := dk_167 0 4 (dk_at dksX3_game_2 16 rfl rfl)
theorem dX3_game_64 : decode cX3_game 64 = .ok (.iconst 0, 1) := dk_3 (dk_at dksX3_game_2 19 rfl rfl)
theorem dX3_game_65 : decode cX3_game 65 = .ok (.bastore, 1) := dk_84 (dk_at dksX3_game_2 20 rfl rfl)
theorem dX3_game_66 : decode cX3_game 66 = .ok (.iinc 4 1, 3) := dk_132 4 1 (dk_at dksX3_game_2 21 rfl rfl)
theorem dX3_game_69 : decode cX3_game 69 = .ok (.goto (-40), 3) := dk_167 255 216 (dk_at dksX3_game_3 0 rfl rfl)
theorem dX3_game_72 : decode cX3_game 72 = .ok (.iload_n 2, 1) := dk_28 (dk_at dksX3_game_3 3 rfl rfl)
theorem dX3_game_73 : decode cX3_game 73 = .ok (.ifCond .ne 18, 3) := dk_154 0 18 (dk_at dksX3_game_3 4 rfl rfl)
theorem dX3_game_76 : decode cX3_game 76 = .ok (.aload_n 0, 1) := dk_42 (dk_at dksX3_game_3 7 rfl rfl)
theorem dX3_game_77 : decode cX3_game 77 = .ok (.getfield 163, 3) := dk_180 0 163 (dk_at dksX3_game_3 8 rfl rfl)
theorem dX3_game_80 : decode cX3_game 80 = .ok (.iload_n 3, 1) := dk_29 (dk_at dksX3_game_3 11 rfl rfl)
theorem dX3_game_81 : decode cX3_game 81 = .ok (.baload, 1) := dk_51 (dk_at dksX3_game_3 12 rfl rfl)
theorem dX3_game_82 : decode cX3_game 82 = .ok (.ifCond .eq 7, 3) := dk_153 0 7 (dk_at dksX3_game_3 13 rfl rfl)
theorem dX3_game_85 : decode cX3_game 85 = .ok (.iconst 1, 1) := dk_4 (dk_at dksX3_game_3 16 rfl rfl)
theorem dX3_game_86 : decode cX3_game 86 = .ok (.goto 4, 3) := dk_167 0 4 (dk_at dksX3_game_3 17 rfl rfl)
theorem dX3_game_89 : decode cX3_game 89 = .ok (.iconst 0, 1) := dk_3 (dk_at dksX3_game_3 20 rfl rfl)
theorem dX3_game_90 : decode cX3_game 90 = .ok (.ireturn, 1) := dk_172 (dk_at dksX3_game_3 21 rfl rfl)
theorem dX3_game_91 : decode cX3_game 91 = .ok (.aload_n 0, 1) := dk_42 (dk_at dksX3_game_3 22 rfl rfl)
theorem dX3_game_92 : decode cX3_game 92 = .ok (.getfield 163, 3) := dk_180 0 163 (dk_at dksX3_game_4 0 rfl rfl)
theorem dX3_game_95 : decode cX3_game 95 = .ok (.iload_n 3, 1) := dk_29 (dk_at dksX3_game_4 3 rfl rfl)
theorem dX3_game_96 : decode cX3_game 96 = .ok (.baload, 1) := dk_51 (dk_at dksX3_game_4 4 rfl rfl)
theorem dX3_game_97 : decode cX3_game 97 = .ok (.ifCond .eq 11, 3) := dk_153 0 11 (dk_at dksX3_game_4 5 rfl rfl)
theorem dX3_game_100 : decode cX3_game 100 = .ok (.aload_n 0, 1) := dk_42 (dk_at dksX3_game_4 8 rfl rfl)
theorem dX3_game_101 : decode cX3_game 101 = .ok (.iload_n 3, 1) := dk_29 (dk_at dksX3_game_4 9 rfl rfl)
theorem dX3_game_102 : decode cX3_game 102 = .ok (.invokevirtual 589, 3) := dk_182 2 77 (dk_at dksX3_game_4 10 rfl rfl)
theorem dX3_game_105 : decode cX3_game 105 = .ok (.goto 5, 3) := dk_167 0 5 (dk_at dksX3_game_4 13 rfl rfl)
theorem dX3_game_108 : decode cX3_game 108 = .ok (.bipush (-2), 2) := dk_16 254 (dk_at dksX3_game_4 16 rfl rfl)
theorem dX3_game_110 : decode cX3_game 110 = .ok (.ireturn, 1) := dk_172 (dk_at dksX3_game_4 18 rfl rfl)
abbrev cX3_winningFrom : ByteArray := prog_17_method_117_code
def yX3_winningFrom : MethodName := ⟨RX3, "winningFrom", "(I)I"⟩
def dkwX3_winningFrom_2 : List UInt8 := [172, 132, 2, 1, 167, 255, 208, 2, 172]
abbrev dktX3_winningFrom_2 : List UInt8 := dkwX3_winningFrom_2 ++ []
def dkwX3_winningFrom_1 : List UInt8 := [184, 1, 134, 153, 0, 22, 42, 29, 182, 2, 18, 153, 0, 14, 42, 180, 0, 163, 29, 51, 154, 0, 5, 28]
abbrev dktX3_winningFrom_1 : List UInt8 := dkwX3_winningFrom_1 ++ dktX3_winningFrom_2
def dkwX3_winningFrom_0 : List UInt8 := [3, 61, 28, 42, 180, 0, 9, 6, 46, 162, 0, 44, 27, 4, 28, 120, 2, 130, 126, 62, 27, 28]
abbrev dktX3_winningFrom_0 : List UInt8 := dkwX3_winningFrom_0 ++ dktX3_winningFrom_1
theorem dksX3_winningFrom_0 : cX3_winningFrom.data.toList.drop 0 = dktX3_winningFrom_0 := by decide +kernel
theorem dksX3_winningFrom_1 : cX3_winningFrom.data.toList.drop 22 = dktX3_winningFrom_1 := dk_seg dksX3_winningFrom_0 22 rfl rfl
theorem dksX3_winningFrom_2 : cX3_winningFrom.data.toList.drop 46 = dktX3_winningFrom_2 := dk_seg dksX3_winningFrom_1 24 rfl rfl
theorem dX3_winningFrom_0 : decode cX3_winningFrom 0 = .ok (.iconst 0, 1) := dk_3 (dk_at dksX3_winningFrom_0 0 rfl rfl)
theorem dX3_winningFrom_1 : decode cX3_winningFrom 1 = .ok (.istore_n 2, 1) := dk_61 (dk_at dksX3_winningFrom_0 1 rfl rfl)
theorem dX3_winningFrom_2 : decode cX3_winningFrom 2 = .ok (.iload_n 2, 1) := dk_28 (dk_at dksX3_winningFrom_0 2 rfl rfl)
theorem dX3_winningFrom_3 : decode cX3_winningFrom 3 = .ok (.aload_n 0, 1) := dk_42 (dk_at dksX3_winningFrom_0 3 rfl rfl)
theorem dX3_winningFrom_4 : decode cX3_winningFrom 4 = .ok (.getfield 9, 3) := dk_180 0 9 (dk_at dksX3_winningFrom_0 4 rfl rfl)
theorem dX3_winningFrom_7 : decode cX3_winningFrom 7 = .ok (.iconst 3, 1) := dk_6 (dk_at dksX3_winningFrom_0 7 rfl rfl)
theorem dX3_winningFrom_8 : decode cX3_winningFrom 8 = .ok (.iaload, 1) := dk_46 (dk_at dksX3_winningFrom_0 8 rfl rfl)
theorem dX3_winningFrom_9 : decode cX3_winningFrom 9 = .ok (.if_icmp .ge 44, 3) := dk_162 0 44 (dk_at dksX3_winningFrom_0 9 rfl rfl)
theorem dX3_winningFrom_12 : decode cX3_winningFrom 12 = .ok (.iload_n 1, 1) := dk_27 (dk_at dksX3_winningFrom_0 12 rfl rfl)
theorem dX3_winningFrom_13 : decode cX3_winningFrom 13 = .ok (.iconst 1, 1) := dk_4 (dk_at dksX3_winningFrom_0 13 rfl rfl)
theorem dX3_winningFrom_14 : decode cX3_winningFrom 14 = .ok (.iload_n 2, 1) := dk_28 (dk_at dksX3_winningFrom_0 14 rfl rfl)
theorem dX3_winningFrom_15 : decode cX3_winningFrom 15 = .ok (.ishl, 1) := dk_120 (dk_at dksX3_winningFrom_0 15 rfl rfl)
theorem dX3_winningFrom_16 : decode cX3_winningFrom 16 = .ok (.iconst (-1), 1) := dk_2 (dk_at dksX3_winningFrom_0 16 rfl rfl)
theorem dX3_winningFrom_17 : decode cX3_winningFrom 17 = .ok (.ixor, 1) := dk_130 (dk_at dksX3_winningFrom_0 17 rfl rfl)
theorem dX3_winningFrom_18 : decode cX3_winningFrom 18 = .ok (.iand, 1) := dk_126 (dk_at dksX3_winningFrom_0 18 rfl rfl)
theorem dX3_winningFrom_19 : decode cX3_winningFrom 19 = .ok (.istore_n 3, 1) := dk_62 (dk_at dksX3_winningFrom_0 19 rfl rfl)
theorem dX3_winningFrom_20 : decode cX3_winningFrom 20 = .ok (.iload_n 1, 1) := dk_27 (dk_at dksX3_winningFrom_0 20 rfl rfl)
theorem dX3_winningFrom_21 : decode cX3_winningFrom 21 = .ok (.iload_n 2, 1) := dk_28 (dk_at dksX3_winningFrom_0 21 rfl rfl)
theorem dX3_winningFrom_22 : decode cX3_winningFrom 22 = .ok (.invokestatic 390, 3) := dk_184 1 134 (dk_at dksX3_winningFrom_1 0 rfl rfl)
theorem dX3_winningFrom_25 : decode cX3_winningFrom 25 = .ok (.ifCond .eq 22, 3) := dk_153 0 22 (dk_at dksX3_winningFrom_1 3 rfl rfl)
theorem dX3_winningFrom_28 : decode cX3_winningFrom 28 = .ok (.aload_n 0, 1) := dk_42 (dk_at dksX3_winningFrom_1 6 rfl rfl)
theorem dX3_winningFrom_29 : decode cX3_winningFrom 29 = .ok (.iload_n 3, 1) := dk_29 (dk_at dksX3_winningFrom_1 7 rfl rfl)
theorem dX3_winningFrom_30 : decode cX3_winningFrom 30 = .ok (.invokevirtual 530, 3) := dk_182 2 18 (dk_at dksX3_winningFrom_1 8 rfl rfl)
theorem dX3_winningFrom_33 : decode cX3_winningFrom 33 = .ok (.ifCond .eq 14, 3) := dk_153 0 14 (dk_at dksX3_winningFrom_1 11 rfl rfl)
theorem dX3_winningFrom_36 : decode cX3_winningFrom 36 = .ok (.aload_n 0, 1) := dk_42 (dk_at dksX3_winningFrom_1 14 rfl rfl)
theorem dX3_winningFrom_37 : decode cX3_winningFrom 37 = .ok (.getfield 163, 3) := dk_180 0 163 (dk_at dksX3_winningFrom_1 15 rfl rfl)
theorem dX3_winningFrom_40 : decode cX3_winningFrom 40 = .ok (.iload_n 3, 1) := dk_29 (dk_at dksX3_winningFrom_1 18 rfl rfl)
theorem dX3_winningFrom_41 : decode cX3_winningFrom 41 = .ok (.baload, 1) := dk_51 (dk_at dksX3_winningFrom_1 19 rfl rfl)
theorem dX3_winningFrom_42 : decode cX3_winningFrom 42 = .ok (.ifCond .ne 5, 3) := dk_154 0 5 (dk_at dksX3_winningFrom_1 20 rfl rfl)
theorem dX3_winningFrom_45 : decode cX3_winningFrom 45 = .ok (.iload_n 2, 1) := dk_28 (dk_at dksX3_winningFrom_1 23 rfl rfl)
theorem dX3_winningFrom_46 : decode cX3_winningFrom 46 = .ok (.ireturn, 1) := dk_172 (dk_at dksX3_winningFrom_2 0 rfl rfl)
theorem dX3_winningFrom_47 : decode cX3_winningFrom 47 = .ok (.iinc 2 1, 3) := dk_132 2 1 (dk_at dksX3_winningFrom_2 1 rfl rfl)
theorem dX3_winningFrom_50 : decode cX3_winningFrom 50 = .ok (.goto (-48), 3) := dk_167 255 208 (dk_at dksX3_winningFrom_2 4 rfl rfl)
theorem dX3_winningFrom_53 : decode cX3_winningFrom 53 = .ok (.iconst (-1), 1) := dk_2 (dk_at dksX3_winningFrom_2 7 rfl rfl)
theorem dX3_winningFrom_54 : decode cX3_winningFrom 54 = .ok (.ireturn, 1) := dk_172 (dk_at dksX3_winningFrom_2 8 rfl rfl)
abbrev cX3_seed : ByteArray := prog_17_method_119_code
def yX3_seed : MethodName := ⟨RX3, "seed", "(I)I"⟩
def dkwX3_seed_0 : List UInt8 := [27, 156, 0, 5, 2, 172, 42, 180, 0, 9, 16, 8, 46, 61, 42, 180, 0, 9, 16, 8, 27, 79, 28, 172]
abbrev dktX3_seed_0 : List UInt8 := dkwX3_seed_0 ++ []
theorem dksX3_seed_0 : cX3_seed.data.toList.drop 0 = dktX3_seed_0 := by decide +kernel
theorem dX3_seed_0 : decode cX3_seed 0 = .ok (.iload_n 1, 1) := dk_27 (dk_at dksX3_seed_0 0 rfl rfl)
theorem dX3_seed_1 : decode cX3_seed 1 = .ok (.ifCond .ge 5, 3) := dk_156 0 5 (dk_at dksX3_seed_0 1 rfl rfl)
theorem dX3_seed_4 : decode cX3_seed 4 = .ok (.iconst (-1), 1) := dk_2 (dk_at dksX3_seed_0 4 rfl rfl)
theorem dX3_seed_5 : decode cX3_seed 5 = .ok (.ireturn, 1) := dk_172 (dk_at dksX3_seed_0 5 rfl rfl)
theorem dX3_seed_6 : decode cX3_seed 6 = .ok (.aload_n 0, 1) := dk_42 (dk_at dksX3_seed_0 6 rfl rfl)
theorem dX3_seed_7 : decode cX3_seed 7 = .ok (.getfield 9, 3) := dk_180 0 9 (dk_at dksX3_seed_0 7 rfl rfl)
theorem dX3_seed_10 : decode cX3_seed 10 = .ok (.bipush 8, 2) := dk_16 8 (dk_at dksX3_seed_0 10 rfl rfl)
theorem dX3_seed_12 : decode cX3_seed 12 = .ok (.iaload, 1) := dk_46 (dk_at dksX3_seed_0 12 rfl rfl)
theorem dX3_seed_13 : decode cX3_seed 13 = .ok (.istore_n 2, 1) := dk_61 (dk_at dksX3_seed_0 13 rfl rfl)
theorem dX3_seed_14 : decode cX3_seed 14 = .ok (.aload_n 0, 1) := dk_42 (dk_at dksX3_seed_0 14 rfl rfl)
theorem dX3_seed_15 : decode cX3_seed 15 = .ok (.getfield 9, 3) := dk_180 0 9 (dk_at dksX3_seed_0 15 rfl rfl)
theorem dX3_seed_18 : decode cX3_seed 18 = .ok (.bipush 8, 2) := dk_16 8 (dk_at dksX3_seed_0 18 rfl rfl)
theorem dX3_seed_20 : decode cX3_seed 20 = .ok (.iload_n 1, 1) := dk_27 (dk_at dksX3_seed_0 20 rfl rfl)
theorem dX3_seed_21 : decode cX3_seed 21 = .ok (.iastore, 1) := dk_79 (dk_at dksX3_seed_0 21 rfl rfl)
theorem dX3_seed_22 : decode cX3_seed 22 = .ok (.iload_n 2, 1) := dk_28 (dk_at dksX3_seed_0 22 rfl rfl)
theorem dX3_seed_23 : decode cX3_seed 23 = .ok (.ireturn, 1) := dk_172 (dk_at dksX3_seed_0 23 rfl rfl)
abbrev cX3_drawn : ByteArray := prog_17_method_121_code
def yX3_drawn : MethodName := ⟨RX3, "drawn", "(III)I"⟩
def dkwX3_drawn_9 : List UInt8 := [21, 6, 172]
abbrev dktX3_drawn_9 : List UInt8 := dkwX3_drawn_9 ++ []
def dkwX3_drawn_8 : List UInt8 := [16, 8, 46, 54, 5, 42, 182, 2, 15, 132, 7, 1, 167, 255, 137, 42, 180, 0, 9, 16, 8, 21, 4, 79]
abbrev dktX3_drawn_8 : List UInt8 := dkwX3_drawn_8 ++ dktX3_drawn_9
def dkwX3_drawn_7 : List UInt8 := [180, 1, 207, 167, 0, 7, 42, 180, 1, 191, 96, 54, 6, 132, 8, 1, 167, 255, 174, 42, 180, 0, 9]
abbrev dktX3_drawn_7 : List UInt8 := dkwX3_drawn_7 ++ dktX3_drawn_8
def dkwX3_drawn_6 : List UInt8 := [182, 1, 210, 54, 11, 21, 6, 29, 154, 0, 8, 21, 11, 167, 0, 19, 29, 4, 160, 0, 10, 42]
abbrev dktX3_drawn_6 : List UInt8 := dkwX3_drawn_6 ++ dktX3_drawn_7
def dkwX3_drawn_5 : List UInt8 := [4, 96, 182, 1, 177, 54, 10, 42, 21, 10, 21, 9, 164, 0, 8, 21, 10, 167, 0, 5, 21, 9]
abbrev dktX3_drawn_5 : List UInt8 := dkwX3_drawn_5 ++ dktX3_drawn_6
def dkwX3_drawn_4 : List UInt8 := [54, 8, 21, 8, 28, 162, 0, 82, 42, 16, 10, 182, 2, 91, 54, 9, 42, 42, 180, 0, 9, 16, 6, 46]
abbrev dktX3_drawn_4 : List UInt8 := dkwX3_drawn_4 ++ dktX3_drawn_5
def dkwX3_drawn_3 : List UInt8 := [42, 182, 2, 9, 3, 54, 7, 21, 7, 27, 162, 0, 119, 42, 180, 0, 9, 16, 8, 21, 5, 79, 3]
abbrev dktX3_drawn_3 : List UInt8 := dkwX3_drawn_3 ++ dktX3_drawn_4
def dkwX3_drawn_2 : List UInt8 := [184, 0, 176, 154, 0, 5, 2, 172, 42, 180, 0, 9, 16, 8, 46, 54, 4, 21, 4, 54, 5, 3, 54, 6]
abbrev dktX3_drawn_2 : List UInt8 := dkwX3_drawn_2 ++ dktX3_drawn_3
def dkwX3_drawn_1 : List UInt8 := [20, 2, 89, 184, 0, 176, 153, 0, 23, 28, 42, 182, 1, 231, 163, 0, 15, 29, 133, 9, 20, 2, 43]
abbrev dktX3_drawn_1 : List UInt8 := dkwX3_drawn_1 ++ dktX3_drawn_2
def dkwX3_drawn_0 : List UInt8 := [42, 182, 1, 174, 153, 0, 47, 27, 133, 10, 20, 2, 87, 184, 0, 176, 153, 0, 35, 28, 133, 10]
abbrev dktX3_drawn_0 : List UInt8 := dkwX3_drawn_0 ++ dktX3_drawn_1
theorem dksX3_drawn_0 : cX3_drawn.data.toList.drop 0 = dktX3_drawn_0 := by decide +kernel
theorem dksX3_drawn_1 : cX3_drawn.data.toList.drop 22 = dktX3_drawn_1 := dk_seg dksX3_drawn_0 22 rfl rfl
theorem dksX3_drawn_2 : cX3_drawn.data.toList.drop 45 = dktX3_drawn_2 := dk_seg dksX3_drawn_1 23 rfl rfl
theorem dksX3_drawn_3 : cX3_drawn.data.toList.drop 69 = dktX3_drawn_3 := dk_seg dksX3_drawn_2 24 rfl rfl
theorem dksX3_drawn_4 : cX3_drawn.data.toList.drop 92 = dktX3_drawn_4 := dk_seg dksX3_drawn_3 23 rfl rfl
theorem dksX3_drawn_5 : cX3_drawn.data.toList.drop 116 = dktX3_drawn_5 := dk_seg dksX3_drawn_4 24 rfl rfl
theorem dksX3_drawn_6 : cX3_drawn.data.toList.drop 138 = dktX3_drawn_6 := dk_seg dksX3_drawn_5 22 rfl rfl
theorem dksX3_drawn_7 : cX3_drawn.data.toList.drop 160 = dktX3_drawn_7 := dk_seg dksX3_drawn_6 22 rfl rfl
theorem dksX3_drawn_8 : cX3_drawn.data.toList.drop 183 = dktX3_drawn_8 := dk_seg dksX3_drawn_7 23 rfl rfl
theorem dksX3_drawn_9 : cX3_drawn.data.toList.drop 207 = dktX3_drawn_9 := dk_seg dksX3_drawn_8 24 rfl rfl
theorem dX3_drawn_0 : decode cX3_drawn 0 = .ok (.aload_n 0, 1) := dk_42 (dk_at dksX3_drawn_0 0 rfl rfl)
theorem dX3_drawn_1 : decode cX3_drawn 1 = .ok (.invokevirtual 430, 3) := dk_182 1 174 (dk_at dksX3_drawn_0 1 rfl rfl)
theorem dX3_drawn_4 : decode cX3_drawn 4 = .ok (.ifCond .eq 47, 3) := dk_153 0 47 (dk_at dksX3_drawn_0 4 rfl rfl)
theorem dX3_drawn_7 : decode cX3_drawn 7 = .ok (.iload_n 1, 1) := dk_27 (dk_at dksX3_drawn_0 7 rfl rfl)
theorem dX3_drawn_8 : decode cX3_drawn 8 = .ok (.i2l, 1) := dk_133 (dk_at dksX3_drawn_0 8 rfl rfl)
theorem dX3_drawn_9 : decode cX3_drawn 9 = .ok (.lconst 1, 1) := dk_10 (dk_at dksX3_drawn_0 9 rfl rfl)
theorem dX3_drawn_10 : decode cX3_drawn 10 = .ok (.ldc2_w 599, 3) := dk_20 2 87 (dk_at dksX3_drawn_0 10 rfl rfl)
theorem dX3_drawn_13 : decode cX3_drawn 13 = .ok (.invokestatic 176, 3) := dk_184 0 176 (dk_at dksX3_drawn_0 13 rfl rfl)
theorem dX3_drawn_16 : decode cX3_drawn 16 = .ok (.ifCond .eq 35, 3) := dk_153 0 35 (dk_at dksX3_drawn_0 16 rfl rfl)
theorem dX3_drawn_19 : decode cX3_drawn 19 = .ok (.iload_n 2, 1) := dk_28 (dk_at dksX3_drawn_0 19 rfl rfl)
theorem dX3_drawn_20 : decode cX3_drawn 20 = .ok (.i2l, 1) := dk_133 (dk_at dksX3_drawn_0 20 rfl rfl)
theorem dX3_drawn_21 : decode cX3_drawn 21 = .ok (.lconst 1, 1) := dk_10 (dk_at dksX3_drawn_0 21 rfl rfl)
theorem dX3_drawn_22 : decode cX3_drawn 22 = .ok (.ldc2_w 601, 3) := dk_20 2 89 (dk_at dksX3_drawn_1 0 rfl rfl)
theorem dX3_drawn_25 : decode cX3_drawn 25 = .ok (.invokestatic 176, 3) := dk_184 0 176 (dk_at dksX3_drawn_1 3 rfl rfl)
theorem dX3_drawn_28 : decode cX3_drawn 28 = .ok (.ifCond .eq 23, 3) := dk_153 0 23 (dk_at dksX3_drawn_1 6 rfl rfl)
theorem dX3_drawn_31 : decode cX3_drawn 31 = .ok (.iload_n 2, 1) := dk_28 (dk_at dksX3_drawn_1 9 rfl rfl)
theorem dX3_drawn_32 : decode cX3_drawn 32 = .ok (.aload_n 0, 1) := dk_42 (dk_at dksX3_drawn_1 10 rfl rfl)
theorem dX3_drawn_33 : decode cX3_drawn 33 = .ok (.invokevirtual 487, 3) := dk_182 1 231 (dk_at dksX3_drawn_1 11 rfl rfl)
theorem dX3_drawn_36 : decode cX3_drawn 36 = .ok (.if_icmp .gt 15, 3) := dk_163 0 15 (dk_at dksX3_drawn_1 14 rfl rfl)
theorem dX3_drawn_39 : decode cX3_drawn 39 = .ok (.iload_n 3, 1) := dk_29 (dk_at dksX3_drawn_1 17 rfl rfl)
theorem dX3_drawn_40 : decode cX3_drawn 40 = .ok (.i2l, 1) := dk_133 (dk_at dksX3_drawn_1 18 rfl rfl)
theorem dX3_drawn_41 : decode cX3_drawn 41 = .ok (.lconst 0, 1) := dk_9 (dk_at dksX3_drawn_1 19 rfl rfl)
theorem dX3_drawn_42 : decode cX3_drawn 42 = .ok (.ldc2_w 555, 3) := dk_20 2 43 (dk_at dksX3_drawn_1 20 rfl rfl)
theorem dX3_drawn_45 : decode cX3_drawn 45 = .ok (.invokestatic 176, 3) := dk_184 0 176 (dk_at dksX3_drawn_2 0 rfl rfl)
theorem dX3_drawn_48 : decode cX3_drawn 48 = .ok (.ifCond .ne 5, 3) := dk_154 0 5 (dk_at dksX3_drawn_2 3 rfl rfl)
theorem dX3_drawn_51 : decode cX3_drawn 51 = .ok (.iconst (-1), 1) := dk_2 (dk_at dksX3_drawn_2 6 rfl rfl)
theorem dX3_drawn_52 : decode cX3_drawn 52 = .ok (.ireturn, 1) := dk_172 (dk_at dksX3_drawn_2 7 rfl rfl)
theorem dX3_drawn_53 : decode cX3_drawn 53 = .ok (.aload_n 0, 1) := dk_42 (dk_at dksX3_drawn_2 8 rfl rfl)
theorem dX3_drawn_54 : decode cX3_drawn 54 = .ok (.getfield 9, 3) := dk_180 0 9 (dk_at dksX3_drawn_2 9 rfl rfl)
theorem dX3_drawn_57 : decode cX3_drawn 57 = .ok (.bipush 8, 2) := dk_16 8 (dk_at dksX3_drawn_2 12 rfl rfl)
theorem dX3_drawn_59 : decode cX3_drawn 59 = .ok (.iaload, 1) := dk_46 (dk_at dksX3_drawn_2 14 rfl rfl)
theorem dX3_drawn_60 : decode cX3_drawn 60 = .ok (.istore 4, 2) := dk_54 4 (dk_at dksX3_drawn_2 15 rfl rfl)
theorem dX3_drawn_62 : decode cX3_drawn 62 = .ok (.iload 4, 2) := dk_21 4 (dk_at dksX3_drawn_2 17 rfl rfl)
theorem dX3_drawn_64 : decode cX3_drawn 64 = .ok (.istore 5, 2) := dk_54 5 (dk_at dksX3_drawn_2 19 rfl rfl)
theorem dX3_drawn_66 : decode cX3_drawn 66 = .ok (.iconst 0, 1) := dk_3 (dk_at dksX3_drawn_2 21 rfl rfl)
theorem dX3_drawn_67 : decode cX3_drawn 67 = .ok (.istore 6, 2) := dk_54 6 (dk_at dksX3_drawn_2 22 rfl rfl)
theorem dX3_drawn_69 : decode cX3_drawn 69 = .ok (.aload_n 0, 1) := dk_42 (dk_at dksX3_drawn_3 0 rfl rfl)
theorem dX3_drawn_70 : decode cX3_drawn 70 = .ok (.invokevirtual 521, 3) := dk_182 2 9 (dk_at dksX3_drawn_3 1 rfl rfl)
theorem dX3_drawn_73 : decode cX3_drawn 73 = .ok (.iconst 0, 1) := dk_3 (dk_at dksX3_drawn_3 4 rfl rfl)
theorem dX3_drawn_74 : decode cX3_drawn 74 = .ok (.istore 7, 2) := dk_54 7 (dk_at dksX3_drawn_3 5 rfl rfl)
theorem dX3_drawn_76 : decode cX3_drawn 76 = .ok (.iload 7, 2) := dk_21 7 (dk_at dksX3_drawn_3 7 rfl rfl)
theorem dX3_drawn_78 : decode cX3_drawn 78 = .ok (.iload_n 1, 1) := dk_27 (dk_at dksX3_drawn_3 9 rfl rfl)
theorem dX3_drawn_79 : decode cX3_drawn 79 = .ok (.if_icmp .ge 119, 3) := dk_162 0 119 (dk_at dksX3_drawn_3 10 rfl rfl)
theorem dX3_drawn_82 : decode cX3_drawn 82 = .ok (.aload_n 0, 1) := dk_42 (dk_at dksX3_drawn_3 13 rfl rfl)
theorem dX3_drawn_83 : decode cX3_drawn 83 = .ok (.getfield 9, 3) := dk_180 0 9 (dk_at dksX3_drawn_3 14 rfl rfl)
theorem dX3_drawn_86 : decode cX3_drawn 86 = .ok (.bipush 8, 2) := dk_16 8 (dk_at dksX3_drawn_3 17 rfl rfl)
theorem dX3_drawn_88 : decode cX3_drawn 88 = .ok (.iload 5, 2) := dk_21 5 (dk_at dksX3_drawn_3 19 rfl rfl)
theorem dX3_drawn_90 : decode cX3_drawn 90 = .ok (.iastore, 1) := dk_79 (dk_at dksX3_drawn_3 21 rfl rfl)
theorem dX3_drawn_91 : decode cX3_drawn 91 = .ok (.iconst 0, 1) := dk_3 (dk_at dksX3_drawn_3 22 rfl rfl)
theorem dX3_drawn_92 : decode cX3_drawn 92 = .ok (.istore 8, 2) := dk_54 8 (dk_at dksX3_drawn_4 0 rfl rfl)
theorem dX3_drawn_94 : decode cX3_drawn 94 = .ok (.iload 8, 2) := dk_21 8 (dk_at dksX3_drawn_4 2 rfl rfl)
theorem dX3_drawn_96 : decode cX3_drawn 96 = .ok (.iload_n 2, 1) := dk_28 (dk_at dksX3_drawn_4 4 rfl rfl)
theorem dX3_drawn_97 : decode cX3_drawn 97 = .ok (.if_icmp .ge 82, 3) := dk_162 0 82 (dk_at dksX3_drawn_4 5 rfl rfl)
theorem dX3_drawn_100 : decode cX3_drawn 100 = .ok (.aload_n 0, 1) := dk_42 (dk_at dksX3_drawn_4 8 rfl rfl)
theorem dX3_drawn_101 : decode cX3_drawn 101 = .ok (.bipush 10, 2) := dk_16 10 (dk_at dksX3_drawn_4 9 rfl rfl)
theorem dX3_drawn_103 : decode cX3_drawn 103 = .ok (.invokevirtual 603, 3) := dk_182 2 91 (dk_at dksX3_drawn_4 11 rfl rfl)
theorem dX3_drawn_106 : decode cX3_drawn 106 = .ok (.istore 9, 2) := dk_54 9 (dk_at dksX3_drawn_4 14 rfl rfl)
theorem dX3_drawn_108 : decode cX3_drawn 108 = .ok (.aload_n 0, 1) := dk_42 (dk_at dksX3_drawn_4 16 rfl rfl)
theorem dX3_drawn_109 : decode cX3_drawn 109 = .ok (.aload_n 0, 1) := dk_42 (dk_at dksX3_drawn_4 17 rfl rfl)
theorem dX3_drawn_110 : decode cX3_drawn 110 = .ok (.getfield 9, 3) := dk_180 0 9 (dk_at dksX3_drawn_4 18 rfl rfl)
theorem dX3_drawn_113 : decode cX3_drawn 113 = .ok (.bipush 6, 2) := dk_16 6 (dk_at dksX3_drawn_4 21 rfl rfl)
theorem dX3_drawn_115 : decode cX3_drawn 115 = .ok (.iaload, 1) := dk_46 (dk_at dksX3_drawn_4 23 rfl rfl)
theorem dX3_drawn_116 : decode cX3_drawn 116 = .ok (.iconst 1, 1) := dk_4 (dk_at dksX3_drawn_5 0 rfl rfl)
theorem dX3_drawn_117 : decode cX3_drawn 117 = .ok (.iadd, 1) := dk_96 (dk_at dksX3_drawn_5 1 rfl rfl)
theorem dX3_drawn_118 : decode cX3_drawn 118 = .ok (.invokevirtual 433, 3) := dk_182 1 177 (dk_at dksX3_drawn_5 2 rfl rfl)
theorem dX3_drawn_121 : decode cX3_drawn 121 = .ok (.istore 10, 2) := dk_54 10 (dk_at dksX3_drawn_5 5 rfl rfl)
theorem dX3_drawn_123 : decode cX3_drawn 123 = .ok (.aload_n 0, 1) := dk_42 (dk_at dksX3_drawn_5 7 rfl rfl)
theorem dX3_drawn_124 : decode cX3_drawn 124 = .ok (.iload 10, 2) := dk_21 10 (dk_at dksX3_drawn_5 8 rfl rfl)
theorem dX3_drawn_126 : decode cX3_drawn 126 = .ok (.iload 9, 2) := dk_21 9 (dk_at dksX3_drawn_5 10 rfl rfl)
theorem dX3_drawn_128 : decode cX3_drawn 128 = .ok (.if_icmp .le 8, 3) := dk_164 0 8 (dk_at dksX3_drawn_5 12 rfl rfl)
theorem dX3_drawn_131 : decode cX3_drawn 131 = .ok (.iload 10, 2) := dk_21 10 (dk_at dksX3_drawn_5 15 rfl rfl)
theorem dX3_drawn_133 : decode cX3_drawn 133 = .ok (.goto 5, 3) := dk_167 0 5 (dk_at dksX3_drawn_5 17 rfl rfl)
theorem dX3_drawn_136 : decode cX3_drawn 136 = .ok (.iload 9, 2) := dk_21 9 (dk_at dksX3_drawn_5 20 rfl rfl)
theorem dX3_drawn_138 : decode cX3_drawn 138 = .ok (.invokevirtual 466, 3) := dk_182 1 210 (dk_at dksX3_drawn_6 0 rfl rfl)
theorem dX3_drawn_141 : decode cX3_drawn 141 = .ok (.istore 11, 2) := dk_54 11 (dk_at dksX3_drawn_6 3 rfl rfl)
theorem dX3_drawn_143 : decode cX3_drawn 143 = .ok (.iload 6, 2) := dk_21 6 (dk_at dksX3_drawn_6 5 rfl rfl)
theorem dX3_drawn_145 : decode cX3_drawn 145 = .ok (.iload_n 3, 1) := dk_29 (dk_at dksX3_drawn_6 7 rfl rfl)
theorem dX3_drawn_146 : decode cX3_drawn 146 = .ok (.ifCond .ne 8, 3) := dk_154 0 8 (dk_at dksX3_drawn_6 8 rfl rfl)
theorem dX3_drawn_149 : decode cX3_drawn 149 = .ok (.iload 11, 2) := dk_21 11 (dk_at dksX3_drawn_6 11 rfl rfl)
theorem dX3_drawn_151 : decode cX3_drawn 151 = .ok (.goto 19, 3) := dk_167 0 19 (dk_at dksX3_drawn_6 13 rfl rfl)
theorem dX3_drawn_154 : decode cX3_drawn 154 = .ok (.iload_n 3, 1) := dk_29 (dk_at dksX3_drawn_6 16 rfl rfl)
theorem dX3_drawn_155 : decode cX3_drawn 155 = .ok (.iconst 1, 1) := dk_4 (dk_at dksX3_drawn_6 17 rfl rfl)
theorem dX3_drawn_156 : decode cX3_drawn 156 = .ok (.if_icmp .ne 10, 3) := dk_160 0 10 (dk_at dksX3_drawn_6 18 rfl rfl)
theorem dX3_drawn_159 : decode cX3_drawn 159 = .ok (.aload_n 0, 1) := dk_42 (dk_at dksX3_drawn_6 21 rfl rfl)
theorem dX3_drawn_160 : decode cX3_drawn 160 = .ok (.getfield 463, 3) := dk_180 1 207 (dk_at dksX3_drawn_7 0 rfl rfl)
theorem dX3_drawn_163 : decode cX3_drawn 163 = .ok (.goto 7, 3) := dk_167 0 7 (dk_at dksX3_drawn_7 3 rfl rfl)
theorem dX3_drawn_166 : decode cX3_drawn 166 = .ok (.aload_n 0, 1) := dk_42 (dk_at dksX3_drawn_7 6 rfl rfl)
theorem dX3_drawn_167 : decode cX3_drawn 167 = .ok (.getfield 447, 3) := dk_180 1 191 (dk_at dksX3_drawn_7 7 rfl rfl)
theorem dX3_drawn_170 : decode cX3_drawn 170 = .ok (.iadd, 1) := dk_96 (dk_at dksX3_drawn_7 10 rfl rfl)
theorem dX3_drawn_171 : decode cX3_drawn 171 = .ok (.istore 6, 2) := dk_54 6 (dk_at dksX3_drawn_7 11 rfl rfl)
theorem dX3_drawn_173 : decode cX3_drawn 173 = .ok (.iinc 8 1, 3) := dk_132 8 1 (dk_at dksX3_drawn_7 13 rfl rfl)
theorem dX3_drawn_176 : decode cX3_drawn 176 = .ok (.goto (-82), 3) := dk_167 255 174 (dk_at dksX3_drawn_7 16 rfl rfl)
theorem dX3_drawn_179 : decode cX3_drawn 179 = .ok (.aload_n 0, 1) := dk_42 (dk_at dksX3_drawn_7 19 rfl rfl)
theorem dX3_drawn_180 : decode cX3_drawn 180 = .ok (.getfield 9, 3) := dk_180 0 9 (dk_at dksX3_drawn_7 20 rfl rfl)
theorem dX3_drawn_183 : decode cX3_drawn 183 = .ok (.bipush 8, 2) := dk_16 8 (dk_at dksX3_drawn_8 0 rfl rfl)
theorem dX3_drawn_185 : decode cX3_drawn 185 = .ok (.iaload, 1) := dk_46 (dk_at dksX3_drawn_8 2 rfl rfl)
theorem dX3_drawn_186 : decode cX3_drawn 186 = .ok (.istore 5, 2) := dk_54 5 (dk_at dksX3_drawn_8 3 rfl rfl)
theorem dX3_drawn_188 : decode cX3_drawn 188 = .ok (.aload_n 0, 1) := dk_42 (dk_at dksX3_drawn_8 5 rfl rfl)
theorem dX3_drawn_189 : decode cX3_drawn 189 = .ok (.invokevirtual 527, 3) := dk_182 2 15 (dk_at dksX3_drawn_8 6 rfl rfl)
theorem dX3_drawn_192 : decode cX3_drawn 192 = .ok (.iinc 7 1, 3) := dk_132 7 1 (dk_at dksX3_drawn_8 9 rfl rfl)
theorem dX3_drawn_195 : decode cX3_drawn 195 = .ok (.goto (-119), 3) := dk_167 255 137 (dk_at dksX3_drawn_8 12 rfl rfl)
theorem dX3_drawn_198 : decode cX3_drawn 198 = .ok (.aload_n 0, 1) := dk_42 (dk_at dksX3_drawn_8 15 rfl rfl)
theorem dX3_drawn_199 : decode cX3_drawn 199 = .ok (.getfield 9, 3) := dk_180 0 9 (dk_at dksX3_drawn_8 16 rfl rfl)
theorem dX3_drawn_202 : decode cX3_drawn 202 = .ok (.bipush 8, 2) := dk_16 8 (dk_at dksX3_drawn_8 19 rfl rfl)
theorem dX3_drawn_204 : decode cX3_drawn 204 = .ok (.iload 4, 2) := dk_21 4 (dk_at dksX3_drawn_8 21 rfl rfl)
theorem dX3_drawn_206 : decode cX3_drawn 206 = .ok (.iastore, 1) := dk_79 (dk_at dksX3_drawn_8 23 rfl rfl)
theorem dX3_drawn_207 : decode cX3_drawn 207 = .ok (.iload 6, 2) := dk_21 6 (dk_at dksX3_drawn_9 0 rfl rfl)
theorem dX3_drawn_209 : decode cX3_drawn 209 = .ok (.ireturn, 1) := dk_172 (dk_at dksX3_drawn_9 2 rfl rfl)
abbrev cX3_draws : ByteArray := prog_17_method_120_code
def yX3_draws : MethodName := ⟨RX3, "draws", "(I)I"⟩
def dkwX3_draws_1 : List UInt8 := [20, 2, 84, 113, 136, 79, 42, 180, 0, 9, 16, 8, 46, 19, 2, 86, 108, 27, 112, 172]
abbrev dktX3_draws_1 : List UInt8 := dkwX3_draws_1 ++ []
def dkwX3_draws_0 : List UInt8 := [42, 180, 0, 9, 16, 8, 42, 180, 0, 9, 16, 8, 46, 133, 20, 2, 80, 105, 20, 2, 82, 97]
abbrev dktX3_draws_0 : List UInt8 := dkwX3_draws_0 ++ dktX3_draws_1
theorem dksX3_draws_0 : cX3_draws.data.toList.drop 0 = dktX3_draws_0 := by decide +kernel
theorem dksX3_draws_1 : cX3_draws.data.toList.drop 22 = dktX3_draws_1 := dk_seg dksX3_draws_0 22 rfl rfl
theorem dX3_draws_0 : decode cX3_draws 0 = .ok (.aload_n 0, 1) := dk_42 (dk_at dksX3_draws_0 0 rfl rfl)
theorem dX3_draws_1 : decode cX3_draws 1 = .ok (.getfield 9, 3) := dk_180 0 9 (dk_at dksX3_draws_0 1 rfl rfl)
theorem dX3_draws_4 : decode cX3_draws 4 = .ok (.bipush 8, 2) := dk_16 8 (dk_at dksX3_draws_0 4 rfl rfl)
theorem dX3_draws_6 : decode cX3_draws 6 = .ok (.aload_n 0, 1) := dk_42 (dk_at dksX3_draws_0 6 rfl rfl)
theorem dX3_draws_7 : decode cX3_draws 7 = .ok (.getfield 9, 3) := dk_180 0 9 (dk_at dksX3_draws_0 7 rfl rfl)
theorem dX3_draws_10 : decode cX3_draws 10 = .ok (.bipush 8, 2) := dk_16 8 (dk_at dksX3_draws_0 10 rfl rfl)
theorem dX3_draws_12 : decode cX3_draws 12 = .ok (.iaload, 1) := dk_46 (dk_at dksX3_draws_0 12 rfl rfl)
theorem dX3_draws_13 : decode cX3_draws 13 = .ok (.i2l, 1) := dk_133 (dk_at dksX3_draws_0 13 rfl rfl)
theorem dX3_draws_14 : decode cX3_draws 14 = .ok (.ldc2_w 592, 3) := dk_20 2 80 (dk_at dksX3_draws_0 14 rfl rfl)
theorem dX3_draws_17 : decode cX3_draws 17 = .ok (.lmul, 1) := dk_105 (dk_at dksX3_draws_0 17 rfl rfl)
theorem dX3_draws_18 : decode cX3_draws 18 = .ok (.ldc2_w 594, 3) := dk_20 2 82 (dk_at dksX3_draws_0 18 rfl rfl)
theorem dX3_draws_21 : decode cX3_draws 21 = .ok (.ladd, 1) := dk_97 (dk_at dksX3_draws_0 21 rfl rfl)
theorem dX3_draws_22 : decode cX3_draws 22 = .ok (.ldc2_w 596, 3) := dk_20 2 84 (dk_at dksX3_draws_1 0 rfl rfl)
theorem dX3_draws_25 : decode cX3_draws 25 = .ok (.lrem, 1) := dk_113 (dk_at dksX3_draws_1 3 rfl rfl)
theorem dX3_draws_26 : decode cX3_draws 26 = .ok (.l2i, 1) := dk_136 (dk_at dksX3_draws_1 4 rfl rfl)
theorem dX3_draws_27 : decode cX3_draws 27 = .ok (.iastore, 1) := dk_79 (dk_at dksX3_draws_1 5 rfl rfl)
theorem dX3_draws_28 : decode cX3_draws 28 = .ok (.aload_n 0, 1) := dk_42 (dk_at dksX3_draws_1 6 rfl rfl)
theorem dX3_draws_29 : decode cX3_draws 29 = .ok (.getfield 9, 3) := dk_180 0 9 (dk_at dksX3_draws_1 7 rfl rfl)
theorem dX3_draws_32 : decode cX3_draws 32 = .ok (.bipush 8, 2) := dk_16 8 (dk_at dksX3_draws_1 10 rfl rfl)
theorem dX3_draws_34 : decode cX3_draws 34 = .ok (.iaload, 1) := dk_46 (dk_at dksX3_draws_1 12 rfl rfl)
theorem dX3_draws_35 : decode cX3_draws 35 = .ok (.ldc_w 598, 3) := dk_19 2 86 (dk_at dksX3_draws_1 13 rfl rfl)
theorem dX3_draws_38 : decode cX3_draws 38 = .ok (.idiv, 1) := dk_108 (dk_at dksX3_draws_1 16 rfl rfl)
theorem dX3_draws_39 : decode cX3_draws 39 = .ok (.iload_n 1, 1) := dk_27 (dk_at dksX3_draws_1 17 rfl rfl)
theorem dX3_draws_40 : decode cX3_draws 40 = .ok (.irem, 1) := dk_112 (dk_at dksX3_draws_1 18 rfl rfl)
theorem dX3_draws_41 : decode cX3_draws 41 = .ok (.ireturn, 1) := dk_172 (dk_at dksX3_draws_1 19 rfl rfl)
abbrev cX3_count : ByteArray := prog_17_method_123_code
def yX3_count : MethodName := ⟨RX3, "count", "(I)I"⟩
def dkwX3_count_5 : List UInt8 := [16, 7, 46, 172, 42, 180, 1, 103, 172, 42, 180, 0, 9, 16, 8, 46, 172, 42, 180, 0, 184, 172, 2, 172]
abbrev dktX3_count_5 : List UInt8 := dkwX3_count_5 ++ []
def dkwX3_count_4 : List UInt8 := [172, 42, 180, 0, 9, 16, 6, 46, 172, 42, 182, 2, 94, 172, 42, 182, 1, 137, 172, 42, 180, 0, 9]
abbrev dktX3_count_4 : List UInt8 := dkwX3_count_4 ++ dktX3_count_5
def dkwX3_count_3 : List UInt8 := [180, 0, 9, 6, 46, 172, 42, 180, 0, 9, 7, 46, 172, 42, 180, 0, 9, 8, 46, 172, 42, 180, 1, 116]
abbrev dktX3_count_3 : List UInt8 := dkwX3_count_3 ++ dktX3_count_4
def dkwX3_count_2 : List UInt8 := [42, 180, 0, 9, 3, 46, 172, 42, 180, 0, 9, 4, 46, 172, 42, 180, 0, 9, 5, 46, 172, 42]
abbrev dktX3_count_2 : List UInt8 := dkwX3_count_2 ++ dktX3_count_3
def dkwX3_count_1 : List UInt8 := [170, 0, 0, 0, 0, 0, 162, 0, 0, 0, 0, 0, 0, 0, 13, 0, 0, 0, 71, 0, 0, 0, 78, 0, 0, 0, 85, 0, 0, 0, 92, 0, 0, 0, 99, 0, 0, 0, 106, 0, 0, 0, 113, 0, 0, 0, 118, 0, 0, 0, 126, 0, 0, 0, 131, 0, 0, 0, 136, 0, 0, 0, 144, 0, 0, 0, 149, 0, 0, 0, 157]
abbrev dktX3_count_1 : List UInt8 := dkwX3_count_1 ++ dktX3_count_2
def dkwX3_count_0 : List UInt8 := [27]
abbrev dktX3_count_0 : List UInt8 := dkwX3_count_0 ++ dktX3_count_1
theorem dksX3_count_0 : cX3_count.data.toList.drop 0 = dktX3_count_0 := by decide +kernel
theorem dksX3_count_1 : cX3_count.data.toList.drop 1 = dktX3_count_1 := dk_seg dksX3_count_0 1 rfl rfl
theorem dksX3_count_2 : cX3_count.data.toList.drop 72 = dktX3_count_2 := dk_seg dksX3_count_1 71 rfl rfl
theorem dksX3_count_3 : cX3_count.data.toList.drop 94 = dktX3_count_3 := dk_seg dksX3_count_2 22 rfl rfl
theorem dksX3_count_4 : cX3_count.data.toList.drop 118 = dktX3_count_4 := dk_seg dksX3_count_3 24 rfl rfl
theorem dksX3_count_5 : cX3_count.data.toList.drop 141 = dktX3_count_5 := dk_seg dksX3_count_4 23 rfl rfl
theorem dX3_count_0 : decode cX3_count 0 = .ok (.iload_n 1, 1) := dk_27 (dk_at dksX3_count_0 0 rfl rfl)
theorem dX3_count_1 : decode cX3_count 1 = .ok (.tableswitch 162 0 13 #[71, 78, 85, 92, 99, 106, 113, 118, 126, 131, 136, 144, 149, 157], 71) := by decide +kernel
theorem dX3_count_72 : decode cX3_count 72 = .ok (.aload_n 0, 1) := dk_42 (dk_at dksX3_count_2 0 rfl rfl)
theorem dX3_count_73 : decode cX3_count 73 = .ok (.getfield 9, 3) := dk_180 0 9 (dk_at dksX3_count_2 1 rfl rfl)
theorem dX3_count_76 : decode cX3_count 76 = .ok (.iconst 0, 1) := dk_3 (dk_at dksX3_count_2 4 rfl rfl)
theorem dX3_count_77 : decode cX3_count 77 = .ok (.iaload, 1) := dk_46 (dk_at dksX3_count_2 5 rfl rfl)
theorem dX3_count_78 : decode cX3_count 78 = .ok (.ireturn, 1) := dk_172 (dk_at dksX3_count_2 6 rfl rfl)
theorem dX3_count_79 : decode cX3_count 79 = .ok (.aload_n 0, 1) := dk_42 (dk_at dksX3_count_2 7 rfl rfl)
theorem dX3_count_80 : decode cX3_count 80 = .ok (.getfield 9, 3) := dk_180 0 9 (dk_at dksX3_count_2 8 rfl rfl)
theorem dX3_count_83 : decode cX3_count 83 = .ok (.iconst 1, 1) := dk_4 (dk_at dksX3_count_2 11 rfl rfl)
theorem dX3_count_84 : decode cX3_count 84 = .ok (.iaload, 1) := dk_46 (dk_at dksX3_count_2 12 rfl rfl)
theorem dX3_count_85 : decode cX3_count 85 = .ok (.ireturn, 1) := dk_172 (dk_at dksX3_count_2 13 rfl rfl)
theorem dX3_count_86 : decode cX3_count 86 = .ok (.aload_n 0, 1) := dk_42 (dk_at dksX3_count_2 14 rfl rfl)
theorem dX3_count_87 : decode cX3_count 87 = .ok (.getfield 9, 3) := dk_180 0 9 (dk_at dksX3_count_2 15 rfl rfl)
theorem dX3_count_90 : decode cX3_count 90 = .ok (.iconst 2, 1) := dk_5 (dk_at dksX3_count_2 18 rfl rfl)
theorem dX3_count_91 : decode cX3_count 91 = .ok (.iaload, 1) := dk_46 (dk_at dksX3_count_2 19 rfl rfl)
theorem dX3_count_92 : decode cX3_count 92 = .ok (.ireturn, 1) := dk_172 (dk_at dksX3_count_2 20 rfl rfl)
theorem dX3_count_93 : decode cX3_count 93 = .ok (.aload_n 0, 1) := dk_42 (dk_at dksX3_count_2 21 rfl rfl)
theorem dX3_count_94 : decode cX3_count 94 = .ok (.getfield 9, 3) := dk_180 0 9 (dk_at dksX3_count_3 0 rfl rfl)
theorem dX3_count_97 : decode cX3_count 97 = .ok (.iconst 3, 1) := dk_6 (dk_at dksX3_count_3 3 rfl rfl)
theorem dX3_count_98 : decode cX3_count 98 = .ok (.iaload, 1) := dk_46 (dk_at dksX3_count_3 4 rfl rfl)
theorem dX3_count_99 : decode cX3_count 99 = .ok (.ireturn, 1) := dk_172 (dk_at dksX3_count_3 5 rfl rfl)
theorem dX3_count_100 : decode cX3_count 100 = .ok (.aload_n 0, 1) := dk_42 (dk_at dksX3_count_3 6 rfl rfl)
theorem dX3_count_101 : decode cX3_count 101 = .ok (.getfield 9, 3) := dk_180 0 9 (dk_at dksX3_count_3 7 rfl rfl)
theorem dX3_count_104 : decode cX3_count 104 = .ok (.iconst 4, 1) := dk_7 (dk_at dksX3_count_3 10 rfl rfl)
theorem dX3_count_105 : decode cX3_count 105 = .ok (.iaload, 1) := dk_46 (dk_at dksX3_count_3 11 rfl rfl)
theorem dX3_count_106 : decode cX3_count 106 = .ok (.ireturn, 1) := dk_172 (dk_at dksX3_count_3 12 rfl rfl)
theorem dX3_count_107 : decode cX3_count 107 = .ok (.aload_n 0, 1) := dk_42 (dk_at dksX3_count_3 13 rfl rfl)
theorem dX3_count_108 : decode cX3_count 108 = .ok (.getfield 9, 3) := dk_180 0 9 (dk_at dksX3_count_3 14 rfl rfl)
theorem dX3_count_111 : decode cX3_count 111 = .ok (.iconst 5, 1) := dk_8 (dk_at dksX3_count_3 17 rfl rfl)
theorem dX3_count_112 : decode cX3_count 112 = .ok (.iaload, 1) := dk_46 (dk_at dksX3_count_3 18 rfl rfl)
theorem dX3_count_113 : decode cX3_count 113 = .ok (.ireturn, 1) := dk_172 (dk_at dksX3_count_3 19 rfl rfl)
theorem dX3_count_114 : decode cX3_count 114 = .ok (.aload_n 0, 1) := dk_42 (dk_at dksX3_count_3 20 rfl rfl)
theorem dX3_count_115 : decode cX3_count 115 = .ok (.getfield 372, 3) := dk_180 1 116 (dk_at dksX3_count_3 21 rfl rfl)
theorem dX3_count_118 : decode cX3_count 118 = .ok (.ireturn, 1) := dk_172 (dk_at dksX3_count_4 0 rfl rfl)
theorem dX3_count_119 : decode cX3_count 119 = .ok (.aload_n 0, 1) := dk_42 (dk_at dksX3_count_4 1 rfl rfl)
theorem dX3_count_120 : decode cX3_count 120 = .ok (.getfield 9, 3) := dk_180 0 9 (dk_at dksX3_count_4 2 rfl rfl)
theorem dX3_count_123 : decode cX3_count 123 = .ok (.bipush 6, 2) := dk_16 6 (dk_at dksX3_count_4 5 rfl rfl)
theorem dX3_count_125 : decode cX3_count 125 = .ok (.iaload, 1) := dk_46 (dk_at dksX3_count_4 7 rfl rfl)
theorem dX3_count_126 : decode cX3_count 126 = .ok (.ireturn, 1) := dk_172 (dk_at dksX3_count_4 8 rfl rfl)
theorem dX3_count_127 : decode cX3_count 127 = .ok (.aload_n 0, 1) := dk_42 (dk_at dksX3_count_4 9 rfl rfl)
theorem dX3_count_128 : decode cX3_count 128 = .ok (.invokevirtual 606, 3) := dk_182 2 94 (dk_at dksX3_count_4 10 rfl rfl)
theorem dX3_count_131 : decode cX3_count 131 = .ok (.ireturn, 1) := dk_172 (dk_at dksX3_count_4 13 rfl rfl)
theorem dX3_count_132 : decode cX3_count 132 = .ok (.aload_n 0, 1) := dk_42 (dk_at dksX3_count_4 14 rfl rfl)
theorem dX3_count_133 : decode cX3_count 133 = .ok (.invokevirtual 393, 3) := dk_182 1 137 (dk_at dksX3_count_4 15 rfl rfl)
theorem dX3_count_136 : decode cX3_count 136 = .ok (.ireturn, 1) := dk_172 (dk_at dksX3_count_4 18 rfl rfl)
theorem dX3_count_137 : decode cX3_count 137 = .ok (.aload_n 0, 1) := dk_42 (dk_at dksX3_count_4 19 rfl rfl)
theorem dX3_count_138 : decode cX3_count 138 = .ok (.getfield 9, 3) := dk_180 0 9 (dk_at dksX3_count_4 20 rfl rfl)
theorem dX3_count_141 : decode cX3_count 141 = .ok (.bipush 7, 2) := dk_16 7 (dk_at dksX3_count_5 0 rfl rfl)
theorem dX3_count_143 : decode cX3_count 143 = .ok (.iaload, 1) := dk_46 (dk_at dksX3_count_5 2 rfl rfl)
theorem dX3_count_144 : decode cX3_count 144 = .ok (.ireturn, 1) := dk_172 (dk_at dksX3_count_5 3 rfl rfl)
theorem dX3_count_145 : decode cX3_count 145 = .ok (.aload_n 0, 1) := dk_42 (dk_at dksX3_count_5 4 rfl rfl)
theorem dX3_count_146 : decode cX3_count 146 = .ok (.getfield 359, 3) := dk_180 1 103 (dk_at dksX3_count_5 5 rfl rfl)
theorem dX3_count_149 : decode cX3_count 149 = .ok (.ireturn, 1) := dk_172 (dk_at dksX3_count_5 8 rfl rfl)
theorem dX3_count_150 : decode cX3_count 150 = .ok (.aload_n 0, 1) := dk_42 (dk_at dksX3_count_5 9 rfl rfl)
theorem dX3_count_151 : decode cX3_count 151 = .ok (.getfield 9, 3) := dk_180 0 9 (dk_at dksX3_count_5 10 rfl rfl)
theorem dX3_count_154 : decode cX3_count 154 = .ok (.bipush 8, 2) := dk_16 8 (dk_at dksX3_count_5 13 rfl rfl)
theorem dX3_count_156 : decode cX3_count 156 = .ok (.iaload, 1) := dk_46 (dk_at dksX3_count_5 15 rfl rfl)
theorem dX3_count_157 : decode cX3_count 157 = .ok (.ireturn, 1) := dk_172 (dk_at dksX3_count_5 16 rfl rfl)
theorem dX3_count_158 : decode cX3_count 158 = .ok (.aload_n 0, 1) := dk_42 (dk_at dksX3_count_5 17 rfl rfl)
theorem dX3_count_159 : decode cX3_count 159 = .ok (.getfield 184, 3) := dk_180 0 184 (dk_at dksX3_count_5 18 rfl rfl)
theorem dX3_count_162 : decode cX3_count 162 = .ok (.ireturn, 1) := dk_172 (dk_at dksX3_count_5 21 rfl rfl)
theorem dX3_count_163 : decode cX3_count 163 = .ok (.iconst (-1), 1) := dk_2 (dk_at dksX3_count_5 22 rfl rfl)
theorem dX3_count_164 : decode cX3_count 164 = .ok (.ireturn, 1) := dk_172 (dk_at dksX3_count_5 23 rfl rfl)
abbrev cX3_pieces : ByteArray := prog_17_method_122_code
def yX3_pieces : MethodName := ⟨RX3, "pieces", "()I"⟩
def dkwX3_pieces_2 : List UInt8 := [167, 255, 214, 27, 172]
abbrev dktX3_pieces_2 : List UInt8 := dkwX3_pieces_2 ++ []
def dkwX3_pieces_1 : List UInt8 := [42, 28, 182, 1, 168, 184, 1, 165, 28, 160, 0, 7, 4, 167, 0, 4, 3, 96, 60, 132, 2, 1]
abbrev dktX3_pieces_1 : List UInt8 := dkwX3_pieces_1 ++ dktX3_pieces_2
def dkwX3_pieces_0 : List UInt8 := [3, 60, 3, 61, 28, 42, 180, 0, 9, 6, 46, 162, 0, 38, 27, 42, 180, 0, 34, 28, 46, 154, 0, 19]
abbrev dktX3_pieces_0 : List UInt8 := dkwX3_pieces_0 ++ dktX3_pieces_1
theorem dksX3_pieces_0 : cX3_pieces.data.toList.drop 0 = dktX3_pieces_0 := by decide +kernel
theorem dksX3_pieces_1 : cX3_pieces.data.toList.drop 24 = dktX3_pieces_1 := dk_seg dksX3_pieces_0 24 rfl rfl
theorem dksX3_pieces_2 : cX3_pieces.data.toList.drop 46 = dktX3_pieces_2 := dk_seg dksX3_pieces_1 22 rfl rfl
theorem dX3_pieces_0 : decode cX3_pieces 0 = .ok (.iconst 0, 1) := dk_3 (dk_at dksX3_pieces_0 0 rfl rfl)
theorem dX3_pieces_1 : decode cX3_pieces 1 = .ok (.istore_n 1, 1) := dk_60 (dk_at dksX3_pieces_0 1 rfl rfl)
theorem dX3_pieces_2 : decode cX3_pieces 2 = .ok (.iconst 0, 1) := dk_3 (dk_at dksX3_pieces_0 2 rfl rfl)
theorem dX3_pieces_3 : decode cX3_pieces 3 = .ok (.istore_n 2, 1) := dk_61 (dk_at dksX3_pieces_0 3 rfl rfl)
theorem dX3_pieces_4 : decode cX3_pieces 4 = .ok (.iload_n 2, 1) := dk_28 (dk_at dksX3_pieces_0 4 rfl rfl)
theorem dX3_pieces_5 : decode cX3_pieces 5 = .ok (.aload_n 0, 1) := dk_42 (dk_at dksX3_pieces_0 5 rfl rfl)
theorem dX3_pieces_6 : decode cX3_pieces 6 = .ok (.getfield 9, 3) := dk_180 0 9 (dk_at dksX3_pieces_0 6 rfl rfl)
theorem dX3_pieces_9 : decode cX3_pieces 9 = .ok (.iconst 3, 1) := dk_6 (dk_at dksX3_pieces_0 9 rfl rfl)
theorem dX3_pieces_10 : decode cX3_pieces 10 = .ok (.iaload, 1) := dk_46 (dk_at dksX3_pieces_0 10 rfl rfl)
theorem dX3_pieces_11 : decode cX3_pieces 11 = .ok (.if_icmp .ge 38, 3) := dk_162 0 38 (dk_at dksX3_pieces_0 11 rfl rfl)
theorem dX3_pieces_14 : decode cX3_pieces 14 = .ok (.iload_n 1, 1) := dk_27 (dk_at dksX3_pieces_0 14 rfl rfl)
theorem dX3_pieces_15 : decode cX3_pieces 15 = .ok (.aload_n 0, 1) := dk_42 (dk_at dksX3_pieces_0 15 rfl rfl)
theorem dX3_pieces_16 : decode cX3_pieces 16 = .ok (.getfield 34, 3) := dk_180 0 34 (dk_at dksX3_pieces_0 16 rfl rfl)
theorem dX3_pieces_19 : decode cX3_pieces 19 = .ok (.iload_n 2, 1) := dk_28 (dk_at dksX3_pieces_0 19 rfl rfl)
theorem dX3_pieces_20 : decode cX3_pieces 20 = .ok (.iaload, 1) := dk_46 (dk_at dksX3_pieces_0 20 rfl rfl)
theorem dX3_pieces_21 : decode cX3_pieces 21 = .ok (.ifCond .ne 19, 3) := dk_154 0 19 (dk_at dksX3_pieces_0 21 rfl rfl)
theorem dX3_pieces_24 : decode cX3_pieces 24 = .ok (.aload_n 0, 1) := dk_42 (dk_at dksX3_pieces_1 0 rfl rfl)
theorem dX3_pieces_25 : decode cX3_pieces 25 = .ok (.iload_n 2, 1) := dk_28 (dk_at dksX3_pieces_1 1 rfl rfl)
theorem dX3_pieces_26 : decode cX3_pieces 26 = .ok (.invokevirtual 424, 3) := dk_182 1 168 (dk_at dksX3_pieces_1 2 rfl rfl)
theorem dX3_pieces_29 : decode cX3_pieces 29 = .ok (.invokestatic 421, 3) := dk_184 1 165 (dk_at dksX3_pieces_1 5 rfl rfl)
theorem dX3_pieces_32 : decode cX3_pieces 32 = .ok (.iload_n 2, 1) := dk_28 (dk_at dksX3_pieces_1 8 rfl rfl)
theorem dX3_pieces_33 : decode cX3_pieces 33 = .ok (.if_icmp .ne 7, 3) := dk_160 0 7 (dk_at dksX3_pieces_1 9 rfl rfl)
theorem dX3_pieces_36 : decode cX3_pieces 36 = .ok (.iconst 1, 1) := dk_4 (dk_at dksX3_pieces_1 12 rfl rfl)
theorem dX3_pieces_37 : decode cX3_pieces 37 = .ok (.goto 4, 3) := dk_167 0 4 (dk_at dksX3_pieces_1 13 rfl rfl)
theorem dX3_pieces_40 : decode cX3_pieces 40 = .ok (.iconst 0, 1) := dk_3 (dk_at dksX3_pieces_1 16 rfl rfl)
theorem dX3_pieces_41 : decode cX3_pieces 41 = .ok (.iadd, 1) := dk_96 (dk_at dksX3_pieces_1 17 rfl rfl)
theorem dX3_pieces_42 : decode cX3_pieces 42 = .ok (.istore_n 1, 1) := dk_60 (dk_at dksX3_pieces_1 18 rfl rfl)
theorem dX3_pieces_43 : decode cX3_pieces 43 = .ok (.iinc 2 1, 3) := dk_132 2 1 (dk_at dksX3_pieces_1 19 rfl rfl)
theorem dX3_pieces_46 : decode cX3_pieces 46 = .ok (.goto (-42), 3) := dk_167 255 214 (dk_at dksX3_pieces_2 0 rfl rfl)
theorem dX3_pieces_49 : decode cX3_pieces 49 = .ok (.iload_n 1, 1) := dk_27 (dk_at dksX3_pieces_2 3 rfl rfl)
theorem dX3_pieces_50 : decode cX3_pieces 50 = .ok (.ireturn, 1) := dk_172 (dk_at dksX3_pieces_2 4 rfl rfl)
abbrev cX3_image : ByteArray := prog_17_method_126_code
def yX3_image : MethodName := ⟨RX3, "image", "(I)I"⟩
def dkwX3_image_1 : List UInt8 := [182, 2, 4, 42, 180, 0, 9, 16, 6, 46, 172]
abbrev dktX3_image_1 : List UInt8 := dkwX3_image_1 ++ []
def dkwX3_image_0 : List UInt8 := [27, 133, 9, 20, 2, 7, 184, 0, 176, 154, 0, 5, 2, 172, 42, 180, 0, 170, 27, 4, 84, 42, 27, 3]
abbrev dktX3_image_0 : List UInt8 := dkwX3_image_0 ++ dktX3_image_1
theorem dksX3_image_0 : cX3_image.data.toList.drop 0 = dktX3_image_0 := by decide +kernel
theorem dksX3_image_1 : cX3_image.data.toList.drop 24 = dktX3_image_1 := dk_seg dksX3_image_0 24 rfl rfl
theorem dX3_image_0 : decode cX3_image 0 = .ok (.iload_n 1, 1) := dk_27 (dk_at dksX3_image_0 0 rfl rfl)
theorem dX3_image_1 : decode cX3_image 1 = .ok (.i2l, 1) := dk_133 (dk_at dksX3_image_0 1 rfl rfl)
theorem dX3_image_2 : decode cX3_image 2 = .ok (.lconst 0, 1) := dk_9 (dk_at dksX3_image_0 2 rfl rfl)
theorem dX3_image_3 : decode cX3_image 3 = .ok (.ldc2_w 519, 3) := dk_20 2 7 (dk_at dksX3_image_0 3 rfl rfl)
theorem dX3_image_6 : decode cX3_image 6 = .ok (.invokestatic 176, 3) := dk_184 0 176 (dk_at dksX3_image_0 6 rfl rfl)
theorem dX3_image_9 : decode cX3_image 9 = .ok (.ifCond .ne 5, 3) := dk_154 0 5 (dk_at dksX3_image_0 9 rfl rfl)
theorem dX3_image_12 : decode cX3_image 12 = .ok (.iconst (-1), 1) := dk_2 (dk_at dksX3_image_0 12 rfl rfl)
theorem dX3_image_13 : decode cX3_image 13 = .ok (.ireturn, 1) := dk_172 (dk_at dksX3_image_0 13 rfl rfl)
theorem dX3_image_14 : decode cX3_image 14 = .ok (.aload_n 0, 1) := dk_42 (dk_at dksX3_image_0 14 rfl rfl)
theorem dX3_image_15 : decode cX3_image 15 = .ok (.getfield 170, 3) := dk_180 0 170 (dk_at dksX3_image_0 15 rfl rfl)
theorem dX3_image_18 : decode cX3_image 18 = .ok (.iload_n 1, 1) := dk_27 (dk_at dksX3_image_0 18 rfl rfl)
theorem dX3_image_19 : decode cX3_image 19 = .ok (.iconst 1, 1) := dk_4 (dk_at dksX3_image_0 19 rfl rfl)
theorem dX3_image_20 : decode cX3_image 20 = .ok (.bastore, 1) := dk_84 (dk_at dksX3_image_0 20 rfl rfl)
theorem dX3_image_21 : decode cX3_image 21 = .ok (.aload_n 0, 1) := dk_42 (dk_at dksX3_image_0 21 rfl rfl)
theorem dX3_image_22 : decode cX3_image 22 = .ok (.iload_n 1, 1) := dk_27 (dk_at dksX3_image_0 22 rfl rfl)
theorem dX3_image_23 : decode cX3_image 23 = .ok (.iconst 0, 1) := dk_3 (dk_at dksX3_image_0 23 rfl rfl)
theorem dX3_image_24 : decode cX3_image 24 = .ok (.invokevirtual 516, 3) := dk_182 2 4 (dk_at dksX3_image_1 0 rfl rfl)
theorem dX3_image_27 : decode cX3_image 27 = .ok (.aload_n 0, 1) := dk_42 (dk_at dksX3_image_1 3 rfl rfl)
theorem dX3_image_28 : decode cX3_image 28 = .ok (.getfield 9, 3) := dk_180 0 9 (dk_at dksX3_image_1 4 rfl rfl)
theorem dX3_image_31 : decode cX3_image 31 = .ok (.bipush 6, 2) := dk_16 6 (dk_at dksX3_image_1 7 rfl rfl)
theorem dX3_image_33 : decode cX3_image 33 = .ok (.iaload, 1) := dk_46 (dk_at dksX3_image_1 9 rfl rfl)
theorem dX3_image_34 : decode cX3_image 34 = .ok (.ireturn, 1) := dk_172 (dk_at dksX3_image_1 10 rfl rfl)
abbrev cX3_back : ByteArray := prog_17_method_127_code
def yX3_back : MethodName := ⟨RX3, "back", "(I)I"⟩
def dkwX3_back_1 : List UInt8 := [27, 4, 182, 2, 4, 42, 180, 0, 9, 16, 6, 46, 172]
abbrev dktX3_back_1 : List UInt8 := dkwX3_back_1 ++ []
def dkwX3_back_0 : List UInt8 := [27, 133, 9, 20, 2, 7, 184, 0, 176, 153, 0, 12, 42, 180, 0, 170, 27, 51, 154, 0, 5, 2, 172, 42]
abbrev dktX3_back_0 : List UInt8 := dkwX3_back_0 ++ dktX3_back_1
theorem dksX3_back_0 : cX3_back.data.toList.drop 0 = dktX3_back_0 := by decide +kernel
theorem dksX3_back_1 : cX3_back.data.toList.drop 24 = dktX3_back_1 := dk_seg dksX3_back_0 24 rfl rfl
theorem dX3_back_0 : decode cX3_back 0 = .ok (.iload_n 1, 1) := dk_27 (dk_at dksX3_back_0 0 rfl rfl)
theorem dX3_back_1 : decode cX3_back 1 = .ok (.i2l, 1) := dk_133 (dk_at dksX3_back_0 1 rfl rfl)
theorem dX3_back_2 : decode cX3_back 2 = .ok (.lconst 0, 1) := dk_9 (dk_at dksX3_back_0 2 rfl rfl)
theorem dX3_back_3 : decode cX3_back 3 = .ok (.ldc2_w 519, 3) := dk_20 2 7 (dk_at dksX3_back_0 3 rfl rfl)
theorem dX3_back_6 : decode cX3_back 6 = .ok (.invokestatic 176, 3) := dk_184 0 176 (dk_at dksX3_back_0 6 rfl rfl)
theorem dX3_back_9 : decode cX3_back 9 = .ok (.ifCond .eq 12, 3) := dk_153 0 12 (dk_at dksX3_back_0 9 rfl rfl)
theorem dX3_back_12 : decode cX3_back 12 = .ok (.aload_n 0, 1) := dk_42 (dk_at dksX3_back_0 12 rfl rfl)
theorem dX3_back_13 : decode cX3_back 13 = .ok (.getfield 170, 3) := dk_180 0 170 (dk_at dksX3_back_0 13 rfl rfl)
theorem dX3_back_16 : decode cX3_back 16 = .ok (.iload_n 1, 1) := dk_27 (dk_at dksX3_back_0 16 rfl rfl)
theorem dX3_back_17 : decode cX3_back 17 = .ok (.baload, 1) := dk_51 (dk_at dksX3_back_0 17 rfl rfl)
theorem dX3_back_18 : decode cX3_back 18 = .ok (.ifCond .ne 5, 3) := dk_154 0 5 (dk_at dksX3_back_0 18 rfl rfl)
theorem dX3_back_21 : decode cX3_back 21 = .ok (.iconst (-1), 1) := dk_2 (dk_at dksX3_back_0 21 rfl rfl)
theorem dX3_back_22 : decode cX3_back 22 = .ok (.ireturn, 1) := dk_172 (dk_at dksX3_back_0 22 rfl rfl)
theorem dX3_back_23 : decode cX3_back 23 = .ok (.aload_n 0, 1) := dk_42 (dk_at dksX3_back_0 23 rfl rfl)
theorem dX3_back_24 : decode cX3_back 24 = .ok (.iload_n 1, 1) := dk_27 (dk_at dksX3_back_1 0 rfl rfl)
theorem dX3_back_25 : decode cX3_back 25 = .ok (.iconst 1, 1) := dk_4 (dk_at dksX3_back_1 1 rfl rfl)
theorem dX3_back_26 : decode cX3_back 26 = .ok (.invokevirtual 516, 3) := dk_182 2 4 (dk_at dksX3_back_1 2 rfl rfl)
theorem dX3_back_29 : decode cX3_back 29 = .ok (.aload_n 0, 1) := dk_42 (dk_at dksX3_back_1 5 rfl rfl)
theorem dX3_back_30 : decode cX3_back 30 = .ok (.getfield 9, 3) := dk_180 0 9 (dk_at dksX3_back_1 6 rfl rfl)
theorem dX3_back_33 : decode cX3_back 33 = .ok (.bipush 6, 2) := dk_16 6 (dk_at dksX3_back_1 9 rfl rfl)
theorem dX3_back_35 : decode cX3_back 35 = .ok (.iaload, 1) := dk_46 (dk_at dksX3_back_1 11 rfl rfl)
theorem dX3_back_36 : decode cX3_back 36 = .ok (.ireturn, 1) := dk_172 (dk_at dksX3_back_1 12 rfl rfl)
theorem q144 : (Jvm.Cond.initialized "PartyRaftModel") ∈ lw_all := lw_g (lw_at lw_m1 7 rfl) rfl
theorem q1263 : (Jvm.Cond.instantiable "PartyRaftModel" (73 : Nat)) ∈ lw_all := lw_g (lw_at lw_m5 166 rfl) rfl
theorem q1265 : (Jvm.Cond.instanceMethod ({ cls := "PartyRaftModel", name := "<init>", desc := "()V" } : Jvm.MethodName)) ∈ lw_all := lw_g (lw_at lw_m5 168 rfl) rfl
theorem q1266 : (Jvm.Cond.code ({ cls := "PartyRaftModel", name := "<init>", desc := "()V" } : Jvm.MethodName) prog_17_method_1_code (1 : Nat) (Option.none : Option Jvm.ClassFile.FieldType)) ∈ lw_all := lw_g (lw_at lw_m5 169 rfl) rfl
theorem q1267 : (Jvm.Cond.methodLink "PartyRaftModel" (3 : Nat) ({ cls := "java/lang/Object", name := "<init>", desc := "()V" } : Jvm.MethodName)) ∈ lw_all := lw_g (lw_at lw_m5 170 rfl) rfl
theorem q1268 : (Jvm.Cond.fieldLink "PartyRaftModel" (9 : Nat) "PartyRaftModel" "scalar" "[I") ∈ lw_all := lw_g (lw_at lw_m5 171 rfl) rfl
theorem q1269 : (Jvm.Cond.fieldLink "PartyRaftModel" (13 : Nat) "PartyRaftModel" "landing" "[I") ∈ lw_all := lw_g (lw_at lw_m5 172 rfl) rfl
theorem q1270 : (Jvm.Cond.fieldLink "PartyRaftModel" (16 : Nat) "PartyRaftModel" "heavy" "[I") ∈ lw_all := lw_g (lw_at lw_m5 173 rfl) rfl
theorem q1271 : (Jvm.Cond.fieldLink "PartyRaftModel" (19 : Nat) "PartyRaftModel" "fate" "[I") ∈ lw_all := lw_g (lw_at lw_m5 174 rfl) rfl
theorem q1272 : (Jvm.Cond.fieldLink "PartyRaftModel" (22 : Nat) "PartyRaftModel" "of" "[I") ∈ lw_all := lw_g (lw_at lw_m5 175 rfl) rfl
theorem q1273 : (Jvm.Cond.fieldLink "PartyRaftModel" (25 : Nat) "PartyRaftModel" "weight" "[I") ∈ lw_all := lw_g (lw_at lw_m5 176 rfl) rfl
theorem q1274 : (Jvm.Cond.fieldLink "PartyRaftModel" (28 : Nat) "PartyRaftModel" "floats" "[I") ∈ lw_all := lw_g (lw_at lw_m5 177 rfl) rfl
theorem q1275 : (Jvm.Cond.fieldLink "PartyRaftModel" (31 : Nat) "PartyRaftModel" "soak" "[I") ∈ lw_all := lw_g (lw_at lw_m5 178 rfl) rfl
theorem q1276 : (Jvm.Cond.fieldLink "PartyRaftModel" (34 : Nat) "PartyRaftModel" "where" "[I") ∈ lw_all := lw_g (lw_at lw_m5 179 rfl) rfl
theorem q1277 : (Jvm.Cond.fieldLink "PartyRaftModel" (37 : Nat) "PartyRaftModel" "sankAt" "[I") ∈ lw_all := lw_g (lw_at lw_m5 180 rfl) rfl
theorem q1278 : (Jvm.Cond.fieldLink "PartyRaftModel" (40 : Nat) "PartyRaftModel" "ropeOne" "[I") ∈ lw_all := lw_g (lw_at lw_m5 181 rfl) rfl
theorem q1279 : (Jvm.Cond.fieldLink "PartyRaftModel" (43 : Nat) "PartyRaftModel" "ropeOther" "[I") ∈ lw_all := lw_g (lw_at lw_m5 182 rfl) rfl
theorem q1280 : (Jvm.Cond.fieldLink "PartyRaftModel" (46 : Nat) "PartyRaftModel" "strength" "[I") ∈ lw_all := lw_g (lw_at lw_m5 183 rfl) rfl
theorem q1281 : (Jvm.Cond.fieldLink "PartyRaftModel" (49 : Nat) "PartyRaftModel" "rapidMile" "[I") ∈ lw_all := lw_g (lw_at lw_m5 184 rfl) rfl
theorem q1282 : (Jvm.Cond.fieldLink "PartyRaftModel" (52 : Nat) "PartyRaftModel" "force" "[I") ∈ lw_all := lw_g (lw_at lw_m5 185 rfl) rfl
theorem q1283 : (Jvm.Cond.fieldLink "PartyRaftModel" (55 : Nat) "PartyRaftModel" "offerWeight" "[I") ∈ lw_all := lw_g (lw_at lw_m5 186 rfl) rfl
theorem q1284 : (Jvm.Cond.fieldLink "PartyRaftModel" (58 : Nat) "PartyRaftModel" "offerFloat" "[I") ∈ lw_all := lw_g (lw_at lw_m5 187 rfl) rfl
theorem q1285 : (Jvm.Cond.fieldLink "PartyRaftModel" (61 : Nat) "PartyRaftModel" "offerSoak" "[I") ∈ lw_all := lw_g (lw_at lw_m5 188 rfl) rfl
theorem q1286 : (Jvm.Cond.fieldLink "PartyRaftModel" (64 : Nat) "PartyRaftModel" "newScalar" "[I") ∈ lw_all := lw_g (lw_at lw_m5 189 rfl) rfl
theorem q1287 : (Jvm.Cond.fieldLink "PartyRaftModel" (67 : Nat) "PartyRaftModel" "newLanding" "[I") ∈ lw_all := lw_g (lw_at lw_m5 190 rfl) rfl
theorem q1288 : (Jvm.Cond.fieldLink "PartyRaftModel" (70 : Nat) "PartyRaftModel" "newHeavy" "[I") ∈ lw_all := lw_g (lw_at lw_m5 191 rfl) rfl
theorem q1289 : (Jvm.Cond.fieldLink "PartyRaftModel" (73 : Nat) "PartyRaftModel" "newOf" "[I") ∈ lw_all := lw_g (lw_at lw_m5 192 rfl) rfl
theorem q1290 : (Jvm.Cond.fieldLink "PartyRaftModel" (76 : Nat) "PartyRaftModel" "newWeight" "[I") ∈ lw_all := lw_g (lw_at lw_m5 193 rfl) rfl
theorem q1291 : (Jvm.Cond.fieldLink "PartyRaftModel" (79 : Nat) "PartyRaftModel" "newFloats" "[I") ∈ lw_all := lw_g (lw_at lw_m5 194 rfl) rfl
theorem q1292 : (Jvm.Cond.fieldLink "PartyRaftModel" (82 : Nat) "PartyRaftModel" "newSoak" "[I") ∈ lw_all := lw_g (lw_at lw_m5 195 rfl) rfl
theorem q1293 : (Jvm.Cond.fieldLink "PartyRaftModel" (85 : Nat) "PartyRaftModel" "newRopeOne" "[I") ∈ lw_all := lw_g (lw_at lw_m5 196 rfl) rfl
theorem q1294 : (Jvm.Cond.fieldLink "PartyRaftModel" (88 : Nat) "PartyRaftModel" "newRopeOther" "[I") ∈ lw_all := lw_g (lw_at lw_m5 197 rfl) rfl
theorem q1295 : (Jvm.Cond.fieldLink "PartyRaftModel" (91 : Nat) "PartyRaftModel" "newStrength" "[I") ∈ lw_all := lw_g (lw_at lw_m5 198 rfl) rfl
theorem q1296 : (Jvm.Cond.fieldLink "PartyRaftModel" (94 : Nat) "PartyRaftModel" "newRapidMile" "[I") ∈ lw_all := lw_g (lw_at lw_m5 199 rfl) rfl
theorem q1297 : (Jvm.Cond.fieldLink "PartyRaftModel" (97 : Nat) "PartyRaftModel" "newForce" "[I") ∈ lw_all := lw_g (lw_at lw_m5 200 rfl) rfl
theorem q1298 : (Jvm.Cond.fieldLink "PartyRaftModel" (184 : Nat) "PartyRaftModel" "taped" "I") ∈ lw_all := lw_g (lw_at lw_m5 201 rfl) rfl
theorem q1299 : (Jvm.Cond.fieldLink "PartyRaftModel" (215 : Nat) "PartyRaftModel" "p" "I") ∈ lw_all := lw_g (lw_at lw_m5 202 rfl) rfl
theorem q1300 : (Jvm.Cond.fieldLink "PartyRaftModel" (212 : Nat) "PartyRaftModel" "fault" "I") ∈ lw_all := lw_g (lw_at lw_m5 203 rfl) rfl
theorem q1301 : (Jvm.Cond.fieldLink "PartyRaftModel" (242 : Nat) "PartyRaftModel" "slot" "I") ∈ lw_all := lw_g (lw_at lw_m5 204 rfl) rfl
theorem q1302 : (Jvm.Cond.fieldLink "PartyRaftModel" (372 : Nat) "PartyRaftModel" "rules" "I") ∈ lw_all := lw_g (lw_at lw_m5 205 rfl) rfl
theorem q1303 : (Jvm.Cond.fieldLink "PartyRaftModel" (245 : Nat) "PartyRaftModel" "entries" "I") ∈ lw_all := lw_g (lw_at lw_m5 206 rfl) rfl
theorem q1304 : (Jvm.Cond.fieldLink "PartyRaftModel" (286 : Nat) "PartyRaftModel" "deep" "I") ∈ lw_all := lw_g (lw_at lw_m5 207 rfl) rfl
theorem q1305 : (Jvm.Cond.fieldLink "PartyRaftModel" (248 : Nat) "PartyRaftModel" "counted" "I") ∈ lw_all := lw_g (lw_at lw_m5 208 rfl) rfl
theorem q1306 : (Jvm.Cond.fieldLink "PartyRaftModel" (283 : Nat) "PartyRaftModel" "opened" "I") ∈ lw_all := lw_g (lw_at lw_m5 209 rfl) rfl
theorem q1307 : (Jvm.Cond.fieldLink "PartyRaftModel" (100 : Nat) "PartyRaftModel" "words" "I") ∈ lw_all := lw_g (lw_at lw_m5 210 rfl) rfl
theorem q1308 : (Jvm.Cond.fieldLink "PartyRaftModel" (104 : Nat) "PartyRaftModel" "tape" "[B") ∈ lw_all := lw_g (lw_at lw_m5 211 rfl) rfl
theorem q1309 : (Jvm.Cond.fieldLink "PartyRaftModel" (108 : Nat) "PartyRaftModel" "sort" "[I") ∈ lw_all := lw_g (lw_at lw_m5 212 rfl) rfl
theorem q1310 : (Jvm.Cond.fieldLink "PartyRaftModel" (111 : Nat) "PartyRaftModel" "number" "[I") ∈ lw_all := lw_g (lw_at lw_m5 213 rfl) rfl
theorem q1311 : (Jvm.Cond.fieldLink "PartyRaftModel" (114 : Nat) "PartyRaftModel" "clauses" "[I") ∈ lw_all := lw_g (lw_at lw_m5 214 rfl) rfl
theorem q1312 : (Jvm.Cond.fieldLink "PartyRaftModel" (117 : Nat) "PartyRaftModel" "sumAt" "[I") ∈ lw_all := lw_g (lw_at lw_m5 215 rfl) rfl
theorem q1313 : (Jvm.Cond.fieldLink "PartyRaftModel" (120 : Nat) "PartyRaftModel" "testAt" "[I") ∈ lw_all := lw_g (lw_at lw_m5 216 rfl) rfl
theorem q1314 : (Jvm.Cond.fieldLink "PartyRaftModel" (123 : Nat) "PartyRaftModel" "endAt" "[I") ∈ lw_all := lw_g (lw_at lw_m5 217 rfl) rfl
theorem q1315 : (Jvm.Cond.fieldLink "PartyRaftModel" (126 : Nat) "PartyRaftModel" "open" "[I") ∈ lw_all := lw_g (lw_at lw_m5 218 rfl) rfl
theorem q1316 : (Jvm.Cond.fieldLink "PartyRaftModel" (129 : Nat) "PartyRaftModel" "asked" "[J") ∈ lw_all := lw_g (lw_at lw_m5 219 rfl) rfl
theorem q1317 : (Jvm.Cond.fieldLink "PartyRaftModel" (133 : Nat) "PartyRaftModel" "stack" "[J") ∈ lw_all := lw_g (lw_at lw_m5 220 rfl) rfl
theorem q1318 : (Jvm.Cond.fieldLink "PartyRaftModel" (463 : Nat) "PartyRaftModel" "landedNow" "I") ∈ lw_all := lw_g (lw_at lw_m5 221 rfl) rfl
theorem q1319 : (Jvm.Cond.fieldLink "PartyRaftModel" (447 : Nat) "PartyRaftModel" "brokeNow" "I") ∈ lw_all := lw_g (lw_at lw_m5 222 rfl) rfl
theorem q1320 : (Jvm.Cond.fieldLink "PartyRaftModel" (136 : Nat) "PartyRaftModel" "past" "[I") ∈ lw_all := lw_g (lw_at lw_m5 223 rfl) rfl
theorem q1321 : (Jvm.Cond.fieldLink "PartyRaftModel" (139 : Nat) "PartyRaftModel" "ring" "[I") ∈ lw_all := lw_g (lw_at lw_m5 224 rfl) rfl
theorem q1322 : (Jvm.Cond.fieldLink "PartyRaftModel" (359 : Nat) "PartyRaftModel" "pastMany" "I") ∈ lw_all := lw_g (lw_at lw_m5 225 rfl) rfl
theorem q1323 : (Jvm.Cond.fieldLink "PartyRaftModel" (473 : Nat) "PartyRaftModel" "pastAt" "I") ∈ lw_all := lw_g (lw_at lw_m5 226 rfl) rfl
theorem q1324 : (Jvm.Cond.fieldLink "PartyRaftModel" (469 : Nat) "PartyRaftModel" "takesBack" "Z") ∈ lw_all := lw_g (lw_at lw_m5 227 rfl) rfl
theorem q1325 : (Jvm.Cond.fieldLink "PartyRaftModel" (142 : Nat) "PartyRaftModel" "row" "[I") ∈ lw_all := lw_g (lw_at lw_m5 228 rfl) rfl
theorem q1326 : (Jvm.Cond.fieldLink "PartyRaftModel" (145 : Nat) "PartyRaftModel" "firstRow" "[I") ∈ lw_all := lw_g (lw_at lw_m5 229 rfl) rfl
theorem q1327 : (Jvm.Cond.fieldLink "PartyRaftModel" (148 : Nat) "PartyRaftModel" "laterAt" "[I") ∈ lw_all := lw_g (lw_at lw_m5 230 rfl) rfl
theorem q1328 : (Jvm.Cond.fieldLink "PartyRaftModel" (533 : Nat) "PartyRaftModel" "laterMany" "I") ∈ lw_all := lw_g (lw_at lw_m5 231 rfl) rfl
theorem q1329 : (Jvm.Cond.fieldLink "PartyRaftModel" (536 : Nat) "PartyRaftModel" "rowCount" "I") ∈ lw_all := lw_g (lw_at lw_m5 232 rfl) rfl
theorem q1330 : (Jvm.Cond.fieldLink "PartyRaftModel" (151 : Nat) "PartyRaftModel" "lock" "[I") ∈ lw_all := lw_g (lw_at lw_m5 233 rfl) rfl
theorem q1331 : (Jvm.Cond.fieldLink "PartyRaftModel" (154 : Nat) "PartyRaftModel" "bestLock" "[I") ∈ lw_all := lw_g (lw_at lw_m5 234 rfl) rfl
theorem q1332 : (Jvm.Cond.fieldLink "PartyRaftModel" (157 : Nat) "PartyRaftModel" "load" "[I") ∈ lw_all := lw_g (lw_at lw_m5 235 rfl) rfl
theorem q1333 : (Jvm.Cond.fieldLink "PartyRaftModel" (557 : Nat) "PartyRaftModel" "fewestLocks" "I") ∈ lw_all := lw_g (lw_at lw_m5 236 rfl) rfl
theorem q1334 : (Jvm.Cond.fieldLink "PartyRaftModel" (160 : Nat) "PartyRaftModel" "group" "[I") ∈ lw_all := lw_g (lw_at lw_m5 237 rfl) rfl
theorem q1335 : (Jvm.Cond.fieldLink "PartyRaftModel" (163 : Nat) "PartyRaftModel" "wins" "[Z") ∈ lw_all := lw_g (lw_at lw_m5 238 rfl) rfl
theorem q1336 : (Jvm.Cond.fieldLink "PartyRaftModel" (167 : Nat) "PartyRaftModel" "images" "[I") ∈ lw_all := lw_g (lw_at lw_m5 239 rfl) rfl
theorem q1337 : (Jvm.Cond.fieldLink "PartyRaftModel" (170 : Nat) "PartyRaftModel" "isMade" "[Z") ∈ lw_all := lw_g (lw_at lw_m6 0 rfl) rfl
theorem q1338 : (Jvm.Cond.fieldLink "PartyRaftModel" (612 : Nat) "PartyRaftModel" "imageAt" "I") ∈ lw_all := lw_g (lw_at lw_m6 1 rfl) rfl
theorem q1339 : (Jvm.Cond.fieldLink "PartyRaftModel" (609 : Nat) "PartyRaftModel" "goesBack" "Z") ∈ lw_all := lw_g (lw_at lw_m6 2 rfl) rfl
theorem q1340 : (Jvm.Cond.lays "PartyRaftModel" "PartyRaftModel" "thrown" "I") ∈ lw_all := lw_g (lw_at lw_m6 3 rfl) rfl
theorem q1341 : (Jvm.Cond.soleField "PartyRaftModel" "thrown") ∈ lw_all := lw_g (lw_at lw_m6 4 rfl) rfl
theorem q1342 : (Jvm.Cond.laysFinal "PartyRaftModel" "PartyRaftModel" "scalar" "[I") ∈ lw_all := lw_g (lw_at lw_m6 5 rfl) rfl
theorem q1343 : (Jvm.Cond.soleField "PartyRaftModel" "scalar") ∈ lw_all := lw_g (lw_at lw_m6 6 rfl) rfl
theorem q1344 : (Jvm.Cond.laysFinal "PartyRaftModel" "PartyRaftModel" "landing" "[I") ∈ lw_all := lw_g (lw_at lw_m6 7 rfl) rfl
theorem q1345 : (Jvm.Cond.soleField "PartyRaftModel" "landing") ∈ lw_all := lw_g (lw_at lw_m6 8 rfl) rfl
theorem q1346 : (Jvm.Cond.laysFinal "PartyRaftModel" "PartyRaftModel" "heavy" "[I") ∈ lw_all := lw_g (lw_at lw_m6 9 rfl) rfl
theorem q1347 : (Jvm.Cond.soleField "PartyRaftModel" "heavy") ∈ lw_all := lw_g (lw_at lw_m6 10 rfl) rfl
theorem q1348 : (Jvm.Cond.laysFinal "PartyRaftModel" "PartyRaftModel" "fate" "[I") ∈ lw_all := lw_g (lw_at lw_m6 11 rfl) rfl
theorem q1349 : (Jvm.Cond.soleField "PartyRaftModel" "fate") ∈ lw_all := lw_g (lw_at lw_m6 12 rfl) rfl
theorem q1350 : (Jvm.Cond.laysFinal "PartyRaftModel" "PartyRaftModel" "of" "[I") ∈ lw_all := lw_g (lw_at lw_m6 13 rfl) rfl
theorem q1351 : (Jvm.Cond.soleField "PartyRaftModel" "of") ∈ lw_all := lw_g (lw_at lw_m6 14 rfl) rfl
theorem q1352 : (Jvm.Cond.laysFinal "PartyRaftModel" "PartyRaftModel" "weight" "[I") ∈ lw_all := lw_g (lw_at lw_m6 15 rfl) rfl
theorem q1353 : (Jvm.Cond.soleField "PartyRaftModel" "weight") ∈ lw_all := lw_g (lw_at lw_m6 16 rfl) rfl
theorem q1354 : (Jvm.Cond.laysFinal "PartyRaftModel" "PartyRaftModel" "floats" "[I") ∈ lw_all := lw_g (lw_at lw_m6 17 rfl) rfl
theorem q1355 : (Jvm.Cond.soleField "PartyRaftModel" "floats") ∈ lw_all := lw_g (lw_at lw_m6 18 rfl) rfl
theorem q1356 : (Jvm.Cond.laysFinal "PartyRaftModel" "PartyRaftModel" "soak" "[I") ∈ lw_all := lw_g (lw_at lw_m6 19 rfl) rfl
theorem q1357 : (Jvm.Cond.soleField "PartyRaftModel" "soak") ∈ lw_all := lw_g (lw_at lw_m6 20 rfl) rfl
theorem q1358 : (Jvm.Cond.laysFinal "PartyRaftModel" "PartyRaftModel" "where" "[I") ∈ lw_all := lw_g (lw_at lw_m6 21 rfl) rfl
theorem q1359 : (Jvm.Cond.soleField "PartyRaftModel" "where") ∈ lw_all := lw_g (lw_at lw_m6 22 rfl) rfl
theorem q1360 : (Jvm.Cond.laysFinal "PartyRaftModel" "PartyRaftModel" "sankAt" "[I") ∈ lw_all := lw_g (lw_at lw_m6 23 rfl) rfl
theorem q1361 : (Jvm.Cond.soleField "PartyRaftModel" "sankAt") ∈ lw_all := lw_g (lw_at lw_m6 24 rfl) rfl
theorem q1362 : (Jvm.Cond.laysFinal "PartyRaftModel" "PartyRaftModel" "ropeOne" "[I") ∈ lw_all := lw_g (lw_at lw_m6 25 rfl) rfl
theorem q1363 : (Jvm.Cond.soleField "PartyRaftModel" "ropeOne") ∈ lw_all := lw_g (lw_at lw_m6 26 rfl) rfl
theorem q1364 : (Jvm.Cond.laysFinal "PartyRaftModel" "PartyRaftModel" "ropeOther" "[I") ∈ lw_all := lw_g (lw_at lw_m6 27 rfl) rfl
theorem q1365 : (Jvm.Cond.soleField "PartyRaftModel" "ropeOther") ∈ lw_all := lw_g (lw_at lw_m6 28 rfl) rfl
theorem q1366 : (Jvm.Cond.laysFinal "PartyRaftModel" "PartyRaftModel" "strength" "[I") ∈ lw_all := lw_g (lw_at lw_m6 29 rfl) rfl
theorem q1367 : (Jvm.Cond.soleField "PartyRaftModel" "strength") ∈ lw_all := lw_g (lw_at lw_m6 30 rfl) rfl
theorem q1368 : (Jvm.Cond.laysFinal "PartyRaftModel" "PartyRaftModel" "rapidMile" "[I") ∈ lw_all := lw_g (lw_at lw_m6 31 rfl) rfl
theorem q1369 : (Jvm.Cond.soleField "PartyRaftModel" "rapidMile") ∈ lw_all := lw_g (lw_at lw_m6 32 rfl) rfl
theorem q1370 : (Jvm.Cond.laysFinal "PartyRaftModel" "PartyRaftModel" "force" "[I") ∈ lw_all := lw_g (lw_at lw_m6 33 rfl) rfl
theorem q1371 : (Jvm.Cond.soleField "PartyRaftModel" "force") ∈ lw_all := lw_g (lw_at lw_m6 34 rfl) rfl
theorem q1372 : (Jvm.Cond.laysFinal "PartyRaftModel" "PartyRaftModel" "offerWeight" "[I") ∈ lw_all := lw_g (lw_at lw_m6 35 rfl) rfl
theorem q1373 : (Jvm.Cond.soleField "PartyRaftModel" "offerWeight") ∈ lw_all := lw_g (lw_at lw_m6 36 rfl) rfl
theorem q1374 : (Jvm.Cond.laysFinal "PartyRaftModel" "PartyRaftModel" "offerFloat" "[I") ∈ lw_all := lw_g (lw_at lw_m6 37 rfl) rfl
theorem q1375 : (Jvm.Cond.soleField "PartyRaftModel" "offerFloat") ∈ lw_all := lw_g (lw_at lw_m6 38 rfl) rfl
theorem q1376 : (Jvm.Cond.laysFinal "PartyRaftModel" "PartyRaftModel" "offerSoak" "[I") ∈ lw_all := lw_g (lw_at lw_m6 39 rfl) rfl
theorem q1377 : (Jvm.Cond.soleField "PartyRaftModel" "offerSoak") ∈ lw_all := lw_g (lw_at lw_m6 40 rfl) rfl
theorem q1378 : (Jvm.Cond.laysFinal "PartyRaftModel" "PartyRaftModel" "newScalar" "[I") ∈ lw_all := lw_g (lw_at lw_m6 41 rfl) rfl
theorem q1379 : (Jvm.Cond.soleField "PartyRaftModel" "newScalar") ∈ lw_all := lw_g (lw_at lw_m6 42 rfl) rfl
theorem q1380 : (Jvm.Cond.laysFinal "PartyRaftModel" "PartyRaftModel" "newLanding" "[I") ∈ lw_all := lw_g (lw_at lw_m6 43 rfl) rfl
theorem q1381 : (Jvm.Cond.soleField "PartyRaftModel" "newLanding") ∈ lw_all := lw_g (lw_at lw_m6 44 rfl) rfl
theorem q1382 : (Jvm.Cond.laysFinal "PartyRaftModel" "PartyRaftModel" "newHeavy" "[I") ∈ lw_all := lw_g (lw_at lw_m6 45 rfl) rfl
theorem q1383 : (Jvm.Cond.soleField "PartyRaftModel" "newHeavy") ∈ lw_all := lw_g (lw_at lw_m6 46 rfl) rfl
theorem q1384 : (Jvm.Cond.laysFinal "PartyRaftModel" "PartyRaftModel" "newOf" "[I") ∈ lw_all := lw_g (lw_at lw_m6 47 rfl) rfl
theorem q1385 : (Jvm.Cond.soleField "PartyRaftModel" "newOf") ∈ lw_all := lw_g (lw_at lw_m6 48 rfl) rfl
theorem q1386 : (Jvm.Cond.laysFinal "PartyRaftModel" "PartyRaftModel" "newWeight" "[I") ∈ lw_all := lw_g (lw_at lw_m6 49 rfl) rfl
theorem q1387 : (Jvm.Cond.soleField "PartyRaftModel" "newWeight") ∈ lw_all := lw_g (lw_at lw_m6 50 rfl) rfl
theorem q1388 : (Jvm.Cond.laysFinal "PartyRaftModel" "PartyRaftModel" "newFloats" "[I") ∈ lw_all := lw_g (lw_at lw_m6 51 rfl) rfl
theorem q1389 : (Jvm.Cond.soleField "PartyRaftModel" "newFloats") ∈ lw_all := lw_g (lw_at lw_m6 52 rfl) rfl
theorem q1390 : (Jvm.Cond.laysFinal "PartyRaftModel" "PartyRaftModel" "newSoak" "[I") ∈ lw_all := lw_g (lw_at lw_m6 53 rfl) rfl
theorem q1391 : (Jvm.Cond.soleField "PartyRaftModel" "newSoak") ∈ lw_all := lw_g (lw_at lw_m6 54 rfl) rfl
theorem q1392 : (Jvm.Cond.laysFinal "PartyRaftModel" "PartyRaftModel" "newRopeOne" "[I") ∈ lw_all := lw_g (lw_at lw_m6 55 rfl) rfl
theorem q1393 : (Jvm.Cond.soleField "PartyRaftModel" "newRopeOne") ∈ lw_all := lw_g (lw_at lw_m6 56 rfl) rfl
theorem q1394 : (Jvm.Cond.laysFinal "PartyRaftModel" "PartyRaftModel" "newRopeOther" "[I") ∈ lw_all := lw_g (lw_at lw_m6 57 rfl) rfl
theorem q1395 : (Jvm.Cond.soleField "PartyRaftModel" "newRopeOther") ∈ lw_all := lw_g (lw_at lw_m6 58 rfl) rfl
theorem q1396 : (Jvm.Cond.laysFinal "PartyRaftModel" "PartyRaftModel" "newStrength" "[I") ∈ lw_all := lw_g (lw_at lw_m6 59 rfl) rfl
theorem q1397 : (Jvm.Cond.soleField "PartyRaftModel" "newStrength") ∈ lw_all := lw_g (lw_at lw_m6 60 rfl) rfl
theorem q1398 : (Jvm.Cond.laysFinal "PartyRaftModel" "PartyRaftModel" "newRapidMile" "[I") ∈ lw_all := lw_g (lw_at lw_m6 61 rfl) rfl
theorem q1399 : (Jvm.Cond.soleField "PartyRaftModel" "newRapidMile") ∈ lw_all := lw_g (lw_at lw_m6 62 rfl) rfl
theorem q1400 : (Jvm.Cond.laysFinal "PartyRaftModel" "PartyRaftModel" "newForce" "[I") ∈ lw_all := lw_g (lw_at lw_m6 63 rfl) rfl
theorem q1401 : (Jvm.Cond.soleField "PartyRaftModel" "newForce") ∈ lw_all := lw_g (lw_at lw_m6 64 rfl) rfl
theorem q1402 : (Jvm.Cond.lays "PartyRaftModel" "PartyRaftModel" "taped" "I") ∈ lw_all := lw_g (lw_at lw_m6 65 rfl) rfl
theorem q1403 : (Jvm.Cond.soleField "PartyRaftModel" "taped") ∈ lw_all := lw_g (lw_at lw_m6 66 rfl) rfl
theorem q1404 : (Jvm.Cond.lays "PartyRaftModel" "PartyRaftModel" "p" "I") ∈ lw_all := lw_g (lw_at lw_m6 67 rfl) rfl
theorem q1405 : (Jvm.Cond.soleField "PartyRaftModel" "p") ∈ lw_all := lw_g (lw_at lw_m6 68 rfl) rfl
theorem q1406 : (Jvm.Cond.lays "PartyRaftModel" "PartyRaftModel" "fault" "I") ∈ lw_all := lw_g (lw_at lw_m6 69 rfl) rfl
theorem q1407 : (Jvm.Cond.soleField "PartyRaftModel" "fault") ∈ lw_all := lw_g (lw_at lw_m6 70 rfl) rfl
theorem q1408 : (Jvm.Cond.lays "PartyRaftModel" "PartyRaftModel" "slot" "I") ∈ lw_all := lw_g (lw_at lw_m6 71 rfl) rfl
theorem q1409 : (Jvm.Cond.soleField "PartyRaftModel" "slot") ∈ lw_all := lw_g (lw_at lw_m6 72 rfl) rfl
theorem q1410 : (Jvm.Cond.lays "PartyRaftModel" "PartyRaftModel" "rules" "I") ∈ lw_all := lw_g (lw_at lw_m6 73 rfl) rfl
theorem q1411 : (Jvm.Cond.soleField "PartyRaftModel" "rules") ∈ lw_all := lw_g (lw_at lw_m6 74 rfl) rfl
theorem q1412 : (Jvm.Cond.lays "PartyRaftModel" "PartyRaftModel" "entries" "I") ∈ lw_all := lw_g (lw_at lw_m6 75 rfl) rfl
theorem q1413 : (Jvm.Cond.soleField "PartyRaftModel" "entries") ∈ lw_all := lw_g (lw_at lw_m6 76 rfl) rfl
theorem q1414 : (Jvm.Cond.lays "PartyRaftModel" "PartyRaftModel" "deep" "I") ∈ lw_all := lw_g (lw_at lw_m6 77 rfl) rfl
theorem q1415 : (Jvm.Cond.soleField "PartyRaftModel" "deep") ∈ lw_all := lw_g (lw_at lw_m6 78 rfl) rfl
theorem q1416 : (Jvm.Cond.lays "PartyRaftModel" "PartyRaftModel" "counted" "I") ∈ lw_all := lw_g (lw_at lw_m6 79 rfl) rfl
theorem q1417 : (Jvm.Cond.soleField "PartyRaftModel" "counted") ∈ lw_all := lw_g (lw_at lw_m6 80 rfl) rfl
theorem q1418 : (Jvm.Cond.lays "PartyRaftModel" "PartyRaftModel" "opened" "I") ∈ lw_all := lw_g (lw_at lw_m6 81 rfl) rfl
theorem q1419 : (Jvm.Cond.soleField "PartyRaftModel" "opened") ∈ lw_all := lw_g (lw_at lw_m6 82 rfl) rfl
theorem q1420 : (Jvm.Cond.lays "PartyRaftModel" "PartyRaftModel" "words" "I") ∈ lw_all := lw_g (lw_at lw_m6 83 rfl) rfl
theorem q1421 : (Jvm.Cond.soleField "PartyRaftModel" "words") ∈ lw_all := lw_g (lw_at lw_m6 84 rfl) rfl
theorem q1422 : (Jvm.Cond.laysFinal "PartyRaftModel" "PartyRaftModel" "tape" "[B") ∈ lw_all := lw_g (lw_at lw_m6 85 rfl) rfl
theorem q1423 : (Jvm.Cond.soleField "PartyRaftModel" "tape") ∈ lw_all := lw_g (lw_at lw_m6 86 rfl) rfl
theorem q1424 : (Jvm.Cond.laysFinal "PartyRaftModel" "PartyRaftModel" "sort" "[I") ∈ lw_all := lw_g (lw_at lw_m6 87 rfl) rfl
theorem q1425 : (Jvm.Cond.soleField "PartyRaftModel" "sort") ∈ lw_all := lw_g (lw_at lw_m6 88 rfl) rfl
theorem q1426 : (Jvm.Cond.laysFinal "PartyRaftModel" "PartyRaftModel" "number" "[I") ∈ lw_all := lw_g (lw_at lw_m6 89 rfl) rfl
theorem q1427 : (Jvm.Cond.soleField "PartyRaftModel" "number") ∈ lw_all := lw_g (lw_at lw_m6 90 rfl) rfl
theorem q1428 : (Jvm.Cond.laysFinal "PartyRaftModel" "PartyRaftModel" "clauses" "[I") ∈ lw_all := lw_g (lw_at lw_m6 91 rfl) rfl
theorem q1429 : (Jvm.Cond.soleField "PartyRaftModel" "clauses") ∈ lw_all := lw_g (lw_at lw_m6 92 rfl) rfl
theorem q1430 : (Jvm.Cond.laysFinal "PartyRaftModel" "PartyRaftModel" "sumAt" "[I") ∈ lw_all := lw_g (lw_at lw_m6 93 rfl) rfl
theorem q1431 : (Jvm.Cond.soleField "PartyRaftModel" "sumAt") ∈ lw_all := lw_g (lw_at lw_m6 94 rfl) rfl
theorem q1432 : (Jvm.Cond.laysFinal "PartyRaftModel" "PartyRaftModel" "testAt" "[I") ∈ lw_all := lw_g (lw_at lw_m6 95 rfl) rfl
theorem q1433 : (Jvm.Cond.soleField "PartyRaftModel" "testAt") ∈ lw_all := lw_g (lw_at lw_m6 96 rfl) rfl
theorem q1434 : (Jvm.Cond.laysFinal "PartyRaftModel" "PartyRaftModel" "endAt" "[I") ∈ lw_all := lw_g (lw_at lw_m6 97 rfl) rfl
theorem q1435 : (Jvm.Cond.soleField "PartyRaftModel" "endAt") ∈ lw_all := lw_g (lw_at lw_m6 98 rfl) rfl
theorem q1436 : (Jvm.Cond.laysFinal "PartyRaftModel" "PartyRaftModel" "open" "[I") ∈ lw_all := lw_g (lw_at lw_m6 99 rfl) rfl
theorem q1437 : (Jvm.Cond.soleField "PartyRaftModel" "open") ∈ lw_all := lw_g (lw_at lw_m6 100 rfl) rfl
theorem q1438 : (Jvm.Cond.laysFinal "PartyRaftModel" "PartyRaftModel" "asked" "[J") ∈ lw_all := lw_g (lw_at lw_m6 101 rfl) rfl
theorem q1439 : (Jvm.Cond.soleField "PartyRaftModel" "asked") ∈ lw_all := lw_g (lw_at lw_m6 102 rfl) rfl
theorem q1440 : (Jvm.Cond.laysFinal "PartyRaftModel" "PartyRaftModel" "stack" "[J") ∈ lw_all := lw_g (lw_at lw_m6 103 rfl) rfl
theorem q1441 : (Jvm.Cond.soleField "PartyRaftModel" "stack") ∈ lw_all := lw_g (lw_at lw_m6 104 rfl) rfl
theorem q1442 : (Jvm.Cond.lays "PartyRaftModel" "PartyRaftModel" "landedNow" "I") ∈ lw_all := lw_g (lw_at lw_m6 105 rfl) rfl
theorem q1443 : (Jvm.Cond.soleField "PartyRaftModel" "landedNow") ∈ lw_all := lw_g (lw_at lw_m6 106 rfl) rfl
theorem q1444 : (Jvm.Cond.lays "PartyRaftModel" "PartyRaftModel" "brokeNow" "I") ∈ lw_all := lw_g (lw_at lw_m6 107 rfl) rfl
theorem q1445 : (Jvm.Cond.soleField "PartyRaftModel" "brokeNow") ∈ lw_all := lw_g (lw_at lw_m6 108 rfl) rfl
theorem q1446 : (Jvm.Cond.laysFinal "PartyRaftModel" "PartyRaftModel" "past" "[I") ∈ lw_all := lw_g (lw_at lw_m6 109 rfl) rfl
theorem q1447 : (Jvm.Cond.soleField "PartyRaftModel" "past") ∈ lw_all := lw_g (lw_at lw_m6 110 rfl) rfl
theorem q1448 : (Jvm.Cond.laysFinal "PartyRaftModel" "PartyRaftModel" "ring" "[I") ∈ lw_all := lw_g (lw_at lw_m6 111 rfl) rfl
theorem q1449 : (Jvm.Cond.soleField "PartyRaftModel" "ring") ∈ lw_all := lw_g (lw_at lw_m6 112 rfl) rfl
theorem q1450 : (Jvm.Cond.lays "PartyRaftModel" "PartyRaftModel" "pastMany" "I") ∈ lw_all := lw_g (lw_at lw_m6 113 rfl) rfl
theorem q1451 : (Jvm.Cond.soleField "PartyRaftModel" "pastMany") ∈ lw_all := lw_g (lw_at lw_m6 114 rfl) rfl
theorem q1452 : (Jvm.Cond.lays "PartyRaftModel" "PartyRaftModel" "pastAt" "I") ∈ lw_all := lw_g (lw_at lw_m6 115 rfl) rfl
theorem q1453 : (Jvm.Cond.soleField "PartyRaftModel" "pastAt") ∈ lw_all := lw_g (lw_at lw_m6 116 rfl) rfl
theorem q1454 : (Jvm.Cond.lays "PartyRaftModel" "PartyRaftModel" "takesBack" "Z") ∈ lw_all := lw_g (lw_at lw_m6 117 rfl) rfl
theorem q1455 : (Jvm.Cond.soleField "PartyRaftModel" "takesBack") ∈ lw_all := lw_g (lw_at lw_m6 118 rfl) rfl
theorem q1456 : (Jvm.Cond.laysFinal "PartyRaftModel" "PartyRaftModel" "row" "[I") ∈ lw_all := lw_g (lw_at lw_m6 119 rfl) rfl
theorem q1457 : (Jvm.Cond.soleField "PartyRaftModel" "row") ∈ lw_all := lw_g (lw_at lw_m6 120 rfl) rfl
theorem q1458 : (Jvm.Cond.laysFinal "PartyRaftModel" "PartyRaftModel" "firstRow" "[I") ∈ lw_all := lw_g (lw_at lw_m6 121 rfl) rfl
theorem q1459 : (Jvm.Cond.soleField "PartyRaftModel" "firstRow") ∈ lw_all := lw_g (lw_at lw_m6 122 rfl) rfl
theorem q1460 : (Jvm.Cond.laysFinal "PartyRaftModel" "PartyRaftModel" "laterAt" "[I") ∈ lw_all := lw_g (lw_at lw_m6 123 rfl) rfl
theorem q1461 : (Jvm.Cond.soleField "PartyRaftModel" "laterAt") ∈ lw_all := lw_g (lw_at lw_m6 124 rfl) rfl
theorem q1462 : (Jvm.Cond.lays "PartyRaftModel" "PartyRaftModel" "laterMany" "I") ∈ lw_all := lw_g (lw_at lw_m6 125 rfl) rfl
theorem q1463 : (Jvm.Cond.soleField "PartyRaftModel" "laterMany") ∈ lw_all := lw_g (lw_at lw_m6 126 rfl) rfl
theorem q1464 : (Jvm.Cond.lays "PartyRaftModel" "PartyRaftModel" "rowCount" "I") ∈ lw_all := lw_g (lw_at lw_m6 127 rfl) rfl
theorem q1465 : (Jvm.Cond.soleField "PartyRaftModel" "rowCount") ∈ lw_all := lw_g (lw_at lw_m6 128 rfl) rfl
theorem q1466 : (Jvm.Cond.laysFinal "PartyRaftModel" "PartyRaftModel" "lock" "[I") ∈ lw_all := lw_g (lw_at lw_m6 129 rfl) rfl
theorem q1467 : (Jvm.Cond.soleField "PartyRaftModel" "lock") ∈ lw_all := lw_g (lw_at lw_m6 130 rfl) rfl
theorem q1468 : (Jvm.Cond.laysFinal "PartyRaftModel" "PartyRaftModel" "bestLock" "[I") ∈ lw_all := lw_g (lw_at lw_m6 131 rfl) rfl
theorem q1469 : (Jvm.Cond.soleField "PartyRaftModel" "bestLock") ∈ lw_all := lw_g (lw_at lw_m6 132 rfl) rfl
theorem q1470 : (Jvm.Cond.laysFinal "PartyRaftModel" "PartyRaftModel" "load" "[I") ∈ lw_all := lw_g (lw_at lw_m6 133 rfl) rfl
theorem q1471 : (Jvm.Cond.soleField "PartyRaftModel" "load") ∈ lw_all := lw_g (lw_at lw_m6 134 rfl) rfl
theorem q1472 : (Jvm.Cond.lays "PartyRaftModel" "PartyRaftModel" "fewestLocks" "I") ∈ lw_all := lw_g (lw_at lw_m6 135 rfl) rfl
theorem q1473 : (Jvm.Cond.soleField "PartyRaftModel" "fewestLocks") ∈ lw_all := lw_g (lw_at lw_m6 136 rfl) rfl
theorem q1474 : (Jvm.Cond.laysFinal "PartyRaftModel" "PartyRaftModel" "group" "[I") ∈ lw_all := lw_g (lw_at lw_m6 137 rfl) rfl
theorem q1475 : (Jvm.Cond.soleField "PartyRaftModel" "group") ∈ lw_all := lw_g (lw_at lw_m6 138 rfl) rfl
theorem q1476 : (Jvm.Cond.laysFinal "PartyRaftModel" "PartyRaftModel" "wins" "[Z") ∈ lw_all := lw_g (lw_at lw_m6 139 rfl) rfl
theorem q1477 : (Jvm.Cond.soleField "PartyRaftModel" "wins") ∈ lw_all := lw_g (lw_at lw_m6 140 rfl) rfl
theorem q1478 : (Jvm.Cond.laysFinal "PartyRaftModel" "PartyRaftModel" "images" "[I") ∈ lw_all := lw_g (lw_at lw_m6 141 rfl) rfl
theorem q1479 : (Jvm.Cond.soleField "PartyRaftModel" "images") ∈ lw_all := lw_g (lw_at lw_m6 142 rfl) rfl
theorem q1480 : (Jvm.Cond.laysFinal "PartyRaftModel" "PartyRaftModel" "isMade" "[Z") ∈ lw_all := lw_g (lw_at lw_m6 143 rfl) rfl
theorem q1481 : (Jvm.Cond.soleField "PartyRaftModel" "isMade") ∈ lw_all := lw_g (lw_at lw_m6 144 rfl) rfl
theorem q1482 : (Jvm.Cond.lays "PartyRaftModel" "PartyRaftModel" "imageAt" "I") ∈ lw_all := lw_g (lw_at lw_m6 145 rfl) rfl
theorem q1483 : (Jvm.Cond.soleField "PartyRaftModel" "imageAt") ∈ lw_all := lw_g (lw_at lw_m6 146 rfl) rfl
theorem q1484 : (Jvm.Cond.lays "PartyRaftModel" "PartyRaftModel" "goesBack" "Z") ∈ lw_all := lw_g (lw_at lw_m6 147 rfl) rfl
theorem q1485 : (Jvm.Cond.soleField "PartyRaftModel" "goesBack") ∈ lw_all := lw_g (lw_at lw_m6 148 rfl) rfl
theorem q1486 : (Jvm.Cond.superclass "PartyRaftModel" "java/lang/Object") ∈ lw_all := lw_g (lw_at lw_m6 149 rfl) rfl
theorem q1488 : (Jvm.Cond.instanceMethod ({ cls := "PartyRaftModel", name := "feed", desc := "(IIIII)I" } : Jvm.MethodName)) ∈ lw_all := lw_g (lw_at lw_m6 151 rfl) rfl
theorem q1489 : (Jvm.Cond.selects "PartyRaftModel" ({ cls := "PartyRaftModel", name := "feed", desc := "(IIIII)I" } : Jvm.MethodName) ({ cls := "PartyRaftModel", name := "feed", desc := "(IIIII)I" } : Jvm.MethodName)) ∈ lw_all := lw_g (lw_at lw_m6 152 rfl) rfl
theorem q1490 : (Jvm.Cond.code ({ cls := "PartyRaftModel", name := "feed", desc := "(IIIII)I" } : Jvm.MethodName) prog_17_method_12_code (6 : Nat) (Option.some Jvm.ClassFile.FieldType.int)) ∈ lw_all := lw_g (lw_at lw_m6 153 rfl) rfl
theorem q1491 : (Jvm.Cond.methodLink "PartyRaftModel" (187 : Nat) ({ cls := "PartyRaftModel", name := "put", desc := "(I)V" } : Jvm.MethodName)) ∈ lw_all := lw_g (lw_at lw_m6 154 rfl) rfl
theorem q1492 : (Jvm.Cond.privateMethod ({ cls := "PartyRaftModel", name := "put", desc := "(I)V" } : Jvm.MethodName)) ∈ lw_tbl := lw_at lw_m6 155 rfl
theorem q1493 : (Jvm.Cond.instanceMethod ({ cls := "PartyRaftModel", name := "put", desc := "(I)V" } : Jvm.MethodName)) ∈ lw_all := lw_g (lw_at lw_m6 156 rfl) rfl
theorem q1494 : (Jvm.Cond.code ({ cls := "PartyRaftModel", name := "put", desc := "(I)V" } : Jvm.MethodName) prog_17_method_13_code (3 : Nat) (Option.none : Option Jvm.ClassFile.FieldType)) ∈ lw_all := lw_g (lw_at lw_m6 157 rfl) rfl
theorem q1496 : (Jvm.Cond.instanceMethod ({ cls := "PartyRaftModel", name := "end", desc := "(I)I" } : Jvm.MethodName)) ∈ lw_all := lw_g (lw_at lw_m6 159 rfl) rfl
theorem q1497 : (Jvm.Cond.selects "PartyRaftModel" ({ cls := "PartyRaftModel", name := "end", desc := "(I)I" } : Jvm.MethodName) ({ cls := "PartyRaftModel", name := "end", desc := "(I)I" } : Jvm.MethodName)) ∈ lw_all := lw_g (lw_at lw_m6 160 rfl) rfl
theorem q1498 : (Jvm.Cond.code ({ cls := "PartyRaftModel", name := "end", desc := "(I)I" } : Jvm.MethodName) prog_17_method_14_code (2 : Nat) (Option.some Jvm.ClassFile.FieldType.int)) ∈ lw_all := lw_g (lw_at lw_m6 161 rfl) rfl
theorem q1500 : (Jvm.Cond.instanceMethod ({ cls := "PartyRaftModel", name := "river", desc := "()I" } : Jvm.MethodName)) ∈ lw_all := lw_g (lw_at lw_m6 163 rfl) rfl
theorem q1501 : (Jvm.Cond.selects "PartyRaftModel" ({ cls := "PartyRaftModel", name := "river", desc := "()I" } : Jvm.MethodName) ({ cls := "PartyRaftModel", name := "river", desc := "()I" } : Jvm.MethodName)) ∈ lw_all := lw_g (lw_at lw_m6 164 rfl) rfl
theorem q1502 : (Jvm.Cond.code ({ cls := "PartyRaftModel", name := "river", desc := "()I" } : Jvm.MethodName) prog_17_method_46_code (2 : Nat) (Option.some Jvm.ClassFile.FieldType.int)) ∈ lw_all := lw_g (lw_at lw_m6 165 rfl) rfl
theorem q1503 : (Jvm.Cond.methodLink "PartyRaftModel" (352 : Nat) ({ cls := "PartyRaftModel", name := "readsAll", desc := "()V" } : Jvm.MethodName)) ∈ lw_all := lw_g (lw_at lw_m6 166 rfl) rfl
theorem q1504 : (Jvm.Cond.privateMethod ({ cls := "PartyRaftModel", name := "readsAll", desc := "()V" } : Jvm.MethodName)) ∈ lw_tbl := lw_at lw_m6 167 rfl
theorem q1505 : (Jvm.Cond.instanceMethod ({ cls := "PartyRaftModel", name := "readsAll", desc := "()V" } : Jvm.MethodName)) ∈ lw_all := lw_g (lw_at lw_m6 168 rfl) rfl
theorem q1506 : (Jvm.Cond.code ({ cls := "PartyRaftModel", name := "readsAll", desc := "()V" } : Jvm.MethodName) prog_17_method_45_code (3 : Nat) (Option.none : Option Jvm.ClassFile.FieldType)) ∈ lw_all := lw_g (lw_at lw_m6 169 rfl) rfl
theorem q1507 : (Jvm.Cond.methodLink "PartyRaftModel" (343 : Nat) ({ cls := "PartyRaftModel", name := "starts", desc := "()V" } : Jvm.MethodName)) ∈ lw_all := lw_g (lw_at lw_m6 170 rfl) rfl
theorem q1508 : (Jvm.Cond.privateMethod ({ cls := "PartyRaftModel", name := "starts", desc := "()V" } : Jvm.MethodName)) ∈ lw_tbl := lw_at lw_m6 171 rfl
theorem q1509 : (Jvm.Cond.instanceMethod ({ cls := "PartyRaftModel", name := "starts", desc := "()V" } : Jvm.MethodName)) ∈ lw_all := lw_g (lw_at lw_m6 172 rfl) rfl
theorem q1510 : (Jvm.Cond.code ({ cls := "PartyRaftModel", name := "starts", desc := "()V" } : Jvm.MethodName) prog_17_method_44_code (1 : Nat) (Option.none : Option Jvm.ClassFile.FieldType)) ∈ lw_all := lw_g (lw_at lw_m6 173 rfl) rfl
theorem q1511 : (Jvm.Cond.methodLink "PartyRaftModel" (346 : Nat) ({ cls := "PartyRaftModel", name := "riverClause", desc := "(I)V" } : Jvm.MethodName)) ∈ lw_all := lw_g (lw_at lw_m6 174 rfl) rfl
theorem q1512 : (Jvm.Cond.privateMethod ({ cls := "PartyRaftModel", name := "riverClause", desc := "(I)V" } : Jvm.MethodName)) ∈ lw_tbl := lw_at lw_m6 175 rfl
theorem q1513 : (Jvm.Cond.instanceMethod ({ cls := "PartyRaftModel", name := "riverClause", desc := "(I)V" } : Jvm.MethodName)) ∈ lw_all := lw_g (lw_at lw_m6 176 rfl) rfl
theorem q1514 : (Jvm.Cond.code ({ cls := "PartyRaftModel", name := "riverClause", desc := "(I)V" } : Jvm.MethodName) prog_17_method_41_code (4 : Nat) (Option.none : Option Jvm.ClassFile.FieldType)) ∈ lw_all := lw_g (lw_at lw_m6 177 rfl) rfl
theorem q1515 : (Jvm.Cond.methodLink "PartyRaftModel" (235 : Nat) ({ cls := "PartyRaftModel", name := "blanks", desc := "()V" } : Jvm.MethodName)) ∈ lw_all := lw_g (lw_at lw_m6 178 rfl) rfl
theorem q1516 : (Jvm.Cond.privateMethod ({ cls := "PartyRaftModel", name := "blanks", desc := "()V" } : Jvm.MethodName)) ∈ lw_tbl := lw_at lw_m6 179 rfl
theorem q1517 : (Jvm.Cond.instanceMethod ({ cls := "PartyRaftModel", name := "blanks", desc := "()V" } : Jvm.MethodName)) ∈ lw_all := lw_g (lw_at lw_m6 180 rfl) rfl
theorem q1518 : (Jvm.Cond.code ({ cls := "PartyRaftModel", name := "blanks", desc := "()V" } : Jvm.MethodName) prog_17_method_18_code (1 : Nat) (Option.none : Option Jvm.ClassFile.FieldType)) ∈ lw_all := lw_g (lw_at lw_m6 181 rfl) rfl
theorem q1519 : (Jvm.Cond.methodLink "PartyRaftModel" (218 : Nat) ({ cls := "PartyRaftModel", name := "sign", desc := "()I" } : Jvm.MethodName)) ∈ lw_all := lw_g (lw_at lw_m6 182 rfl) rfl
theorem q1520 : (Jvm.Cond.privateMethod ({ cls := "PartyRaftModel", name := "sign", desc := "()I" } : Jvm.MethodName)) ∈ lw_tbl := lw_at lw_m6 183 rfl
theorem q1521 : (Jvm.Cond.instanceMethod ({ cls := "PartyRaftModel", name := "sign", desc := "()I" } : Jvm.MethodName)) ∈ lw_all := lw_g (lw_at lw_m6 184 rfl) rfl
theorem q1522 : (Jvm.Cond.code ({ cls := "PartyRaftModel", name := "sign", desc := "()I" } : Jvm.MethodName) prog_17_method_17_code (1 : Nat) (Option.some Jvm.ClassFile.FieldType.int)) ∈ lw_all := lw_g (lw_at lw_m6 185 rfl) rfl
theorem q1523 : (Jvm.Cond.methodLink "PartyRaftModel" (334 : Nat) ({ cls := "PartyRaftModel", name := "riverWord", desc := "(I)Ljava/lang/String;" } : Jvm.MethodName)) ∈ lw_all := lw_g (lw_at lw_m6 186 rfl) rfl
theorem q1524 : (Jvm.Cond.static ({ cls := "PartyRaftModel", name := "riverWord", desc := "(I)Ljava/lang/String;" } : Jvm.MethodName)) ∈ lw_all := lw_g (lw_at lw_m6 187 rfl) rfl
theorem q1525 : (Jvm.Cond.code ({ cls := "PartyRaftModel", name := "riverWord", desc := "(I)Ljava/lang/String;" } : Jvm.MethodName) prog_17_method_35_code (1 : Nat) (Option.some (Jvm.ClassFile.FieldType.object "java/lang/String"))) ∈ lw_all := lw_g (lw_at lw_m6 188 rfl) rfl
theorem q1526 : (Jvm.Cond.stringRef "PartyRaftModel" (310 : Nat) "river") ∈ lw_tbl := lw_at lw_m6 189 rfl
theorem q1527 : (Jvm.Cond.stringRef "PartyRaftModel" (312 : Nat) "owner") ∈ lw_tbl := lw_at lw_m6 190 rfl
theorem q1528 : (Jvm.Cond.stringRef "PartyRaftModel" (314 : Nat) "thing") ∈ lw_tbl := lw_at lw_m6 191 rfl
theorem q1529 : (Jvm.Cond.stringRef "PartyRaftModel" (316 : Nat) "bound") ∈ lw_tbl := lw_at lw_m6 192 rfl
theorem q1530 : (Jvm.Cond.stringRef "PartyRaftModel" (318 : Nat) "rapid") ∈ lw_tbl := lw_at lw_m6 193 rfl
theorem q1531 : (Jvm.Cond.methodLink "PartyRaftModel" (238 : Nat) ({ cls := "PartyRaftModel", name := "stood", desc := "(Ljava/lang/String;)Z" } : Jvm.MethodName)) ∈ lw_all := lw_g (lw_at lw_m6 194 rfl) rfl
theorem q1532 : (Jvm.Cond.privateMethod ({ cls := "PartyRaftModel", name := "stood", desc := "(Ljava/lang/String;)Z" } : Jvm.MethodName)) ∈ lw_tbl := lw_at lw_m6 195 rfl
theorem q1533 : (Jvm.Cond.instanceMethod ({ cls := "PartyRaftModel", name := "stood", desc := "(Ljava/lang/String;)Z" } : Jvm.MethodName)) ∈ lw_all := lw_g (lw_at lw_m6 196 rfl) rfl
theorem q1534 : (Jvm.Cond.code ({ cls := "PartyRaftModel", name := "stood", desc := "(Ljava/lang/String;)Z" } : Jvm.MethodName) prog_17_method_20_code (5 : Nat) (Option.some Jvm.ClassFile.FieldType.boolean)) ∈ lw_all := lw_g (lw_at lw_m6 197 rfl) rfl
theorem q1535 : (Jvm.Cond.methodLink "PartyRaftModel" (226 : Nat) ({ cls := "java/lang/String", name := "length", desc := "()I" } : Jvm.MethodName)) ∈ lw_all := lw_g (lw_at lw_m6 198 rfl) rfl
theorem q1536 : (Jvm.Cond.methodLink "PartyRaftModel" (231 : Nat) ({ cls := "java/lang/String", name := "charAt", desc := "(I)C" } : Jvm.MethodName)) ∈ lw_all := lw_g (lw_at lw_m6 199 rfl) rfl
theorem q1537 : (Jvm.Cond.methodLink "PartyRaftModel" (251 : Nat) ({ cls := "PartyRaftModel", name := "fails", desc := "(II)V" } : Jvm.MethodName)) ∈ lw_all := lw_g (lw_at lw_m6 200 rfl) rfl
theorem q1538 : (Jvm.Cond.privateMethod ({ cls := "PartyRaftModel", name := "fails", desc := "(II)V" } : Jvm.MethodName)) ∈ lw_tbl := lw_at lw_m6 201 rfl
theorem q1539 : (Jvm.Cond.instanceMethod ({ cls := "PartyRaftModel", name := "fails", desc := "(II)V" } : Jvm.MethodName)) ∈ lw_all := lw_g (lw_at lw_m6 202 rfl) rfl
theorem q1540 : (Jvm.Cond.code ({ cls := "PartyRaftModel", name := "fails", desc := "(II)V" } : Jvm.MethodName) prog_17_method_16_code (3 : Nat) (Option.none : Option Jvm.ClassFile.FieldType)) ∈ lw_all := lw_g (lw_at lw_m6 203 rfl) rfl
theorem q1541 : (Jvm.Cond.methodLink "PartyRaftModel" (337 : Nat) ({ cls := "PartyRaftModel", name := "isFull", desc := "(II)Z" } : Jvm.MethodName)) ∈ lw_all := lw_g (lw_at lw_m6 204 rfl) rfl
theorem q1542 : (Jvm.Cond.privateMethod ({ cls := "PartyRaftModel", name := "isFull", desc := "(II)Z" } : Jvm.MethodName)) ∈ lw_tbl := lw_at lw_m6 205 rfl
theorem q1543 : (Jvm.Cond.instanceMethod ({ cls := "PartyRaftModel", name := "isFull", desc := "(II)Z" } : Jvm.MethodName)) ∈ lw_all := lw_g (lw_at lw_m6 206 rfl) rfl
theorem q1544 : (Jvm.Cond.code ({ cls := "PartyRaftModel", name := "isFull", desc := "(II)Z" } : Jvm.MethodName) prog_17_method_40_code (3 : Nat) (Option.some Jvm.ClassFile.FieldType.boolean)) ∈ lw_all := lw_g (lw_at lw_m6 207 rfl) rfl
theorem q1545 : (Jvm.Cond.methodLink "PartyRaftModel" (340 : Nat) ({ cls := "PartyRaftModel", name := "riverPart", desc := "(I)V" } : Jvm.MethodName)) ∈ lw_all := lw_g (lw_at lw_m6 208 rfl) rfl
theorem q1546 : (Jvm.Cond.privateMethod ({ cls := "PartyRaftModel", name := "riverPart", desc := "(I)V" } : Jvm.MethodName)) ∈ lw_tbl := lw_at lw_m6 209 rfl
theorem q1547 : (Jvm.Cond.instanceMethod ({ cls := "PartyRaftModel", name := "riverPart", desc := "(I)V" } : Jvm.MethodName)) ∈ lw_all := lw_g (lw_at lw_m6 210 rfl) rfl
theorem q1548 : (Jvm.Cond.code ({ cls := "PartyRaftModel", name := "riverPart", desc := "(I)V" } : Jvm.MethodName) prog_17_method_39_code (3 : Nat) (Option.none : Option Jvm.ClassFile.FieldType)) ∈ lw_all := lw_g (lw_at lw_m6 211 rfl) rfl
theorem q1549 : (Jvm.Cond.methodLink "PartyRaftModel" (320 : Nat) ({ cls := "PartyRaftModel", name := "amount", desc := "(II)I" } : Jvm.MethodName)) ∈ lw_all := lw_g (lw_at lw_m6 212 rfl) rfl
theorem q1550 : (Jvm.Cond.privateMethod ({ cls := "PartyRaftModel", name := "amount", desc := "(II)I" } : Jvm.MethodName)) ∈ lw_tbl := lw_at lw_m6 213 rfl
theorem q1551 : (Jvm.Cond.instanceMethod ({ cls := "PartyRaftModel", name := "amount", desc := "(II)I" } : Jvm.MethodName)) ∈ lw_all := lw_g (lw_at lw_m6 214 rfl) rfl
theorem q1552 : (Jvm.Cond.code ({ cls := "PartyRaftModel", name := "amount", desc := "(II)I" } : Jvm.MethodName) prog_17_method_34_code (5 : Nat) (Option.some Jvm.ClassFile.FieldType.int)) ∈ lw_all := lw_g (lw_at lw_m6 215 rfl) rfl
theorem q1553 : (Jvm.Cond.constant "PartyRaftModel" (259 : Nat) (99999 : Int32)) ∈ lw_all := lw_g (lw_at lw_m6 216 rfl) rfl
theorem q1554 : (Jvm.Cond.methodLink "PartyRaftModel" (260 : Nat) ({ cls := "PartyRaftModel", name := "digits", desc := "(I)I" } : Jvm.MethodName)) ∈ lw_all := lw_g (lw_at lw_m6 217 rfl) rfl
theorem q1555 : (Jvm.Cond.privateMethod ({ cls := "PartyRaftModel", name := "digits", desc := "(I)I" } : Jvm.MethodName)) ∈ lw_tbl := lw_at lw_m6 218 rfl
theorem q1556 : (Jvm.Cond.instanceMethod ({ cls := "PartyRaftModel", name := "digits", desc := "(I)I" } : Jvm.MethodName)) ∈ lw_all := lw_g (lw_at lw_m6 219 rfl) rfl
theorem q1557 : (Jvm.Cond.code ({ cls := "PartyRaftModel", name := "digits", desc := "(I)I" } : Jvm.MethodName) prog_17_method_24_code (4 : Nat) (Option.some Jvm.ClassFile.FieldType.int)) ∈ lw_all := lw_g (lw_at lw_m6 220 rfl) rfl
theorem q1558 : (Jvm.Cond.methodLink "PartyRaftModel" (255 : Nat) ({ cls := "PartyRaftModel", name := "isDigit", desc := "()Z" } : Jvm.MethodName)) ∈ lw_all := lw_g (lw_at lw_m6 221 rfl) rfl
theorem q1559 : (Jvm.Cond.privateMethod ({ cls := "PartyRaftModel", name := "isDigit", desc := "()Z" } : Jvm.MethodName)) ∈ lw_tbl := lw_at lw_m6 222 rfl
theorem q1560 : (Jvm.Cond.instanceMethod ({ cls := "PartyRaftModel", name := "isDigit", desc := "()Z" } : Jvm.MethodName)) ∈ lw_all := lw_g (lw_at lw_m6 223 rfl) rfl
theorem q1561 : (Jvm.Cond.code ({ cls := "PartyRaftModel", name := "isDigit", desc := "()Z" } : Jvm.MethodName) prog_17_method_19_code (1 : Nat) (Option.some Jvm.ClassFile.FieldType.boolean)) ∈ lw_all := lw_g (lw_at lw_m6 224 rfl) rfl
theorem q1562 : (Jvm.Cond.constantLong "PartyRaftModel" (222 : Nat) (48 : Int64)) ∈ lw_all := lw_g (lw_at lw_m6 225 rfl) rfl
theorem q1563 : (Jvm.Cond.constantLong "PartyRaftModel" (224 : Nat) (57 : Int64)) ∈ lw_all := lw_g (lw_at lw_m6 226 rfl) rfl
theorem q1564 : (Jvm.Cond.methodLink "PartyRaftModel" (176 : Nat) ({ cls := "PartyRaftModel", name := "in", desc := "(JJJ)Z" } : Jvm.MethodName)) ∈ lw_all := lw_g (lw_at lw_m6 227 rfl) rfl
theorem q1565 : (Jvm.Cond.static ({ cls := "PartyRaftModel", name := "in", desc := "(JJJ)Z" } : Jvm.MethodName)) ∈ lw_all := lw_g (lw_at lw_m6 228 rfl) rfl
theorem q1566 : (Jvm.Cond.code ({ cls := "PartyRaftModel", name := "in", desc := "(JJJ)Z" } : Jvm.MethodName) prog_17_method_3_code (6 : Nat) (Option.some Jvm.ClassFile.FieldType.boolean)) ∈ lw_all := lw_g (lw_at lw_m6 229 rfl) rfl
theorem q1567 : (Jvm.Cond.methodLink "PartyRaftModel" (328 : Nat) ({ cls := "PartyRaftModel", name := "readsBound", desc := "()V" } : Jvm.MethodName)) ∈ lw_all := lw_g (lw_at lw_m6 230 rfl) rfl
theorem q1568 : (Jvm.Cond.privateMethod ({ cls := "PartyRaftModel", name := "readsBound", desc := "()V" } : Jvm.MethodName)) ∈ lw_tbl := lw_at lw_m6 231 rfl
theorem q1569 : (Jvm.Cond.instanceMethod ({ cls := "PartyRaftModel", name := "readsBound", desc := "()V" } : Jvm.MethodName)) ∈ lw_all := lw_g (lw_at lw_m6 232 rfl) rfl
theorem q1570 : (Jvm.Cond.code ({ cls := "PartyRaftModel", name := "readsBound", desc := "()V" } : Jvm.MethodName) prog_17_method_37_code (5 : Nat) (Option.none : Option Jvm.ClassFile.FieldType)) ∈ lw_all := lw_g (lw_at lw_m6 233 rfl) rfl
theorem q1571 : (Jvm.Cond.methodLink "PartyRaftModel" (324 : Nat) ({ cls := "PartyRaftModel", name := "isNewBound", desc := "(II)Z" } : Jvm.MethodName)) ∈ lw_all := lw_g (lw_at lw_m6 234 rfl) rfl
theorem q1572 : (Jvm.Cond.privateMethod ({ cls := "PartyRaftModel", name := "isNewBound", desc := "(II)Z" } : Jvm.MethodName)) ∈ lw_tbl := lw_at lw_m6 235 rfl
theorem q1573 : (Jvm.Cond.instanceMethod ({ cls := "PartyRaftModel", name := "isNewBound", desc := "(II)Z" } : Jvm.MethodName)) ∈ lw_all := lw_g (lw_at lw_m6 236 rfl) rfl
theorem q1574 : (Jvm.Cond.code ({ cls := "PartyRaftModel", name := "isNewBound", desc := "(II)Z" } : Jvm.MethodName) prog_17_method_36_code (4 : Nat) (Option.some Jvm.ClassFile.FieldType.boolean)) ∈ lw_all := lw_g (lw_at lw_m6 237 rfl) rfl
theorem q1575 : (Jvm.Cond.methodLink "PartyRaftModel" (331 : Nat) ({ cls := "PartyRaftModel", name := "readsRapid", desc := "()V" } : Jvm.MethodName)) ∈ lw_all := lw_g (lw_at lw_m6 238 rfl) rfl
theorem q1576 : (Jvm.Cond.privateMethod ({ cls := "PartyRaftModel", name := "readsRapid", desc := "()V" } : Jvm.MethodName)) ∈ lw_tbl := lw_at lw_m6 239 rfl
theorem q1577 : (Jvm.Cond.instanceMethod ({ cls := "PartyRaftModel", name := "readsRapid", desc := "()V" } : Jvm.MethodName)) ∈ lw_all := lw_g (lw_at lw_m7 0 rfl) rfl
theorem q1578 : (Jvm.Cond.code ({ cls := "PartyRaftModel", name := "readsRapid", desc := "()V" } : Jvm.MethodName) prog_17_method_38_code (5 : Nat) (Option.none : Option Jvm.ClassFile.FieldType)) ∈ lw_all := lw_g (lw_at lw_m7 1 rfl) rfl
theorem q1579 : (Jvm.Cond.methodLink "PartyRaftModel" (349 : Nat) ({ cls := "PartyRaftModel", name := "goesOn", desc := "()Z" } : Jvm.MethodName)) ∈ lw_all := lw_g (lw_at lw_m7 2 rfl) rfl
theorem q1580 : (Jvm.Cond.privateMethod ({ cls := "PartyRaftModel", name := "goesOn", desc := "()Z" } : Jvm.MethodName)) ∈ lw_tbl := lw_at lw_m7 3 rfl
theorem q1581 : (Jvm.Cond.instanceMethod ({ cls := "PartyRaftModel", name := "goesOn", desc := "()Z" } : Jvm.MethodName)) ∈ lw_all := lw_g (lw_at lw_m7 4 rfl) rfl
theorem q1582 : (Jvm.Cond.code ({ cls := "PartyRaftModel", name := "goesOn", desc := "()Z" } : Jvm.MethodName) prog_17_method_43_code (2 : Nat) (Option.some Jvm.ClassFile.FieldType.boolean)) ∈ lw_all := lw_g (lw_at lw_m7 5 rfl) rfl
theorem q1583 : (Jvm.Cond.methodLink "PartyRaftModel" (355 : Nat) ({ cls := "PartyRaftModel", name := "copies", desc := "([I[I)V" } : Jvm.MethodName)) ∈ lw_all := lw_g (lw_at lw_m7 6 rfl) rfl
theorem q1584 : (Jvm.Cond.static ({ cls := "PartyRaftModel", name := "copies", desc := "([I[I)V" } : Jvm.MethodName)) ∈ lw_all := lw_g (lw_at lw_m7 7 rfl) rfl
theorem q1585 : (Jvm.Cond.code ({ cls := "PartyRaftModel", name := "copies", desc := "([I[I)V" } : Jvm.MethodName) prog_17_method_42_code (3 : Nat) (Option.none : Option Jvm.ClassFile.FieldType)) ∈ lw_all := lw_g (lw_at lw_m7 8 rfl) rfl
theorem q1587 : (Jvm.Cond.instanceMethod ({ cls := "PartyRaftModel", name := "rule", desc := "()I" } : Jvm.MethodName)) ∈ lw_all := lw_g (lw_at lw_m7 10 rfl) rfl
theorem q1588 : (Jvm.Cond.selects "PartyRaftModel" ({ cls := "PartyRaftModel", name := "rule", desc := "()I" } : Jvm.MethodName) ({ cls := "PartyRaftModel", name := "rule", desc := "()I" } : Jvm.MethodName)) ∈ lw_all := lw_g (lw_at lw_m7 11 rfl) rfl
theorem q1589 : (Jvm.Cond.code ({ cls := "PartyRaftModel", name := "rule", desc := "()I" } : Jvm.MethodName) prog_17_method_48_code (3 : Nat) (Option.some Jvm.ClassFile.FieldType.int)) ∈ lw_all := lw_g (lw_at lw_m7 12 rfl) rfl
theorem q1590 : (Jvm.Cond.methodLink "PartyRaftModel" (375 : Nat) ({ cls := "PartyRaftModel", name := "ruleClause", desc := "(I)V" } : Jvm.MethodName)) ∈ lw_all := lw_g (lw_at lw_m7 13 rfl) rfl
theorem q1591 : (Jvm.Cond.privateMethod ({ cls := "PartyRaftModel", name := "ruleClause", desc := "(I)V" } : Jvm.MethodName)) ∈ lw_tbl := lw_at lw_m7 14 rfl
theorem q1592 : (Jvm.Cond.instanceMethod ({ cls := "PartyRaftModel", name := "ruleClause", desc := "(I)V" } : Jvm.MethodName)) ∈ lw_all := lw_g (lw_at lw_m7 15 rfl) rfl
theorem q1593 : (Jvm.Cond.code ({ cls := "PartyRaftModel", name := "ruleClause", desc := "(I)V" } : Jvm.MethodName) prog_17_method_47_code (4 : Nat) (Option.none : Option Jvm.ClassFile.FieldType)) ∈ lw_all := lw_g (lw_at lw_m7 16 rfl) rfl
theorem q1594 : (Jvm.Cond.stringRef "PartyRaftModel" (362 : Nat) "tie") ∈ lw_tbl := lw_at lw_m7 17 rfl
theorem q1595 : (Jvm.Cond.methodLink "PartyRaftModel" (280 : Nat) ({ cls := "PartyRaftModel", name := "sum", desc := "()V" } : Jvm.MethodName)) ∈ lw_all := lw_g (lw_at lw_m7 18 rfl) rfl
theorem q1596 : (Jvm.Cond.privateMethod ({ cls := "PartyRaftModel", name := "sum", desc := "()V" } : Jvm.MethodName)) ∈ lw_tbl := lw_at lw_m7 19 rfl
theorem q1597 : (Jvm.Cond.instanceMethod ({ cls := "PartyRaftModel", name := "sum", desc := "()V" } : Jvm.MethodName)) ∈ lw_all := lw_g (lw_at lw_m7 20 rfl) rfl
theorem q1598 : (Jvm.Cond.code ({ cls := "PartyRaftModel", name := "sum", desc := "()V" } : Jvm.MethodName) prog_17_method_27_code (2 : Nat) (Option.none : Option Jvm.ClassFile.FieldType)) ∈ lw_all := lw_g (lw_at lw_m7 21 rfl) rfl
theorem q1599 : (Jvm.Cond.methodLink "PartyRaftModel" (277 : Nat) ({ cls := "PartyRaftModel", name := "term", desc := "()V" } : Jvm.MethodName)) ∈ lw_all := lw_g (lw_at lw_m7 22 rfl) rfl
theorem q1600 : (Jvm.Cond.privateMethod ({ cls := "PartyRaftModel", name := "term", desc := "()V" } : Jvm.MethodName)) ∈ lw_tbl := lw_at lw_m7 23 rfl
theorem q1601 : (Jvm.Cond.instanceMethod ({ cls := "PartyRaftModel", name := "term", desc := "()V" } : Jvm.MethodName)) ∈ lw_all := lw_g (lw_at lw_m7 24 rfl) rfl
theorem q1602 : (Jvm.Cond.code ({ cls := "PartyRaftModel", name := "term", desc := "()V" } : Jvm.MethodName) prog_17_method_26_code (2 : Nat) (Option.none : Option Jvm.ClassFile.FieldType)) ∈ lw_all := lw_g (lw_at lw_m7 25 rfl) rfl
theorem q1603 : (Jvm.Cond.methodLink "PartyRaftModel" (274 : Nat) ({ cls := "PartyRaftModel", name := "value", desc := "()V" } : Jvm.MethodName)) ∈ lw_all := lw_g (lw_at lw_m7 26 rfl) rfl
theorem q1604 : (Jvm.Cond.privateMethod ({ cls := "PartyRaftModel", name := "value", desc := "()V" } : Jvm.MethodName)) ∈ lw_tbl := lw_at lw_m7 27 rfl
theorem q1605 : (Jvm.Cond.instanceMethod ({ cls := "PartyRaftModel", name := "value", desc := "()V" } : Jvm.MethodName)) ∈ lw_all := lw_g (lw_at lw_m7 28 rfl) rfl
theorem q1606 : (Jvm.Cond.code ({ cls := "PartyRaftModel", name := "value", desc := "()V" } : Jvm.MethodName) prog_17_method_25_code (3 : Nat) (Option.none : Option Jvm.ClassFile.FieldType)) ∈ lw_all := lw_g (lw_at lw_m7 29 rfl) rfl
theorem q1607 : (Jvm.Cond.methodLink "PartyRaftModel" (264 : Nat) ({ cls := "PartyRaftModel", name := "isCounted", desc := "(I)V" } : Jvm.MethodName)) ∈ lw_all := lw_g (lw_at lw_m7 30 rfl) rfl
theorem q1608 : (Jvm.Cond.privateMethod ({ cls := "PartyRaftModel", name := "isCounted", desc := "(I)V" } : Jvm.MethodName)) ∈ lw_tbl := lw_at lw_m7 31 rfl
theorem q1609 : (Jvm.Cond.instanceMethod ({ cls := "PartyRaftModel", name := "isCounted", desc := "(I)V" } : Jvm.MethodName)) ∈ lw_all := lw_g (lw_at lw_m7 32 rfl) rfl
theorem q1610 : (Jvm.Cond.code ({ cls := "PartyRaftModel", name := "isCounted", desc := "(I)V" } : Jvm.MethodName) prog_17_method_23_code (2 : Nat) (Option.none : Option Jvm.ClassFile.FieldType)) ∈ lw_all := lw_g (lw_at lw_m7 33 rfl) rfl
theorem q1611 : (Jvm.Cond.methodLink "PartyRaftModel" (267 : Nat) ({ cls := "PartyRaftModel", name := "entry", desc := "(II)V" } : Jvm.MethodName)) ∈ lw_all := lw_g (lw_at lw_m7 34 rfl) rfl
theorem q1612 : (Jvm.Cond.privateMethod ({ cls := "PartyRaftModel", name := "entry", desc := "(II)V" } : Jvm.MethodName)) ∈ lw_tbl := lw_at lw_m7 35 rfl
theorem q1613 : (Jvm.Cond.instanceMethod ({ cls := "PartyRaftModel", name := "entry", desc := "(II)V" } : Jvm.MethodName)) ∈ lw_all := lw_g (lw_at lw_m7 36 rfl) rfl
theorem q1614 : (Jvm.Cond.code ({ cls := "PartyRaftModel", name := "entry", desc := "(II)V" } : Jvm.MethodName) prog_17_method_22_code (3 : Nat) (Option.none : Option Jvm.ClassFile.FieldType)) ∈ lw_all := lw_g (lw_at lw_m7 37 rfl) rfl
theorem q1615 : (Jvm.Cond.methodLink "PartyRaftModel" (270 : Nat) ({ cls := "PartyRaftModel", name := "wordOf", desc := "(I)Ljava/lang/String;" } : Jvm.MethodName)) ∈ lw_all := lw_g (lw_at lw_m7 38 rfl) rfl
theorem q1616 : (Jvm.Cond.static ({ cls := "PartyRaftModel", name := "wordOf", desc := "(I)Ljava/lang/String;" } : Jvm.MethodName)) ∈ lw_all := lw_g (lw_at lw_m7 39 rfl) rfl
theorem q1617 : (Jvm.Cond.code ({ cls := "PartyRaftModel", name := "wordOf", desc := "(I)Ljava/lang/String;" } : Jvm.MethodName) prog_17_method_15_code (1 : Nat) (Option.some (Jvm.ClassFile.FieldType.object "java/lang/String"))) ∈ lw_all := lw_g (lw_at lw_m7 40 rfl) rfl
theorem q1618 : (Jvm.Cond.stringRef "PartyRaftModel" (191 : Nat) "one") ∈ lw_tbl := lw_at lw_m7 41 rfl
theorem q1619 : (Jvm.Cond.stringRef "PartyRaftModel" (193 : Nat) "other") ∈ lw_tbl := lw_at lw_m7 42 rfl
theorem q1620 : (Jvm.Cond.stringRef "PartyRaftModel" (195 : Nat) "float") ∈ lw_tbl := lw_at lw_m7 43 rfl
theorem q1621 : (Jvm.Cond.stringRef "PartyRaftModel" (197 : Nat) "weight") ∈ lw_tbl := lw_at lw_m7 44 rfl
theorem q1622 : (Jvm.Cond.stringRef "PartyRaftModel" (198 : Nat) "soak") ∈ lw_tbl := lw_at lw_m7 45 rfl
theorem q1623 : (Jvm.Cond.stringRef "PartyRaftModel" (199 : Nat) "same") ∈ lw_tbl := lw_at lw_m7 46 rfl
theorem q1624 : (Jvm.Cond.stringRef "PartyRaftModel" (201 : Nat) "apart") ∈ lw_tbl := lw_at lw_m7 47 rfl
theorem q1625 : (Jvm.Cond.stringRef "PartyRaftModel" (203 : Nat) "ropes") ∈ lw_tbl := lw_at lw_m7 48 rfl
theorem q1626 : (Jvm.Cond.stringRef "PartyRaftModel" (205 : Nat) "store") ∈ lw_tbl := lw_at lw_m7 49 rfl
theorem q1627 : (Jvm.Cond.stringRef "PartyRaftModel" (207 : Nat) "mile") ∈ lw_tbl := lw_at lw_m7 50 rfl
theorem q1628 : (Jvm.Cond.stringRef "PartyRaftModel" (209 : Nat) "landing") ∈ lw_tbl := lw_at lw_m7 51 rfl
theorem q1629 : (Jvm.Cond.stringRef "PartyRaftModel" (210 : Nat) "left") ∈ lw_tbl := lw_at lw_m7 52 rfl
theorem q1630 : (Jvm.Cond.stringRef "PartyRaftModel" (364 : Nat) "if") ∈ lw_tbl := lw_at lw_m7 53 rfl
theorem q1631 : (Jvm.Cond.methodLink "PartyRaftModel" (366 : Nat) ({ cls := "PartyRaftModel", name := "takes", desc := "(Ljava/lang/String;)Z" } : Jvm.MethodName)) ∈ lw_all := lw_g (lw_at lw_m7 54 rfl) rfl
theorem q1632 : (Jvm.Cond.privateMethod ({ cls := "PartyRaftModel", name := "takes", desc := "(Ljava/lang/String;)Z" } : Jvm.MethodName)) ∈ lw_tbl := lw_at lw_m7 55 rfl
theorem q1633 : (Jvm.Cond.instanceMethod ({ cls := "PartyRaftModel", name := "takes", desc := "(Ljava/lang/String;)Z" } : Jvm.MethodName)) ∈ lw_all := lw_g (lw_at lw_m7 56 rfl) rfl
theorem q1634 : (Jvm.Cond.code ({ cls := "PartyRaftModel", name := "takes", desc := "(Ljava/lang/String;)Z" } : Jvm.MethodName) prog_17_method_21_code (3 : Nat) (Option.some Jvm.ClassFile.FieldType.boolean)) ∈ lw_all := lw_g (lw_at lw_m7 57 rfl) rfl
theorem q1635 : (Jvm.Cond.methodLink "PartyRaftModel" (369 : Nat) ({ cls := "PartyRaftModel", name := "test", desc := "()V" } : Jvm.MethodName)) ∈ lw_all := lw_g (lw_at lw_m7 58 rfl) rfl
theorem q1636 : (Jvm.Cond.privateMethod ({ cls := "PartyRaftModel", name := "test", desc := "()V" } : Jvm.MethodName)) ∈ lw_tbl := lw_at lw_m7 59 rfl
theorem q1637 : (Jvm.Cond.instanceMethod ({ cls := "PartyRaftModel", name := "test", desc := "()V" } : Jvm.MethodName)) ∈ lw_all := lw_g (lw_at lw_m7 60 rfl) rfl
theorem q1638 : (Jvm.Cond.code ({ cls := "PartyRaftModel", name := "test", desc := "()V" } : Jvm.MethodName) prog_17_method_33_code (5 : Nat) (Option.none : Option Jvm.ClassFile.FieldType)) ∈ lw_all := lw_g (lw_at lw_m7 61 rfl) rfl
theorem q1639 : (Jvm.Cond.methodLink "PartyRaftModel" (300 : Nat) ({ cls := "PartyRaftModel", name := "fact", desc := "()Z" } : Jvm.MethodName)) ∈ lw_all := lw_g (lw_at lw_m7 62 rfl) rfl
theorem q1640 : (Jvm.Cond.privateMethod ({ cls := "PartyRaftModel", name := "fact", desc := "()Z" } : Jvm.MethodName)) ∈ lw_tbl := lw_at lw_m7 63 rfl
theorem q1641 : (Jvm.Cond.instanceMethod ({ cls := "PartyRaftModel", name := "fact", desc := "()Z" } : Jvm.MethodName)) ∈ lw_all := lw_g (lw_at lw_m7 64 rfl) rfl
theorem q1642 : (Jvm.Cond.code ({ cls := "PartyRaftModel", name := "fact", desc := "()Z" } : Jvm.MethodName) prog_17_method_32_code (1 : Nat) (Option.some Jvm.ClassFile.FieldType.boolean)) ∈ lw_all := lw_g (lw_at lw_m7 65 rfl) rfl
theorem q1643 : (Jvm.Cond.stringRef "PartyRaftModel" (292 : Nat) "not") ∈ lw_tbl := lw_at lw_m7 66 rfl
theorem q1644 : (Jvm.Cond.methodLink "PartyRaftModel" (294 : Nat) ({ cls := "PartyRaftModel", name := "opens", desc := "(I)V" } : Jvm.MethodName)) ∈ lw_all := lw_g (lw_at lw_m7 67 rfl) rfl
theorem q1645 : (Jvm.Cond.privateMethod ({ cls := "PartyRaftModel", name := "opens", desc := "(I)V" } : Jvm.MethodName)) ∈ lw_tbl := lw_at lw_m7 68 rfl
theorem q1646 : (Jvm.Cond.instanceMethod ({ cls := "PartyRaftModel", name := "opens", desc := "(I)V" } : Jvm.MethodName)) ∈ lw_all := lw_g (lw_at lw_m7 69 rfl) rfl
theorem q1647 : (Jvm.Cond.code ({ cls := "PartyRaftModel", name := "opens", desc := "(I)V" } : Jvm.MethodName) prog_17_method_30_code (2 : Nat) (Option.none : Option Jvm.ClassFile.FieldType)) ∈ lw_all := lw_g (lw_at lw_m7 70 rfl) rfl
theorem q1648 : (Jvm.Cond.methodLink "PartyRaftModel" (297 : Nat) ({ cls := "PartyRaftModel", name := "compared", desc := "()V" } : Jvm.MethodName)) ∈ lw_all := lw_g (lw_at lw_m7 71 rfl) rfl
theorem q1649 : (Jvm.Cond.privateMethod ({ cls := "PartyRaftModel", name := "compared", desc := "()V" } : Jvm.MethodName)) ∈ lw_tbl := lw_at lw_m7 72 rfl
theorem q1650 : (Jvm.Cond.instanceMethod ({ cls := "PartyRaftModel", name := "compared", desc := "()V" } : Jvm.MethodName)) ∈ lw_all := lw_g (lw_at lw_m7 73 rfl) rfl
theorem q1651 : (Jvm.Cond.code ({ cls := "PartyRaftModel", name := "compared", desc := "()V" } : Jvm.MethodName) prog_17_method_28_code (3 : Nat) (Option.none : Option Jvm.ClassFile.FieldType)) ∈ lw_all := lw_g (lw_at lw_m7 74 rfl) rfl
theorem q1652 : (Jvm.Cond.methodLink "PartyRaftModel" (303 : Nat) ({ cls := "PartyRaftModel", name := "answers", desc := "(I)V" } : Jvm.MethodName)) ∈ lw_all := lw_g (lw_at lw_m7 75 rfl) rfl
theorem q1653 : (Jvm.Cond.privateMethod ({ cls := "PartyRaftModel", name := "answers", desc := "(I)V" } : Jvm.MethodName)) ∈ lw_tbl := lw_at lw_m7 76 rfl
theorem q1654 : (Jvm.Cond.instanceMethod ({ cls := "PartyRaftModel", name := "answers", desc := "(I)V" } : Jvm.MethodName)) ∈ lw_all := lw_g (lw_at lw_m7 77 rfl) rfl
theorem q1655 : (Jvm.Cond.code ({ cls := "PartyRaftModel", name := "answers", desc := "(I)V" } : Jvm.MethodName) prog_17_method_31_code (2 : Nat) (Option.none : Option Jvm.ClassFile.FieldType)) ∈ lw_all := lw_g (lw_at lw_m7 78 rfl) rfl
theorem q1656 : (Jvm.Cond.methodLink "PartyRaftModel" (289 : Nat) ({ cls := "PartyRaftModel", name := "top", desc := "()I" } : Jvm.MethodName)) ∈ lw_all := lw_g (lw_at lw_m7 79 rfl) rfl
theorem q1657 : (Jvm.Cond.privateMethod ({ cls := "PartyRaftModel", name := "top", desc := "()I" } : Jvm.MethodName)) ∈ lw_tbl := lw_at lw_m7 80 rfl
theorem q1658 : (Jvm.Cond.instanceMethod ({ cls := "PartyRaftModel", name := "top", desc := "()I" } : Jvm.MethodName)) ∈ lw_all := lw_g (lw_at lw_m7 81 rfl) rfl
theorem q1659 : (Jvm.Cond.code ({ cls := "PartyRaftModel", name := "top", desc := "()I" } : Jvm.MethodName) prog_17_method_29_code (1 : Nat) (Option.some Jvm.ClassFile.FieldType.int)) ∈ lw_all := lw_g (lw_at lw_m7 82 rfl) rfl
theorem q1660 : (Jvm.Cond.stringRef "PartyRaftModel" (306 : Nat) "and") ∈ lw_tbl := lw_at lw_m7 83 rfl
theorem q1661 : (Jvm.Cond.stringRef "PartyRaftModel" (308 : Nat) "or") ∈ lw_tbl := lw_at lw_m7 84 rfl
theorem q1663 : (Jvm.Cond.instanceMethod ({ cls := "PartyRaftModel", name := "owner", desc := "(II)I" } : Jvm.MethodName)) ∈ lw_all := lw_g (lw_at lw_m7 86 rfl) rfl
theorem q1664 : (Jvm.Cond.selects "PartyRaftModel" ({ cls := "PartyRaftModel", name := "owner", desc := "(II)I" } : Jvm.MethodName) ({ cls := "PartyRaftModel", name := "owner", desc := "(II)I" } : Jvm.MethodName)) ∈ lw_all := lw_g (lw_at lw_m7 87 rfl) rfl
theorem q1665 : (Jvm.Cond.code ({ cls := "PartyRaftModel", name := "owner", desc := "(II)I" } : Jvm.MethodName) prog_17_method_65_code (4 : Nat) (Option.some Jvm.ClassFile.FieldType.int)) ∈ lw_all := lw_g (lw_at lw_m7 88 rfl) rfl
theorem q1666 : (Jvm.Cond.methodLink "PartyRaftModel" (418 : Nat) ({ cls := "PartyRaftModel", name := "isOwner", desc := "(I)Z" } : Jvm.MethodName)) ∈ lw_all := lw_g (lw_at lw_m7 89 rfl) rfl
theorem q1667 : (Jvm.Cond.privateMethod ({ cls := "PartyRaftModel", name := "isOwner", desc := "(I)Z" } : Jvm.MethodName)) ∈ lw_tbl := lw_at lw_m7 90 rfl
theorem q1668 : (Jvm.Cond.instanceMethod ({ cls := "PartyRaftModel", name := "isOwner", desc := "(I)Z" } : Jvm.MethodName)) ∈ lw_all := lw_g (lw_at lw_m7 91 rfl) rfl
theorem q1669 : (Jvm.Cond.code ({ cls := "PartyRaftModel", name := "isOwner", desc := "(I)Z" } : Jvm.MethodName) prog_17_method_7_code (2 : Nat) (Option.some Jvm.ClassFile.FieldType.boolean)) ∈ lw_all := lw_g (lw_at lw_m7 92 rfl) rfl
theorem q1670 : (Jvm.Cond.methodLink "PartyRaftModel" (396 : Nat) ({ cls := "PartyRaftModel", name := "allRopes", desc := "()I" } : Jvm.MethodName)) ∈ lw_all := lw_g (lw_at lw_m7 93 rfl) rfl
theorem q1671 : (Jvm.Cond.privateMethod ({ cls := "PartyRaftModel", name := "allRopes", desc := "()I" } : Jvm.MethodName)) ∈ lw_tbl := lw_at lw_m7 94 rfl
theorem q1672 : (Jvm.Cond.instanceMethod ({ cls := "PartyRaftModel", name := "allRopes", desc := "()I" } : Jvm.MethodName)) ∈ lw_all := lw_g (lw_at lw_m7 95 rfl) rfl
theorem q1673 : (Jvm.Cond.code ({ cls := "PartyRaftModel", name := "allRopes", desc := "()I" } : Jvm.MethodName) prog_17_method_55_code (1 : Nat) (Option.some Jvm.ClassFile.FieldType.int)) ∈ lw_all := lw_g (lw_at lw_m7 96 rfl) rfl
theorem q1674 : (Jvm.Cond.methodLink "PartyRaftModel" (403 : Nat) ({ cls := "PartyRaftModel", name := "riddenBy", desc := "(II)I" } : Jvm.MethodName)) ∈ lw_all := lw_g (lw_at lw_m7 97 rfl) rfl
theorem q1675 : (Jvm.Cond.privateMethod ({ cls := "PartyRaftModel", name := "riddenBy", desc := "(II)I" } : Jvm.MethodName)) ∈ lw_tbl := lw_at lw_m7 98 rfl
theorem q1676 : (Jvm.Cond.instanceMethod ({ cls := "PartyRaftModel", name := "riddenBy", desc := "(II)I" } : Jvm.MethodName)) ∈ lw_all := lw_g (lw_at lw_m7 99 rfl) rfl
theorem q1677 : (Jvm.Cond.code ({ cls := "PartyRaftModel", name := "riddenBy", desc := "(II)I" } : Jvm.MethodName) prog_17_method_59_code (11 : Nat) (Option.some Jvm.ClassFile.FieldType.int)) ∈ lw_all := lw_g (lw_at lw_m7 100 rfl) rfl
theorem q1678 : (Jvm.Cond.methodLink "PartyRaftModel" (393 : Nat) ({ cls := "PartyRaftModel", name := "afloat", desc := "()I" } : Jvm.MethodName)) ∈ lw_all := lw_g (lw_at lw_m7 101 rfl) rfl
theorem q1679 : (Jvm.Cond.privateMethod ({ cls := "PartyRaftModel", name := "afloat", desc := "()I" } : Jvm.MethodName)) ∈ lw_tbl := lw_at lw_m7 102 rfl
theorem q1680 : (Jvm.Cond.instanceMethod ({ cls := "PartyRaftModel", name := "afloat", desc := "()I" } : Jvm.MethodName)) ∈ lw_all := lw_g (lw_at lw_m7 103 rfl) rfl
theorem q1681 : (Jvm.Cond.code ({ cls := "PartyRaftModel", name := "afloat", desc := "()I" } : Jvm.MethodName) prog_17_method_54_code (3 : Nat) (Option.some Jvm.ClassFile.FieldType.int)) ∈ lw_all := lw_g (lw_at lw_m7 104 rfl) rfl
theorem q1682 : (Jvm.Cond.methodLink "PartyRaftModel" (390 : Nat) ({ cls := "PartyRaftModel", name := "has", desc := "(II)Z" } : Jvm.MethodName)) ∈ lw_all := lw_g (lw_at lw_m7 105 rfl) rfl
theorem q1683 : (Jvm.Cond.static ({ cls := "PartyRaftModel", name := "has", desc := "(II)Z" } : Jvm.MethodName)) ∈ lw_all := lw_g (lw_at lw_m7 106 rfl) rfl
theorem q1684 : (Jvm.Cond.code ({ cls := "PartyRaftModel", name := "has", desc := "(II)Z" } : Jvm.MethodName) prog_17_method_5_code (2 : Nat) (Option.some Jvm.ClassFile.FieldType.boolean)) ∈ lw_all := lw_g (lw_at lw_m7 107 rfl) rfl
theorem q1685 : (Jvm.Cond.methodLink "PartyRaftModel" (399 : Nat) ({ cls := "PartyRaftModel", name := "hangsWith", desc := "(III)I" } : Jvm.MethodName)) ∈ lw_all := lw_g (lw_at lw_m7 108 rfl) rfl
theorem q1686 : (Jvm.Cond.privateMethod ({ cls := "PartyRaftModel", name := "hangsWith", desc := "(III)I" } : Jvm.MethodName)) ∈ lw_tbl := lw_at lw_m7 109 rfl
theorem q1687 : (Jvm.Cond.instanceMethod ({ cls := "PartyRaftModel", name := "hangsWith", desc := "(III)I" } : Jvm.MethodName)) ∈ lw_all := lw_g (lw_at lw_m7 110 rfl) rfl
theorem q1688 : (Jvm.Cond.code ({ cls := "PartyRaftModel", name := "hangsWith", desc := "(III)I" } : Jvm.MethodName) prog_17_method_56_code (9 : Nat) (Option.some Jvm.ClassFile.FieldType.int)) ∈ lw_all := lw_g (lw_at lw_m7 111 rfl) rfl
theorem q1689 : (Jvm.Cond.methodLink "PartyRaftModel" (421 : Nat) ({ cls := "PartyRaftModel", name := "least", desc := "(I)I" } : Jvm.MethodName)) ∈ lw_all := lw_g (lw_at lw_m7 112 rfl) rfl
theorem q1690 : (Jvm.Cond.static ({ cls := "PartyRaftModel", name := "least", desc := "(I)I" } : Jvm.MethodName)) ∈ lw_all := lw_g (lw_at lw_m7 113 rfl) rfl
theorem q1691 : (Jvm.Cond.code ({ cls := "PartyRaftModel", name := "least", desc := "(I)I" } : Jvm.MethodName) prog_17_method_58_code (2 : Nat) (Option.some Jvm.ClassFile.FieldType.int)) ∈ lw_all := lw_g (lw_at lw_m7 114 rfl) rfl
theorem q1693 : (Jvm.Cond.instanceMethod ({ cls := "PartyRaftModel", name := "thing", desc := "(II)I" } : Jvm.MethodName)) ∈ lw_all := lw_g (lw_at lw_m7 116 rfl) rfl
theorem q1694 : (Jvm.Cond.selects "PartyRaftModel" ({ cls := "PartyRaftModel", name := "thing", desc := "(II)I" } : Jvm.MethodName) ({ cls := "PartyRaftModel", name := "thing", desc := "(II)I" } : Jvm.MethodName)) ∈ lw_all := lw_g (lw_at lw_m7 117 rfl) rfl
theorem q1695 : (Jvm.Cond.code ({ cls := "PartyRaftModel", name := "thing", desc := "(II)I" } : Jvm.MethodName) prog_17_method_66_code (3 : Nat) (Option.some Jvm.ClassFile.FieldType.int)) ∈ lw_all := lw_g (lw_at lw_m7 118 rfl) rfl
theorem q1696 : (Jvm.Cond.methodLink "PartyRaftModel" (180 : Nat) ({ cls := "PartyRaftModel", name := "isThing", desc := "(I)Z" } : Jvm.MethodName)) ∈ lw_all := lw_g (lw_at lw_m7 119 rfl) rfl
theorem q1697 : (Jvm.Cond.privateMethod ({ cls := "PartyRaftModel", name := "isThing", desc := "(I)Z" } : Jvm.MethodName)) ∈ lw_tbl := lw_at lw_m7 120 rfl
theorem q1698 : (Jvm.Cond.instanceMethod ({ cls := "PartyRaftModel", name := "isThing", desc := "(I)Z" } : Jvm.MethodName)) ∈ lw_all := lw_g (lw_at lw_m7 121 rfl) rfl
theorem q1699 : (Jvm.Cond.code ({ cls := "PartyRaftModel", name := "isThing", desc := "(I)Z" } : Jvm.MethodName) prog_17_method_8_code (2 : Nat) (Option.some Jvm.ClassFile.FieldType.boolean)) ∈ lw_all := lw_g (lw_at lw_m7 122 rfl) rfl
theorem q1700 : (Jvm.Cond.methodLink "PartyRaftModel" (424 : Nat) ({ cls := "PartyRaftModel", name := "pieceOf", desc := "(I)I" } : Jvm.MethodName)) ∈ lw_all := lw_g (lw_at lw_m7 123 rfl) rfl
theorem q1701 : (Jvm.Cond.privateMethod ({ cls := "PartyRaftModel", name := "pieceOf", desc := "(I)I" } : Jvm.MethodName)) ∈ lw_tbl := lw_at lw_m7 124 rfl
theorem q1702 : (Jvm.Cond.instanceMethod ({ cls := "PartyRaftModel", name := "pieceOf", desc := "(I)I" } : Jvm.MethodName)) ∈ lw_all := lw_g (lw_at lw_m7 125 rfl) rfl
theorem q1703 : (Jvm.Cond.code ({ cls := "PartyRaftModel", name := "pieceOf", desc := "(I)I" } : Jvm.MethodName) prog_17_method_57_code (2 : Nat) (Option.some Jvm.ClassFile.FieldType.int)) ∈ lw_all := lw_g (lw_at lw_m7 126 rfl) rfl
theorem q1705 : (Jvm.Cond.instanceMethod ({ cls := "PartyRaftModel", name := "rope", desc := "(II)I" } : Jvm.MethodName)) ∈ lw_all := lw_g (lw_at lw_m7 128 rfl) rfl
theorem q1706 : (Jvm.Cond.selects "PartyRaftModel" ({ cls := "PartyRaftModel", name := "rope", desc := "(II)I" } : Jvm.MethodName) ({ cls := "PartyRaftModel", name := "rope", desc := "(II)I" } : Jvm.MethodName)) ∈ lw_all := lw_g (lw_at lw_m7 129 rfl) rfl
theorem q1707 : (Jvm.Cond.code ({ cls := "PartyRaftModel", name := "rope", desc := "(II)I" } : Jvm.MethodName) prog_17_method_67_code (3 : Nat) (Option.some Jvm.ClassFile.FieldType.int)) ∈ lw_all := lw_g (lw_at lw_m7 130 rfl) rfl
theorem q1708 : (Jvm.Cond.methodLink "PartyRaftModel" (427 : Nat) ({ cls := "PartyRaftModel", name := "isRope", desc := "(I)Z" } : Jvm.MethodName)) ∈ lw_all := lw_g (lw_at lw_m7 131 rfl) rfl
theorem q1709 : (Jvm.Cond.privateMethod ({ cls := "PartyRaftModel", name := "isRope", desc := "(I)Z" } : Jvm.MethodName)) ∈ lw_tbl := lw_at lw_m7 132 rfl
theorem q1710 : (Jvm.Cond.instanceMethod ({ cls := "PartyRaftModel", name := "isRope", desc := "(I)Z" } : Jvm.MethodName)) ∈ lw_all := lw_g (lw_at lw_m7 133 rfl) rfl
theorem q1711 : (Jvm.Cond.code ({ cls := "PartyRaftModel", name := "isRope", desc := "(I)Z" } : Jvm.MethodName) prog_17_method_10_code (2 : Nat) (Option.some Jvm.ClassFile.FieldType.boolean)) ∈ lw_all := lw_g (lw_at lw_m7 134 rfl) rfl
theorem q1713 : (Jvm.Cond.instanceMethod ({ cls := "PartyRaftModel", name := "rapid", desc := "(I)I" } : Jvm.MethodName)) ∈ lw_all := lw_g (lw_at lw_m7 136 rfl) rfl
theorem q1714 : (Jvm.Cond.selects "PartyRaftModel" ({ cls := "PartyRaftModel", name := "rapid", desc := "(I)I" } : Jvm.MethodName) ({ cls := "PartyRaftModel", name := "rapid", desc := "(I)I" } : Jvm.MethodName)) ∈ lw_all := lw_g (lw_at lw_m7 137 rfl) rfl
theorem q1715 : (Jvm.Cond.code ({ cls := "PartyRaftModel", name := "rapid", desc := "(I)I" } : Jvm.MethodName) prog_17_method_69_code (2 : Nat) (Option.some Jvm.ClassFile.FieldType.int)) ∈ lw_all := lw_g (lw_at lw_m7 138 rfl) rfl
theorem q1716 : (Jvm.Cond.methodLink "PartyRaftModel" (430 : Nat) ({ cls := "PartyRaftModel", name := "isRiver", desc := "()Z" } : Jvm.MethodName)) ∈ lw_all := lw_g (lw_at lw_m7 139 rfl) rfl
theorem q1717 : (Jvm.Cond.privateMethod ({ cls := "PartyRaftModel", name := "isRiver", desc := "()Z" } : Jvm.MethodName)) ∈ lw_tbl := lw_at lw_m7 140 rfl
theorem q1718 : (Jvm.Cond.instanceMethod ({ cls := "PartyRaftModel", name := "isRiver", desc := "()Z" } : Jvm.MethodName)) ∈ lw_all := lw_g (lw_at lw_m7 141 rfl) rfl
theorem q1719 : (Jvm.Cond.code ({ cls := "PartyRaftModel", name := "isRiver", desc := "()Z" } : Jvm.MethodName) prog_17_method_6_code (1 : Nat) (Option.some Jvm.ClassFile.FieldType.boolean)) ∈ lw_all := lw_g (lw_at lw_m7 142 rfl) rfl
theorem q1720 : (Jvm.Cond.methodLink "PartyRaftModel" (433 : Nat) ({ cls := "PartyRaftModel", name := "forceAt", desc := "(I)I" } : Jvm.MethodName)) ∈ lw_all := lw_g (lw_at lw_m7 143 rfl) rfl
theorem q1721 : (Jvm.Cond.privateMethod ({ cls := "PartyRaftModel", name := "forceAt", desc := "(I)I" } : Jvm.MethodName)) ∈ lw_tbl := lw_at lw_m7 144 rfl
theorem q1722 : (Jvm.Cond.instanceMethod ({ cls := "PartyRaftModel", name := "forceAt", desc := "(I)I" } : Jvm.MethodName)) ∈ lw_all := lw_g (lw_at lw_m7 145 rfl) rfl
theorem q1723 : (Jvm.Cond.code ({ cls := "PartyRaftModel", name := "forceAt", desc := "(I)I" } : Jvm.MethodName) prog_17_method_68_code (3 : Nat) (Option.some Jvm.ClassFile.FieldType.int)) ∈ lw_all := lw_g (lw_at lw_m7 146 rfl) rfl
theorem q1725 : (Jvm.Cond.instanceMethod ({ cls := "PartyRaftModel", name := "margin", desc := "(I)I" } : Jvm.MethodName)) ∈ lw_all := lw_g (lw_at lw_m7 148 rfl) rfl
theorem q1726 : (Jvm.Cond.selects "PartyRaftModel" ({ cls := "PartyRaftModel", name := "margin", desc := "(I)I" } : Jvm.MethodName) ({ cls := "PartyRaftModel", name := "margin", desc := "(I)I" } : Jvm.MethodName)) ∈ lw_all := lw_g (lw_at lw_m7 149 rfl) rfl
theorem q1727 : (Jvm.Cond.code ({ cls := "PartyRaftModel", name := "margin", desc := "(I)I" } : Jvm.MethodName) prog_17_method_70_code (2 : Nat) (Option.some Jvm.ClassFile.FieldType.int)) ∈ lw_all := lw_g (lw_at lw_m7 150 rfl) rfl
theorem q1728 : (Jvm.Cond.methodLink "PartyRaftModel" (436 : Nat) ({ cls := "PartyRaftModel", name := "isAfloat", desc := "(I)Z" } : Jvm.MethodName)) ∈ lw_all := lw_g (lw_at lw_m7 151 rfl) rfl
theorem q1729 : (Jvm.Cond.privateMethod ({ cls := "PartyRaftModel", name := "isAfloat", desc := "(I)Z" } : Jvm.MethodName)) ∈ lw_tbl := lw_at lw_m7 152 rfl
theorem q1730 : (Jvm.Cond.instanceMethod ({ cls := "PartyRaftModel", name := "isAfloat", desc := "(I)Z" } : Jvm.MethodName)) ∈ lw_all := lw_g (lw_at lw_m7 153 rfl) rfl
theorem q1731 : (Jvm.Cond.code ({ cls := "PartyRaftModel", name := "isAfloat", desc := "(I)Z" } : Jvm.MethodName) prog_17_method_9_code (2 : Nat) (Option.some Jvm.ClassFile.FieldType.boolean)) ∈ lw_all := lw_g (lw_at lw_m7 154 rfl) rfl
theorem q1732 : (Jvm.Cond.methodLink "PartyRaftModel" (415 : Nat) ({ cls := "PartyRaftModel", name := "marginOf", desc := "(II)I" } : Jvm.MethodName)) ∈ lw_all := lw_g (lw_at lw_m7 155 rfl) rfl
theorem q1733 : (Jvm.Cond.privateMethod ({ cls := "PartyRaftModel", name := "marginOf", desc := "(II)I" } : Jvm.MethodName)) ∈ lw_tbl := lw_at lw_m7 156 rfl
theorem q1734 : (Jvm.Cond.instanceMethod ({ cls := "PartyRaftModel", name := "marginOf", desc := "(II)I" } : Jvm.MethodName)) ∈ lw_all := lw_g (lw_at lw_m7 157 rfl) rfl
theorem q1735 : (Jvm.Cond.code ({ cls := "PartyRaftModel", name := "marginOf", desc := "(II)I" } : Jvm.MethodName) prog_17_method_63_code (3 : Nat) (Option.some Jvm.ClassFile.FieldType.int)) ∈ lw_all := lw_g (lw_at lw_m7 158 rfl) rfl
theorem q1736 : (Jvm.Cond.methodLink "PartyRaftModel" (406 : Nat) ({ cls := "PartyRaftModel", name := "floatOf", desc := "(I)I" } : Jvm.MethodName)) ∈ lw_all := lw_g (lw_at lw_m7 159 rfl) rfl
theorem q1737 : (Jvm.Cond.privateMethod ({ cls := "PartyRaftModel", name := "floatOf", desc := "(I)I" } : Jvm.MethodName)) ∈ lw_tbl := lw_at lw_m7 160 rfl
theorem q1738 : (Jvm.Cond.instanceMethod ({ cls := "PartyRaftModel", name := "floatOf", desc := "(I)I" } : Jvm.MethodName)) ∈ lw_all := lw_g (lw_at lw_m7 161 rfl) rfl
theorem q1739 : (Jvm.Cond.code ({ cls := "PartyRaftModel", name := "floatOf", desc := "(I)I" } : Jvm.MethodName) prog_17_method_60_code (4 : Nat) (Option.some Jvm.ClassFile.FieldType.int)) ∈ lw_all := lw_g (lw_at lw_m7 162 rfl) rfl
theorem q1740 : (Jvm.Cond.methodLink "PartyRaftModel" (409 : Nat) ({ cls := "PartyRaftModel", name := "weightOf", desc := "(I)I" } : Jvm.MethodName)) ∈ lw_all := lw_g (lw_at lw_m7 163 rfl) rfl
theorem q1741 : (Jvm.Cond.privateMethod ({ cls := "PartyRaftModel", name := "weightOf", desc := "(I)I" } : Jvm.MethodName)) ∈ lw_tbl := lw_at lw_m7 164 rfl
theorem q1742 : (Jvm.Cond.instanceMethod ({ cls := "PartyRaftModel", name := "weightOf", desc := "(I)I" } : Jvm.MethodName)) ∈ lw_all := lw_g (lw_at lw_m7 165 rfl) rfl
theorem q1743 : (Jvm.Cond.code ({ cls := "PartyRaftModel", name := "weightOf", desc := "(I)I" } : Jvm.MethodName) prog_17_method_61_code (4 : Nat) (Option.some Jvm.ClassFile.FieldType.int)) ∈ lw_all := lw_g (lw_at lw_m7 166 rfl) rfl
theorem q1744 : (Jvm.Cond.methodLink "PartyRaftModel" (412 : Nat) ({ cls := "PartyRaftModel", name := "ridersOf", desc := "(II)I" } : Jvm.MethodName)) ∈ lw_all := lw_g (lw_at lw_m7 167 rfl) rfl
theorem q1745 : (Jvm.Cond.privateMethod ({ cls := "PartyRaftModel", name := "ridersOf", desc := "(II)I" } : Jvm.MethodName)) ∈ lw_tbl := lw_at lw_m7 168 rfl
theorem q1746 : (Jvm.Cond.instanceMethod ({ cls := "PartyRaftModel", name := "ridersOf", desc := "(II)I" } : Jvm.MethodName)) ∈ lw_all := lw_g (lw_at lw_m7 169 rfl) rfl
theorem q1747 : (Jvm.Cond.code ({ cls := "PartyRaftModel", name := "ridersOf", desc := "(II)I" } : Jvm.MethodName) prog_17_method_62_code (5 : Nat) (Option.some Jvm.ClassFile.FieldType.int)) ∈ lw_all := lw_g (lw_at lw_m7 170 rfl) rfl
theorem q1749 : (Jvm.Cond.instanceMethod ({ cls := "PartyRaftModel", name := "undo", desc := "()I" } : Jvm.MethodName)) ∈ lw_all := lw_g (lw_at lw_m7 172 rfl) rfl
theorem q1750 : (Jvm.Cond.selects "PartyRaftModel" ({ cls := "PartyRaftModel", name := "undo", desc := "()I" } : Jvm.MethodName) ({ cls := "PartyRaftModel", name := "undo", desc := "()I" } : Jvm.MethodName)) ∈ lw_all := lw_g (lw_at lw_m7 173 rfl) rfl
theorem q1751 : (Jvm.Cond.code ({ cls := "PartyRaftModel", name := "undo", desc := "()I" } : Jvm.MethodName) prog_17_method_83_code (1 : Nat) (Option.some Jvm.ClassFile.FieldType.int)) ∈ lw_all := lw_g (lw_at lw_m7 174 rfl) rfl
theorem q1752 : (Jvm.Cond.methodLink "PartyRaftModel" (483 : Nat) ({ cls := "PartyRaftModel", name := "movesAll", desc := "(IZ)V" } : Jvm.MethodName)) ∈ lw_all := lw_g (lw_at lw_m7 175 rfl) rfl
theorem q1753 : (Jvm.Cond.privateMethod ({ cls := "PartyRaftModel", name := "movesAll", desc := "(IZ)V" } : Jvm.MethodName)) ∈ lw_tbl := lw_at lw_m7 176 rfl
theorem q1754 : (Jvm.Cond.instanceMethod ({ cls := "PartyRaftModel", name := "movesAll", desc := "(IZ)V" } : Jvm.MethodName)) ∈ lw_all := lw_g (lw_at lw_m7 177 rfl) rfl
theorem q1755 : (Jvm.Cond.code ({ cls := "PartyRaftModel", name := "movesAll", desc := "(IZ)V" } : Jvm.MethodName) prog_17_method_81_code (3 : Nat) (Option.none : Option Jvm.ClassFile.FieldType)) ∈ lw_all := lw_g (lw_at lw_m7 178 rfl) rfl
theorem q1756 : (Jvm.Cond.methodLink "PartyRaftModel" (476 : Nat) ({ cls := "PartyRaftModel", name := "moves", desc := "(I)I" } : Jvm.MethodName)) ∈ lw_all := lw_g (lw_at lw_m7 179 rfl) rfl
theorem q1757 : (Jvm.Cond.privateMethod ({ cls := "PartyRaftModel", name := "moves", desc := "(I)I" } : Jvm.MethodName)) ∈ lw_tbl := lw_at lw_m7 180 rfl
theorem q1758 : (Jvm.Cond.instanceMethod ({ cls := "PartyRaftModel", name := "moves", desc := "(I)I" } : Jvm.MethodName)) ∈ lw_all := lw_g (lw_at lw_m7 181 rfl) rfl
theorem q1759 : (Jvm.Cond.code ({ cls := "PartyRaftModel", name := "moves", desc := "(I)I" } : Jvm.MethodName) prog_17_method_79_code (3 : Nat) (Option.some Jvm.ClassFile.FieldType.int)) ∈ lw_all := lw_g (lw_at lw_m7 182 rfl) rfl
theorem q1760 : (Jvm.Cond.methodLink "PartyRaftModel" (479 : Nat) ({ cls := "PartyRaftModel", name := "movesRow", desc := "([I)V" } : Jvm.MethodName)) ∈ lw_all := lw_g (lw_at lw_m7 183 rfl) rfl
theorem q1761 : (Jvm.Cond.privateMethod ({ cls := "PartyRaftModel", name := "movesRow", desc := "([I)V" } : Jvm.MethodName)) ∈ lw_tbl := lw_at lw_m7 184 rfl
theorem q1762 : (Jvm.Cond.instanceMethod ({ cls := "PartyRaftModel", name := "movesRow", desc := "([I)V" } : Jvm.MethodName)) ∈ lw_all := lw_g (lw_at lw_m7 185 rfl) rfl
theorem q1763 : (Jvm.Cond.code ({ cls := "PartyRaftModel", name := "movesRow", desc := "([I)V" } : Jvm.MethodName) prog_17_method_80_code (3 : Nat) (Option.none : Option Jvm.ClassFile.FieldType)) ∈ lw_all := lw_g (lw_at lw_m7 186 rfl) rfl
theorem q1765 : (Jvm.Cond.instanceMethod ({ cls := "PartyRaftModel", name := "mile", desc := "()I" } : Jvm.MethodName)) ∈ lw_all := lw_g (lw_at lw_m7 188 rfl) rfl
theorem q1766 : (Jvm.Cond.selects "PartyRaftModel" ({ cls := "PartyRaftModel", name := "mile", desc := "()I" } : Jvm.MethodName) ({ cls := "PartyRaftModel", name := "mile", desc := "()I" } : Jvm.MethodName)) ∈ lw_all := lw_g (lw_at lw_m7 189 rfl) rfl
theorem q1767 : (Jvm.Cond.code ({ cls := "PartyRaftModel", name := "mile", desc := "()I" } : Jvm.MethodName) prog_17_method_84_code (1 : Nat) (Option.some Jvm.ClassFile.FieldType.int)) ∈ lw_all := lw_g (lw_at lw_m7 190 rfl) rfl
theorem q1768 : (Jvm.Cond.methodLink "PartyRaftModel" (487 : Nat) ({ cls := "PartyRaftModel", name := "milesLeft", desc := "()I" } : Jvm.MethodName)) ∈ lw_all := lw_g (lw_at lw_m7 191 rfl) rfl
theorem q1769 : (Jvm.Cond.privateMethod ({ cls := "PartyRaftModel", name := "milesLeft", desc := "()I" } : Jvm.MethodName)) ∈ lw_tbl := lw_at lw_m7 192 rfl
theorem q1770 : (Jvm.Cond.instanceMethod ({ cls := "PartyRaftModel", name := "milesLeft", desc := "()I" } : Jvm.MethodName)) ∈ lw_all := lw_g (lw_at lw_m7 193 rfl) rfl
theorem q1771 : (Jvm.Cond.code ({ cls := "PartyRaftModel", name := "milesLeft", desc := "()I" } : Jvm.MethodName) prog_17_method_11_code (1 : Nat) (Option.some Jvm.ClassFile.FieldType.int)) ∈ lw_all := lw_g (lw_at lw_m7 194 rfl) rfl
theorem q1772 : (Jvm.Cond.methodLink "PartyRaftModel" (490 : Nat) ({ cls := "PartyRaftModel", name := "keepsAct", desc := "()V" } : Jvm.MethodName)) ∈ lw_all := lw_g (lw_at lw_m7 195 rfl) rfl
theorem q1773 : (Jvm.Cond.privateMethod ({ cls := "PartyRaftModel", name := "keepsAct", desc := "()V" } : Jvm.MethodName)) ∈ lw_tbl := lw_at lw_m7 196 rfl
theorem q1774 : (Jvm.Cond.instanceMethod ({ cls := "PartyRaftModel", name := "keepsAct", desc := "()V" } : Jvm.MethodName)) ∈ lw_all := lw_g (lw_at lw_m7 197 rfl) rfl
theorem q1775 : (Jvm.Cond.code ({ cls := "PartyRaftModel", name := "keepsAct", desc := "()V" } : Jvm.MethodName) prog_17_method_82_code (2 : Nat) (Option.none : Option Jvm.ClassFile.FieldType)) ∈ lw_all := lw_g (lw_at lw_m7 198 rfl) rfl
theorem q1776 : (Jvm.Cond.methodLink "PartyRaftModel" (493 : Nat) ({ cls := "PartyRaftModel", name := "goesMile", desc := "()I" } : Jvm.MethodName)) ∈ lw_all := lw_g (lw_at lw_m7 199 rfl) rfl
theorem q1777 : (Jvm.Cond.privateMethod ({ cls := "PartyRaftModel", name := "goesMile", desc := "()I" } : Jvm.MethodName)) ∈ lw_tbl := lw_at lw_m7 200 rfl
theorem q1778 : (Jvm.Cond.instanceMethod ({ cls := "PartyRaftModel", name := "goesMile", desc := "()I" } : Jvm.MethodName)) ∈ lw_all := lw_g (lw_at lw_m7 201 rfl) rfl
theorem q1779 : (Jvm.Cond.code ({ cls := "PartyRaftModel", name := "goesMile", desc := "()I" } : Jvm.MethodName) prog_17_method_78_code (1 : Nat) (Option.some Jvm.ClassFile.FieldType.int)) ∈ lw_all := lw_g (lw_at lw_m7 202 rfl) rfl
theorem q1780 : (Jvm.Cond.methodLink "PartyRaftModel" (466 : Nat) ({ cls := "PartyRaftModel", name := "mileBy", desc := "(I)I" } : Jvm.MethodName)) ∈ lw_all := lw_g (lw_at lw_m7 203 rfl) rfl
theorem q1781 : (Jvm.Cond.privateMethod ({ cls := "PartyRaftModel", name := "mileBy", desc := "(I)I" } : Jvm.MethodName)) ∈ lw_tbl := lw_at lw_m7 204 rfl
theorem q1782 : (Jvm.Cond.instanceMethod ({ cls := "PartyRaftModel", name := "mileBy", desc := "(I)I" } : Jvm.MethodName)) ∈ lw_all := lw_g (lw_at lw_m7 205 rfl) rfl
theorem q1783 : (Jvm.Cond.code ({ cls := "PartyRaftModel", name := "mileBy", desc := "(I)I" } : Jvm.MethodName) prog_17_method_76_code (5 : Nat) (Option.some Jvm.ClassFile.FieldType.int)) ∈ lw_all := lw_g (lw_at lw_m7 206 rfl) rfl
theorem q1784 : (Jvm.Cond.methodLink "PartyRaftModel" (439 : Nat) ({ cls := "PartyRaftModel", name := "ropeGoes", desc := "(I)V" } : Jvm.MethodName)) ∈ lw_all := lw_g (lw_at lw_m7 207 rfl) rfl
theorem q1785 : (Jvm.Cond.privateMethod ({ cls := "PartyRaftModel", name := "ropeGoes", desc := "(I)V" } : Jvm.MethodName)) ∈ lw_tbl := lw_at lw_m7 208 rfl
theorem q1786 : (Jvm.Cond.instanceMethod ({ cls := "PartyRaftModel", name := "ropeGoes", desc := "(I)V" } : Jvm.MethodName)) ∈ lw_all := lw_g (lw_at lw_m7 209 rfl) rfl
theorem q1787 : (Jvm.Cond.code ({ cls := "PartyRaftModel", name := "ropeGoes", desc := "(I)V" } : Jvm.MethodName) prog_17_method_71_code (3 : Nat) (Option.none : Option Jvm.ClassFile.FieldType)) ∈ lw_all := lw_g (lw_at lw_m7 210 rfl) rfl
theorem q1788 : (Jvm.Cond.methodLink "PartyRaftModel" (450 : Nat) ({ cls := "PartyRaftModel", name := "lands", desc := "()V" } : Jvm.MethodName)) ∈ lw_all := lw_g (lw_at lw_m7 211 rfl) rfl
theorem q1789 : (Jvm.Cond.privateMethod ({ cls := "PartyRaftModel", name := "lands", desc := "()V" } : Jvm.MethodName)) ∈ lw_tbl := lw_at lw_m7 212 rfl
theorem q1790 : (Jvm.Cond.instanceMethod ({ cls := "PartyRaftModel", name := "lands", desc := "()V" } : Jvm.MethodName)) ∈ lw_all := lw_g (lw_at lw_m7 213 rfl) rfl
theorem q1791 : (Jvm.Cond.code ({ cls := "PartyRaftModel", name := "lands", desc := "()V" } : Jvm.MethodName) prog_17_method_77_code (4 : Nat) (Option.none : Option Jvm.ClassFile.FieldType)) ∈ lw_all := lw_g (lw_at lw_m7 214 rfl) rfl
theorem q1792 : (Jvm.Cond.methodLink "PartyRaftModel" (456 : Nat) ({ cls := "PartyRaftModel", name := "ropesGoOf", desc := "(IZ)I" } : Jvm.MethodName)) ∈ lw_all := lw_g (lw_at lw_m7 215 rfl) rfl
theorem q1793 : (Jvm.Cond.privateMethod ({ cls := "PartyRaftModel", name := "ropesGoOf", desc := "(IZ)I" } : Jvm.MethodName)) ∈ lw_tbl := lw_at lw_m7 216 rfl
theorem q1794 : (Jvm.Cond.instanceMethod ({ cls := "PartyRaftModel", name := "ropesGoOf", desc := "(IZ)I" } : Jvm.MethodName)) ∈ lw_all := lw_g (lw_at lw_m7 217 rfl) rfl
theorem q1795 : (Jvm.Cond.code ({ cls := "PartyRaftModel", name := "ropesGoOf", desc := "(IZ)I" } : Jvm.MethodName) prog_17_method_72_code (5 : Nat) (Option.some Jvm.ClassFile.FieldType.int)) ∈ lw_all := lw_g (lw_at lw_m7 218 rfl) rfl
theorem q1796 : (Jvm.Cond.methodLink "PartyRaftModel" (460 : Nat) ({ cls := "PartyRaftModel", name := "bits", desc := "(I)I" } : Jvm.MethodName)) ∈ lw_all := lw_g (lw_at lw_m7 219 rfl) rfl
theorem q1797 : (Jvm.Cond.static ({ cls := "PartyRaftModel", name := "bits", desc := "(I)I" } : Jvm.MethodName)) ∈ lw_all := lw_g (lw_at lw_m7 220 rfl) rfl
theorem q1798 : (Jvm.Cond.code ({ cls := "PartyRaftModel", name := "bits", desc := "(I)I" } : Jvm.MethodName) prog_17_method_4_code (3 : Nat) (Option.some Jvm.ClassFile.FieldType.int)) ∈ lw_all := lw_g (lw_at lw_m7 221 rfl) rfl
theorem q1799 : (Jvm.Cond.methodLink "PartyRaftModel" (453 : Nat) ({ cls := "PartyRaftModel", name := "sinking", desc := "(I)I" } : Jvm.MethodName)) ∈ lw_all := lw_g (lw_at lw_m7 222 rfl) rfl
theorem q1800 : (Jvm.Cond.privateMethod ({ cls := "PartyRaftModel", name := "sinking", desc := "(I)I" } : Jvm.MethodName)) ∈ lw_tbl := lw_at lw_m7 223 rfl
theorem q1801 : (Jvm.Cond.instanceMethod ({ cls := "PartyRaftModel", name := "sinking", desc := "(I)I" } : Jvm.MethodName)) ∈ lw_all := lw_g (lw_at lw_m7 224 rfl) rfl
theorem q1802 : (Jvm.Cond.code ({ cls := "PartyRaftModel", name := "sinking", desc := "(I)I" } : Jvm.MethodName) prog_17_method_64_code (7 : Nat) (Option.some Jvm.ClassFile.FieldType.int)) ∈ lw_all := lw_g (lw_at lw_m7 225 rfl) rfl
theorem q1804 : (Jvm.Cond.instanceMethod ({ cls := "PartyRaftModel", name := "bind", desc := "(III)I" } : Jvm.MethodName)) ∈ lw_all := lw_g (lw_at lw_m7 227 rfl) rfl
theorem q1805 : (Jvm.Cond.selects "PartyRaftModel" ({ cls := "PartyRaftModel", name := "bind", desc := "(III)I" } : Jvm.MethodName) ({ cls := "PartyRaftModel", name := "bind", desc := "(III)I" } : Jvm.MethodName)) ∈ lw_all := lw_g (lw_at lw_m7 228 rfl) rfl
theorem q1806 : (Jvm.Cond.code ({ cls := "PartyRaftModel", name := "bind", desc := "(III)I" } : Jvm.MethodName) prog_17_method_85_code (4 : Nat) (Option.some Jvm.ClassFile.FieldType.int)) ∈ lw_all := lw_g (lw_at lw_m7 229 rfl) rfl
theorem q1807 : (Jvm.Cond.methodLink "PartyRaftModel" (496 : Nat) ({ cls := "PartyRaftModel", name := "canBind", desc := "(III)Z" } : Jvm.MethodName)) ∈ lw_all := lw_g (lw_at lw_m7 230 rfl) rfl
theorem q1808 : (Jvm.Cond.privateMethod ({ cls := "PartyRaftModel", name := "canBind", desc := "(III)Z" } : Jvm.MethodName)) ∈ lw_tbl := lw_at lw_m7 231 rfl
theorem q1809 : (Jvm.Cond.instanceMethod ({ cls := "PartyRaftModel", name := "canBind", desc := "(III)Z" } : Jvm.MethodName)) ∈ lw_all := lw_g (lw_at lw_m7 232 rfl) rfl
theorem q1810 : (Jvm.Cond.code ({ cls := "PartyRaftModel", name := "canBind", desc := "(III)Z" } : Jvm.MethodName) prog_17_method_74_code (4 : Nat) (Option.some Jvm.ClassFile.FieldType.boolean)) ∈ lw_all := lw_g (lw_at lw_m7 233 rfl) rfl
theorem q1811 : (Jvm.Cond.constantLong "PartyRaftModel" (442 : Nat) (9 : Int64)) ∈ lw_all := lw_g (lw_at lw_m7 234 rfl) rfl
theorem q1812 : (Jvm.Cond.methodLink "PartyRaftModel" (444 : Nat) ({ cls := "PartyRaftModel", name := "isBound", desc := "(II)Z" } : Jvm.MethodName)) ∈ lw_all := lw_g (lw_at lw_m7 235 rfl) rfl
theorem q1813 : (Jvm.Cond.privateMethod ({ cls := "PartyRaftModel", name := "isBound", desc := "(II)Z" } : Jvm.MethodName)) ∈ lw_tbl := lw_at lw_m7 236 rfl
theorem q1814 : (Jvm.Cond.instanceMethod ({ cls := "PartyRaftModel", name := "isBound", desc := "(II)Z" } : Jvm.MethodName)) ∈ lw_all := lw_g (lw_at lw_m7 237 rfl) rfl
theorem q1815 : (Jvm.Cond.code ({ cls := "PartyRaftModel", name := "isBound", desc := "(II)Z" } : Jvm.MethodName) prog_17_method_73_code (4 : Nat) (Option.some Jvm.ClassFile.FieldType.boolean)) ∈ lw_all := lw_g (lw_at lw_m7 238 rfl) rfl
theorem q1816 : (Jvm.Cond.methodLink "PartyRaftModel" (500 : Nat) ({ cls := "PartyRaftModel", name := "binds", desc := "(III)I" } : Jvm.MethodName)) ∈ lw_all := lw_g (lw_at lw_m7 239 rfl) rfl
theorem q1817 : (Jvm.Cond.privateMethod ({ cls := "PartyRaftModel", name := "binds", desc := "(III)I" } : Jvm.MethodName)) ∈ lw_tbl := lw_at lw_m8 0 rfl
theorem q1818 : (Jvm.Cond.instanceMethod ({ cls := "PartyRaftModel", name := "binds", desc := "(III)I" } : Jvm.MethodName)) ∈ lw_all := lw_g (lw_at lw_m8 1 rfl) rfl
theorem q1819 : (Jvm.Cond.code ({ cls := "PartyRaftModel", name := "binds", desc := "(III)I" } : Jvm.MethodName) prog_17_method_75_code (5 : Nat) (Option.some Jvm.ClassFile.FieldType.int)) ∈ lw_all := lw_g (lw_at lw_m8 2 rfl) rfl
theorem q1821 : (Jvm.Cond.instanceMethod ({ cls := "PartyRaftModel", name := "cut", desc := "(I)I" } : Jvm.MethodName)) ∈ lw_all := lw_g (lw_at lw_m8 4 rfl) rfl
theorem q1822 : (Jvm.Cond.selects "PartyRaftModel" ({ cls := "PartyRaftModel", name := "cut", desc := "(I)I" } : Jvm.MethodName) ({ cls := "PartyRaftModel", name := "cut", desc := "(I)I" } : Jvm.MethodName)) ∈ lw_all := lw_g (lw_at lw_m8 5 rfl) rfl
theorem q1823 : (Jvm.Cond.code ({ cls := "PartyRaftModel", name := "cut", desc := "(I)I" } : Jvm.MethodName) prog_17_method_86_code (2 : Nat) (Option.some Jvm.ClassFile.FieldType.int)) ∈ lw_all := lw_g (lw_at lw_m8 6 rfl) rfl
theorem q1825 : (Jvm.Cond.instanceMethod ({ cls := "PartyRaftModel", name := "saw", desc := "(I)I" } : Jvm.MethodName)) ∈ lw_all := lw_g (lw_at lw_m8 8 rfl) rfl
theorem q1826 : (Jvm.Cond.selects "PartyRaftModel" ({ cls := "PartyRaftModel", name := "saw", desc := "(I)I" } : Jvm.MethodName) ({ cls := "PartyRaftModel", name := "saw", desc := "(I)I" } : Jvm.MethodName)) ∈ lw_all := lw_g (lw_at lw_m8 9 rfl) rfl
theorem q1827 : (Jvm.Cond.code ({ cls := "PartyRaftModel", name := "saw", desc := "(I)I" } : Jvm.MethodName) prog_17_method_87_code (2 : Nat) (Option.some Jvm.ClassFile.FieldType.int)) ∈ lw_all := lw_g (lw_at lw_m8 10 rfl) rfl
theorem q1829 : (Jvm.Cond.instanceMethod ({ cls := "PartyRaftModel", name := "push", desc := "(II)I" } : Jvm.MethodName)) ∈ lw_all := lw_g (lw_at lw_m8 12 rfl) rfl
theorem q1830 : (Jvm.Cond.selects "PartyRaftModel" ({ cls := "PartyRaftModel", name := "push", desc := "(II)I" } : Jvm.MethodName) ({ cls := "PartyRaftModel", name := "push", desc := "(II)I" } : Jvm.MethodName)) ∈ lw_all := lw_g (lw_at lw_m8 13 rfl) rfl
theorem q1831 : (Jvm.Cond.code ({ cls := "PartyRaftModel", name := "push", desc := "(II)I" } : Jvm.MethodName) prog_17_method_88_code (4 : Nat) (Option.some Jvm.ClassFile.FieldType.int)) ∈ lw_all := lw_g (lw_at lw_m8 14 rfl) rfl
theorem q1833 : (Jvm.Cond.instanceMethod ({ cls := "PartyRaftModel", name := "run", desc := "(III)I" } : Jvm.MethodName)) ∈ lw_all := lw_g (lw_at lw_m8 16 rfl) rfl
theorem q1834 : (Jvm.Cond.selects "PartyRaftModel" ({ cls := "PartyRaftModel", name := "run", desc := "(III)I" } : Jvm.MethodName) ({ cls := "PartyRaftModel", name := "run", desc := "(III)I" } : Jvm.MethodName)) ∈ lw_all := lw_g (lw_at lw_m8 17 rfl) rfl
theorem q1835 : (Jvm.Cond.code ({ cls := "PartyRaftModel", name := "run", desc := "(III)I" } : Jvm.MethodName) prog_17_method_91_code (6 : Nat) (Option.some Jvm.ClassFile.FieldType.int)) ∈ lw_all := lw_g (lw_at lw_m8 18 rfl) rfl
theorem q1836 : (Jvm.Cond.methodLink "PartyRaftModel" (510 : Nat) ({ cls := "PartyRaftModel", name := "isRule", desc := "(I)Z" } : Jvm.MethodName)) ∈ lw_all := lw_g (lw_at lw_m8 19 rfl) rfl
theorem q1837 : (Jvm.Cond.privateMethod ({ cls := "PartyRaftModel", name := "isRule", desc := "(I)Z" } : Jvm.MethodName)) ∈ lw_tbl := lw_at lw_m8 20 rfl
theorem q1838 : (Jvm.Cond.instanceMethod ({ cls := "PartyRaftModel", name := "isRule", desc := "(I)Z" } : Jvm.MethodName)) ∈ lw_all := lw_g (lw_at lw_m8 21 rfl) rfl
theorem q1839 : (Jvm.Cond.code ({ cls := "PartyRaftModel", name := "isRule", desc := "(I)Z" } : Jvm.MethodName) prog_17_method_50_code (2 : Nat) (Option.some Jvm.ClassFile.FieldType.boolean)) ∈ lw_all := lw_g (lw_at lw_m8 22 rfl) rfl
theorem q1840 : (Jvm.Cond.methodLink "PartyRaftModel" (513 : Nat) ({ cls := "PartyRaftModel", name := "tiesBy", desc := "(II)V" } : Jvm.MethodName)) ∈ lw_all := lw_g (lw_at lw_m8 23 rfl) rfl
theorem q1841 : (Jvm.Cond.privateMethod ({ cls := "PartyRaftModel", name := "tiesBy", desc := "(II)V" } : Jvm.MethodName)) ∈ lw_tbl := lw_at lw_m8 24 rfl
theorem q1842 : (Jvm.Cond.instanceMethod ({ cls := "PartyRaftModel", name := "tiesBy", desc := "(II)V" } : Jvm.MethodName)) ∈ lw_all := lw_g (lw_at lw_m8 25 rfl) rfl
theorem q1843 : (Jvm.Cond.code ({ cls := "PartyRaftModel", name := "tiesBy", desc := "(II)V" } : Jvm.MethodName) prog_17_method_90_code (11 : Nat) (Option.none : Option Jvm.ClassFile.FieldType)) ∈ lw_all := lw_g (lw_at lw_m8 26 rfl) rfl
theorem q1844 : (Jvm.Cond.methodLink "PartyRaftModel" (503 : Nat) ({ cls := "PartyRaftModel", name := "asks", desc := "(II)V" } : Jvm.MethodName)) ∈ lw_all := lw_g (lw_at lw_m8 27 rfl) rfl
theorem q1845 : (Jvm.Cond.privateMethod ({ cls := "PartyRaftModel", name := "asks", desc := "(II)V" } : Jvm.MethodName)) ∈ lw_tbl := lw_at lw_m8 28 rfl
theorem q1846 : (Jvm.Cond.instanceMethod ({ cls := "PartyRaftModel", name := "asks", desc := "(II)V" } : Jvm.MethodName)) ∈ lw_all := lw_g (lw_at lw_m8 29 rfl) rfl
theorem q1847 : (Jvm.Cond.code ({ cls := "PartyRaftModel", name := "asks", desc := "(II)V" } : Jvm.MethodName) prog_17_method_89_code (5 : Nat) (Option.none : Option Jvm.ClassFile.FieldType)) ∈ lw_all := lw_g (lw_at lw_m8 30 rfl) rfl
theorem q1848 : (Jvm.Cond.methodLink "PartyRaftModel" (506 : Nat) ({ cls := "PartyRaftModel", name := "wanted", desc := "(I)J" } : Jvm.MethodName)) ∈ lw_all := lw_g (lw_at lw_m8 31 rfl) rfl
theorem q1849 : (Jvm.Cond.privateMethod ({ cls := "PartyRaftModel", name := "wanted", desc := "(I)J" } : Jvm.MethodName)) ∈ lw_tbl := lw_at lw_m8 32 rfl
theorem q1850 : (Jvm.Cond.instanceMethod ({ cls := "PartyRaftModel", name := "wanted", desc := "(I)J" } : Jvm.MethodName)) ∈ lw_all := lw_g (lw_at lw_m8 33 rfl) rfl
theorem q1851 : (Jvm.Cond.code ({ cls := "PartyRaftModel", name := "wanted", desc := "(I)J" } : Jvm.MethodName) prog_17_method_49_code (3 : Nat) (Option.some Jvm.ClassFile.FieldType.long)) ∈ lw_all := lw_g (lw_at lw_m8 34 rfl) rfl
theorem q1852 : (Jvm.Cond.methodLink "PartyRaftModel" (378 : Nat) ({ cls := "PartyRaftModel", name := "answer", desc := "(III)J" } : Jvm.MethodName)) ∈ lw_all := lw_g (lw_at lw_m8 35 rfl) rfl
theorem q1853 : (Jvm.Cond.privateMethod ({ cls := "PartyRaftModel", name := "answer", desc := "(III)J" } : Jvm.MethodName)) ∈ lw_tbl := lw_at lw_m8 36 rfl
theorem q1854 : (Jvm.Cond.instanceMethod ({ cls := "PartyRaftModel", name := "answer", desc := "(III)J" } : Jvm.MethodName)) ∈ lw_all := lw_g (lw_at lw_m8 37 rfl) rfl
theorem q1855 : (Jvm.Cond.code ({ cls := "PartyRaftModel", name := "answer", desc := "(III)J" } : Jvm.MethodName) prog_17_method_53_code (8 : Nat) (Option.some Jvm.ClassFile.FieldType.long)) ∈ lw_all := lw_g (lw_at lw_m8 38 rfl) rfl
theorem q1856 : (Jvm.Cond.methodLink "PartyRaftModel" (386 : Nat) ({ cls := "PartyRaftModel", name := "both", desc := "(IJJ)J" } : Jvm.MethodName)) ∈ lw_all := lw_g (lw_at lw_m8 39 rfl) rfl
theorem q1857 : (Jvm.Cond.static ({ cls := "PartyRaftModel", name := "both", desc := "(IJJ)J" } : Jvm.MethodName)) ∈ lw_all := lw_g (lw_at lw_m8 40 rfl) rfl
theorem q1858 : (Jvm.Cond.code ({ cls := "PartyRaftModel", name := "both", desc := "(IJJ)J" } : Jvm.MethodName) prog_17_method_52_code (5 : Nat) (Option.some Jvm.ClassFile.FieldType.long)) ∈ lw_all := lw_g (lw_at lw_m8 41 rfl) rfl
theorem q1859 : (Jvm.Cond.methodLink "PartyRaftModel" (382 : Nat) ({ cls := "PartyRaftModel", name := "truth", desc := "(Z)J" } : Jvm.MethodName)) ∈ lw_all := lw_g (lw_at lw_m8 42 rfl) rfl
theorem q1860 : (Jvm.Cond.static ({ cls := "PartyRaftModel", name := "truth", desc := "(Z)J" } : Jvm.MethodName)) ∈ lw_all := lw_g (lw_at lw_m8 43 rfl) rfl
theorem q1861 : (Jvm.Cond.code ({ cls := "PartyRaftModel", name := "truth", desc := "(Z)J" } : Jvm.MethodName) prog_17_method_51_code (1 : Nat) (Option.some Jvm.ClassFile.FieldType.long)) ∈ lw_all := lw_g (lw_at lw_m8 44 rfl) rfl
theorem q1863 : (Jvm.Cond.instanceMethod ({ cls := "PartyRaftModel", name := "ahead", desc := "(II)I" } : Jvm.MethodName)) ∈ lw_all := lw_g (lw_at lw_m8 46 rfl) rfl
theorem q1864 : (Jvm.Cond.selects "PartyRaftModel" ({ cls := "PartyRaftModel", name := "ahead", desc := "(II)I" } : Jvm.MethodName) ({ cls := "PartyRaftModel", name := "ahead", desc := "(II)I" } : Jvm.MethodName)) ∈ lw_all := lw_g (lw_at lw_m8 47 rfl) rfl
theorem q1865 : (Jvm.Cond.code ({ cls := "PartyRaftModel", name := "ahead", desc := "(II)I" } : Jvm.MethodName) prog_17_method_95_code (5 : Nat) (Option.some Jvm.ClassFile.FieldType.int)) ∈ lw_all := lw_g (lw_at lw_m8 48 rfl) rfl
theorem q1866 : (Jvm.Cond.constantLong "PartyRaftModel" (519 : Nat) (3 : Int64)) ∈ lw_all := lw_g (lw_at lw_m8 49 rfl) rfl
theorem q1867 : (Jvm.Cond.methodLink "PartyRaftModel" (521 : Nat) ({ cls := "PartyRaftModel", name := "keepsAll", desc := "()V" } : Jvm.MethodName)) ∈ lw_all := lw_g (lw_at lw_m8 50 rfl) rfl
theorem q1868 : (Jvm.Cond.privateMethod ({ cls := "PartyRaftModel", name := "keepsAll", desc := "()V" } : Jvm.MethodName)) ∈ lw_tbl := lw_at lw_m8 51 rfl
theorem q1869 : (Jvm.Cond.instanceMethod ({ cls := "PartyRaftModel", name := "keepsAll", desc := "()V" } : Jvm.MethodName)) ∈ lw_all := lw_g (lw_at lw_m8 52 rfl) rfl
theorem q1870 : (Jvm.Cond.code ({ cls := "PartyRaftModel", name := "keepsAll", desc := "()V" } : Jvm.MethodName) prog_17_method_92_code (1 : Nat) (Option.none : Option Jvm.ClassFile.FieldType)) ∈ lw_all := lw_g (lw_at lw_m8 53 rfl) rfl
theorem q1871 : (Jvm.Cond.methodLink "PartyRaftModel" (516 : Nat) ({ cls := "PartyRaftModel", name := "carriesAll", desc := "(IZ)V" } : Jvm.MethodName)) ∈ lw_all := lw_g (lw_at lw_m8 54 rfl) rfl
theorem q1872 : (Jvm.Cond.privateMethod ({ cls := "PartyRaftModel", name := "carriesAll", desc := "(IZ)V" } : Jvm.MethodName)) ∈ lw_tbl := lw_at lw_m8 55 rfl
theorem q1873 : (Jvm.Cond.instanceMethod ({ cls := "PartyRaftModel", name := "carriesAll", desc := "(IZ)V" } : Jvm.MethodName)) ∈ lw_all := lw_g (lw_at lw_m8 56 rfl) rfl
theorem q1874 : (Jvm.Cond.code ({ cls := "PartyRaftModel", name := "carriesAll", desc := "(IZ)V" } : Jvm.MethodName) prog_17_method_125_code (3 : Nat) (Option.none : Option Jvm.ClassFile.FieldType)) ∈ lw_all := lw_g (lw_at lw_m8 57 rfl) rfl
theorem q1875 : (Jvm.Cond.methodLink "PartyRaftModel" (615 : Nat) ({ cls := "PartyRaftModel", name := "carryRow", desc := "([I)V" } : Jvm.MethodName)) ∈ lw_all := lw_g (lw_at lw_m8 58 rfl) rfl
theorem q1876 : (Jvm.Cond.privateMethod ({ cls := "PartyRaftModel", name := "carryRow", desc := "([I)V" } : Jvm.MethodName)) ∈ lw_tbl := lw_at lw_m8 59 rfl
theorem q1877 : (Jvm.Cond.instanceMethod ({ cls := "PartyRaftModel", name := "carryRow", desc := "([I)V" } : Jvm.MethodName)) ∈ lw_all := lw_g (lw_at lw_m8 60 rfl) rfl
theorem q1878 : (Jvm.Cond.code ({ cls := "PartyRaftModel", name := "carryRow", desc := "([I)V" } : Jvm.MethodName) prog_17_method_124_code (3 : Nat) (Option.none : Option Jvm.ClassFile.FieldType)) ∈ lw_all := lw_g (lw_at lw_m8 61 rfl) rfl
theorem q1879 : (Jvm.Cond.methodLink "PartyRaftModel" (524 : Nat) ({ cls := "PartyRaftModel", name := "thingsAt", desc := "(I)I" } : Jvm.MethodName)) ∈ lw_all := lw_g (lw_at lw_m8 62 rfl) rfl
theorem q1880 : (Jvm.Cond.privateMethod ({ cls := "PartyRaftModel", name := "thingsAt", desc := "(I)I" } : Jvm.MethodName)) ∈ lw_tbl := lw_at lw_m8 63 rfl
theorem q1881 : (Jvm.Cond.instanceMethod ({ cls := "PartyRaftModel", name := "thingsAt", desc := "(I)I" } : Jvm.MethodName)) ∈ lw_all := lw_g (lw_at lw_m8 64 rfl) rfl
theorem q1882 : (Jvm.Cond.code ({ cls := "PartyRaftModel", name := "thingsAt", desc := "(I)I" } : Jvm.MethodName) prog_17_method_94_code (4 : Nat) (Option.some Jvm.ClassFile.FieldType.int)) ∈ lw_all := lw_g (lw_at lw_m8 65 rfl) rfl
theorem q1883 : (Jvm.Cond.methodLink "PartyRaftModel" (527 : Nat) ({ cls := "PartyRaftModel", name := "laysBack", desc := "()V" } : Jvm.MethodName)) ∈ lw_all := lw_g (lw_at lw_m8 66 rfl) rfl
theorem q1884 : (Jvm.Cond.privateMethod ({ cls := "PartyRaftModel", name := "laysBack", desc := "()V" } : Jvm.MethodName)) ∈ lw_tbl := lw_at lw_m8 67 rfl
theorem q1885 : (Jvm.Cond.instanceMethod ({ cls := "PartyRaftModel", name := "laysBack", desc := "()V" } : Jvm.MethodName)) ∈ lw_all := lw_g (lw_at lw_m8 68 rfl) rfl
theorem q1886 : (Jvm.Cond.code ({ cls := "PartyRaftModel", name := "laysBack", desc := "()V" } : Jvm.MethodName) prog_17_method_93_code (1 : Nat) (Option.none : Option Jvm.ClassFile.FieldType)) ∈ lw_all := lw_g (lw_at lw_m8 69 rfl) rfl
theorem q1888 : (Jvm.Cond.instanceMethod ({ cls := "PartyRaftModel", name := "sinks", desc := "(I)I" } : Jvm.MethodName)) ∈ lw_all := lw_g (lw_at lw_m8 71 rfl) rfl
theorem q1889 : (Jvm.Cond.selects "PartyRaftModel" ({ cls := "PartyRaftModel", name := "sinks", desc := "(I)I" } : Jvm.MethodName) ({ cls := "PartyRaftModel", name := "sinks", desc := "(I)I" } : Jvm.MethodName)) ∈ lw_all := lw_g (lw_at lw_m8 72 rfl) rfl
theorem q1890 : (Jvm.Cond.code ({ cls := "PartyRaftModel", name := "sinks", desc := "(I)I" } : Jvm.MethodName) prog_17_method_96_code (3 : Nat) (Option.some Jvm.ClassFile.FieldType.int)) ∈ lw_all := lw_g (lw_at lw_m8 73 rfl) rfl
theorem q1892 : (Jvm.Cond.instanceMethod ({ cls := "PartyRaftModel", name := "bearers", desc := "(II)I" } : Jvm.MethodName)) ∈ lw_all := lw_g (lw_at lw_m8 75 rfl) rfl
theorem q1893 : (Jvm.Cond.selects "PartyRaftModel" ({ cls := "PartyRaftModel", name := "bearers", desc := "(II)I" } : Jvm.MethodName) ({ cls := "PartyRaftModel", name := "bearers", desc := "(II)I" } : Jvm.MethodName)) ∈ lw_all := lw_g (lw_at lw_m8 76 rfl) rfl
theorem q1894 : (Jvm.Cond.code ({ cls := "PartyRaftModel", name := "bearers", desc := "(II)I" } : Jvm.MethodName) prog_17_method_98_code (6 : Nat) (Option.some Jvm.ClassFile.FieldType.int)) ∈ lw_all := lw_g (lw_at lw_m8 77 rfl) rfl
theorem q1895 : (Jvm.Cond.methodLink "PartyRaftModel" (530 : Nat) ({ cls := "PartyRaftModel", name := "isBorne", desc := "(I)Z" } : Jvm.MethodName)) ∈ lw_all := lw_g (lw_at lw_m8 78 rfl) rfl
theorem q1896 : (Jvm.Cond.privateMethod ({ cls := "PartyRaftModel", name := "isBorne", desc := "(I)Z" } : Jvm.MethodName)) ∈ lw_tbl := lw_at lw_m8 79 rfl
theorem q1897 : (Jvm.Cond.instanceMethod ({ cls := "PartyRaftModel", name := "isBorne", desc := "(I)Z" } : Jvm.MethodName)) ∈ lw_all := lw_g (lw_at lw_m8 80 rfl) rfl
theorem q1898 : (Jvm.Cond.code ({ cls := "PartyRaftModel", name := "isBorne", desc := "(I)Z" } : Jvm.MethodName) prog_17_method_97_code (2 : Nat) (Option.some Jvm.ClassFile.FieldType.boolean)) ∈ lw_all := lw_g (lw_at lw_m8 81 rfl) rfl
theorem q1900 : (Jvm.Cond.instanceMethod ({ cls := "PartyRaftModel", name := "plan", desc := "(I)I" } : Jvm.MethodName)) ∈ lw_all := lw_g (lw_at lw_m8 83 rfl) rfl
theorem q1901 : (Jvm.Cond.selects "PartyRaftModel" ({ cls := "PartyRaftModel", name := "plan", desc := "(I)I" } : Jvm.MethodName) ({ cls := "PartyRaftModel", name := "plan", desc := "(I)I" } : Jvm.MethodName)) ∈ lw_all := lw_g (lw_at lw_m8 84 rfl) rfl
theorem q1902 : (Jvm.Cond.code ({ cls := "PartyRaftModel", name := "plan", desc := "(I)I" } : Jvm.MethodName) prog_17_method_103_code (3 : Nat) (Option.some Jvm.ClassFile.FieldType.int)) ∈ lw_all := lw_g (lw_at lw_m8 85 rfl) rfl
theorem q1903 : (Jvm.Cond.constantLong "PartyRaftModel" (548 : Nat) (-1 : Int64)) ∈ lw_all := lw_g (lw_at lw_m8 86 rfl) rfl
theorem q1904 : (Jvm.Cond.constantLong "PartyRaftModel" (550 : Nat) (6 : Int64)) ∈ lw_all := lw_g (lw_at lw_m8 87 rfl) rfl
theorem q1905 : (Jvm.Cond.methodLink "PartyRaftModel" (552 : Nat) ({ cls := "PartyRaftModel", name := "findsRows", desc := "(I)V" } : Jvm.MethodName)) ∈ lw_all := lw_g (lw_at lw_m8 88 rfl) rfl
theorem q1906 : (Jvm.Cond.privateMethod ({ cls := "PartyRaftModel", name := "findsRows", desc := "(I)V" } : Jvm.MethodName)) ∈ lw_tbl := lw_at lw_m8 89 rfl
theorem q1907 : (Jvm.Cond.instanceMethod ({ cls := "PartyRaftModel", name := "findsRows", desc := "(I)V" } : Jvm.MethodName)) ∈ lw_all := lw_g (lw_at lw_m8 90 rfl) rfl
theorem q1908 : (Jvm.Cond.code ({ cls := "PartyRaftModel", name := "findsRows", desc := "(I)V" } : Jvm.MethodName) prog_17_method_101_code (5 : Nat) (Option.none : Option Jvm.ClassFile.FieldType)) ∈ lw_all := lw_g (lw_at lw_m8 91 rfl) rfl
theorem q1909 : (Jvm.Cond.methodLink "PartyRaftModel" (539 : Nat) ({ cls := "PartyRaftModel", name := "laysLater", desc := "(I)Z" } : Jvm.MethodName)) ∈ lw_all := lw_g (lw_at lw_m8 92 rfl) rfl
theorem q1910 : (Jvm.Cond.privateMethod ({ cls := "PartyRaftModel", name := "laysLater", desc := "(I)Z" } : Jvm.MethodName)) ∈ lw_tbl := lw_at lw_m8 93 rfl
theorem q1911 : (Jvm.Cond.instanceMethod ({ cls := "PartyRaftModel", name := "laysLater", desc := "(I)Z" } : Jvm.MethodName)) ∈ lw_all := lw_g (lw_at lw_m8 94 rfl) rfl
theorem q1912 : (Jvm.Cond.code ({ cls := "PartyRaftModel", name := "laysLater", desc := "(I)Z" } : Jvm.MethodName) prog_17_method_99_code (9 : Nat) (Option.some Jvm.ClassFile.FieldType.boolean)) ∈ lw_all := lw_g (lw_at lw_m8 95 rfl) rfl
theorem q1913 : (Jvm.Cond.methodLink "PartyRaftModel" (542 : Nat) ({ cls := "PartyRaftModel", name := "takesRow", desc := "(I)V" } : Jvm.MethodName)) ∈ lw_all := lw_g (lw_at lw_m8 96 rfl) rfl
theorem q1914 : (Jvm.Cond.privateMethod ({ cls := "PartyRaftModel", name := "takesRow", desc := "(I)V" } : Jvm.MethodName)) ∈ lw_tbl := lw_at lw_m8 97 rfl
theorem q1915 : (Jvm.Cond.instanceMethod ({ cls := "PartyRaftModel", name := "takesRow", desc := "(I)V" } : Jvm.MethodName)) ∈ lw_all := lw_g (lw_at lw_m8 98 rfl) rfl
theorem q1916 : (Jvm.Cond.code ({ cls := "PartyRaftModel", name := "takesRow", desc := "(I)V" } : Jvm.MethodName) prog_17_method_102_code (3 : Nat) (Option.none : Option Jvm.ClassFile.FieldType)) ∈ lw_all := lw_g (lw_at lw_m8 99 rfl) rfl
theorem q1917 : (Jvm.Cond.methodLink "PartyRaftModel" (545 : Nat) ({ cls := "PartyRaftModel", name := "areTogether", desc := "(I)Z" } : Jvm.MethodName)) ∈ lw_all := lw_g (lw_at lw_m8 100 rfl) rfl
theorem q1918 : (Jvm.Cond.privateMethod ({ cls := "PartyRaftModel", name := "areTogether", desc := "(I)Z" } : Jvm.MethodName)) ∈ lw_tbl := lw_at lw_m8 101 rfl
theorem q1919 : (Jvm.Cond.instanceMethod ({ cls := "PartyRaftModel", name := "areTogether", desc := "(I)Z" } : Jvm.MethodName)) ∈ lw_all := lw_g (lw_at lw_m8 102 rfl) rfl
theorem q1920 : (Jvm.Cond.code ({ cls := "PartyRaftModel", name := "areTogether", desc := "(I)Z" } : Jvm.MethodName) prog_17_method_100_code (6 : Nat) (Option.some Jvm.ClassFile.FieldType.boolean)) ∈ lw_all := lw_g (lw_at lw_m8 103 rfl) rfl
theorem q1922 : (Jvm.Cond.instanceMethod ({ cls := "PartyRaftModel", name := "sawn", desc := "(II)I" } : Jvm.MethodName)) ∈ lw_all := lw_g (lw_at lw_m8 105 rfl) rfl
theorem q1923 : (Jvm.Cond.selects "PartyRaftModel" ({ cls := "PartyRaftModel", name := "sawn", desc := "(II)I" } : Jvm.MethodName) ({ cls := "PartyRaftModel", name := "sawn", desc := "(II)I" } : Jvm.MethodName)) ∈ lw_all := lw_g (lw_at lw_m8 106 rfl) rfl
theorem q1924 : (Jvm.Cond.code ({ cls := "PartyRaftModel", name := "sawn", desc := "(II)I" } : Jvm.MethodName) prog_17_method_104_code (6 : Nat) (Option.some Jvm.ClassFile.FieldType.int)) ∈ lw_all := lw_g (lw_at lw_m8 107 rfl) rfl
theorem q1925 : (Jvm.Cond.constantLong "PartyRaftModel" (555 : Nat) (2 : Int64)) ∈ lw_all := lw_g (lw_at lw_m8 108 rfl) rfl
theorem q1927 : (Jvm.Cond.instanceMethod ({ cls := "PartyRaftModel", name := "locks", desc := "(II)I" } : Jvm.MethodName)) ∈ lw_all := lw_g (lw_at lw_m8 110 rfl) rfl
theorem q1928 : (Jvm.Cond.selects "PartyRaftModel" ({ cls := "PartyRaftModel", name := "locks", desc := "(II)I" } : Jvm.MethodName) ({ cls := "PartyRaftModel", name := "locks", desc := "(II)I" } : Jvm.MethodName)) ∈ lw_all := lw_g (lw_at lw_m8 111 rfl) rfl
theorem q1929 : (Jvm.Cond.code ({ cls := "PartyRaftModel", name := "locks", desc := "(II)I" } : Jvm.MethodName) prog_17_method_108_code (5 : Nat) (Option.some Jvm.ClassFile.FieldType.int)) ∈ lw_all := lw_g (lw_at lw_m8 112 rfl) rfl
theorem q1930 : (Jvm.Cond.constantLong "PartyRaftModel" (566 : Nat) (200 : Int64)) ∈ lw_all := lw_g (lw_at lw_m8 113 rfl) rfl
theorem q1931 : (Jvm.Cond.constantLong "PartyRaftModel" (568 : Nat) (8 : Int64)) ∈ lw_all := lw_g (lw_at lw_m8 114 rfl) rfl
theorem q1932 : (Jvm.Cond.methodLink "PartyRaftModel" (570 : Nat) ({ cls := "PartyRaftModel", name := "findsLocks", desc := "(I)V" } : Jvm.MethodName)) ∈ lw_all := lw_g (lw_at lw_m8 115 rfl) rfl
theorem q1933 : (Jvm.Cond.privateMethod ({ cls := "PartyRaftModel", name := "findsLocks", desc := "(I)V" } : Jvm.MethodName)) ∈ lw_tbl := lw_at lw_m8 116 rfl
theorem q1934 : (Jvm.Cond.instanceMethod ({ cls := "PartyRaftModel", name := "findsLocks", desc := "(I)V" } : Jvm.MethodName)) ∈ lw_all := lw_g (lw_at lw_m8 117 rfl) rfl
theorem q1935 : (Jvm.Cond.code ({ cls := "PartyRaftModel", name := "findsLocks", desc := "(I)V" } : Jvm.MethodName) prog_17_method_107_code (7 : Nat) (Option.none : Option Jvm.ClassFile.FieldType)) ∈ lw_all := lw_g (lw_at lw_m8 118 rfl) rfl
theorem q1936 : (Jvm.Cond.methodLink "PartyRaftModel" (560 : Nat) ({ cls := "PartyRaftModel", name := "locksUsed", desc := "(I)I" } : Jvm.MethodName)) ∈ lw_all := lw_g (lw_at lw_m8 119 rfl) rfl
theorem q1937 : (Jvm.Cond.privateMethod ({ cls := "PartyRaftModel", name := "locksUsed", desc := "(I)I" } : Jvm.MethodName)) ∈ lw_tbl := lw_at lw_m8 120 rfl
theorem q1938 : (Jvm.Cond.instanceMethod ({ cls := "PartyRaftModel", name := "locksUsed", desc := "(I)I" } : Jvm.MethodName)) ∈ lw_all := lw_g (lw_at lw_m8 121 rfl) rfl
theorem q1939 : (Jvm.Cond.code ({ cls := "PartyRaftModel", name := "locksUsed", desc := "(I)I" } : Jvm.MethodName) prog_17_method_105_code (4 : Nat) (Option.some Jvm.ClassFile.FieldType.int)) ∈ lw_all := lw_g (lw_at lw_m8 122 rfl) rfl
theorem q1940 : (Jvm.Cond.methodLink "PartyRaftModel" (563 : Nat) ({ cls := "PartyRaftModel", name := "loadOf", desc := "(II)I" } : Jvm.MethodName)) ∈ lw_all := lw_g (lw_at lw_m8 123 rfl) rfl
theorem q1941 : (Jvm.Cond.privateMethod ({ cls := "PartyRaftModel", name := "loadOf", desc := "(II)I" } : Jvm.MethodName)) ∈ lw_tbl := lw_at lw_m8 124 rfl
theorem q1942 : (Jvm.Cond.instanceMethod ({ cls := "PartyRaftModel", name := "loadOf", desc := "(II)I" } : Jvm.MethodName)) ∈ lw_all := lw_g (lw_at lw_m8 125 rfl) rfl
theorem q1943 : (Jvm.Cond.code ({ cls := "PartyRaftModel", name := "loadOf", desc := "(II)I" } : Jvm.MethodName) prog_17_method_106_code (5 : Nat) (Option.some Jvm.ClassFile.FieldType.int)) ∈ lw_all := lw_g (lw_at lw_m8 126 rfl) rfl
theorem q1945 : (Jvm.Cond.instanceMethod ({ cls := "PartyRaftModel", name := "delta", desc := "(I)I" } : Jvm.MethodName)) ∈ lw_all := lw_g (lw_at lw_m8 128 rfl) rfl
theorem q1946 : (Jvm.Cond.selects "PartyRaftModel" ({ cls := "PartyRaftModel", name := "delta", desc := "(I)I" } : Jvm.MethodName) ({ cls := "PartyRaftModel", name := "delta", desc := "(I)I" } : Jvm.MethodName)) ∈ lw_all := lw_g (lw_at lw_m8 129 rfl) rfl
theorem q1947 : (Jvm.Cond.code ({ cls := "PartyRaftModel", name := "delta", desc := "(I)I" } : Jvm.MethodName) prog_17_method_110_code (10 : Nat) (Option.some Jvm.ClassFile.FieldType.int)) ∈ lw_all := lw_g (lw_at lw_m8 130 rfl) rfl
theorem q1948 : (Jvm.Cond.methodLink "PartyRaftModel" (573 : Nat) ({ cls := "PartyRaftModel", name := "ropeBetween", desc := "(II)I" } : Jvm.MethodName)) ∈ lw_all := lw_g (lw_at lw_m8 131 rfl) rfl
theorem q1949 : (Jvm.Cond.privateMethod ({ cls := "PartyRaftModel", name := "ropeBetween", desc := "(II)I" } : Jvm.MethodName)) ∈ lw_tbl := lw_at lw_m8 132 rfl
theorem q1950 : (Jvm.Cond.instanceMethod ({ cls := "PartyRaftModel", name := "ropeBetween", desc := "(II)I" } : Jvm.MethodName)) ∈ lw_all := lw_g (lw_at lw_m8 133 rfl) rfl
theorem q1951 : (Jvm.Cond.code ({ cls := "PartyRaftModel", name := "ropeBetween", desc := "(II)I" } : Jvm.MethodName) prog_17_method_109_code (4 : Nat) (Option.some Jvm.ClassFile.FieldType.int)) ∈ lw_all := lw_g (lw_at lw_m8 134 rfl) rfl
theorem q1953 : (Jvm.Cond.instanceMethod ({ cls := "PartyRaftModel", name := "weak", desc := "(I)I" } : Jvm.MethodName)) ∈ lw_all := lw_g (lw_at lw_m8 136 rfl) rfl
theorem q1954 : (Jvm.Cond.selects "PartyRaftModel" ({ cls := "PartyRaftModel", name := "weak", desc := "(I)I" } : Jvm.MethodName) ({ cls := "PartyRaftModel", name := "weak", desc := "(I)I" } : Jvm.MethodName)) ∈ lw_all := lw_g (lw_at lw_m8 137 rfl) rfl
theorem q1955 : (Jvm.Cond.code ({ cls := "PartyRaftModel", name := "weak", desc := "(I)I" } : Jvm.MethodName) prog_17_method_112_code (4 : Nat) (Option.some Jvm.ClassFile.FieldType.int)) ∈ lw_all := lw_g (lw_at lw_m8 138 rfl) rfl
theorem q1956 : (Jvm.Cond.methodLink "PartyRaftModel" (576 : Nat) ({ cls := "PartyRaftModel", name := "isWeakThing", desc := "(I)Z" } : Jvm.MethodName)) ∈ lw_all := lw_g (lw_at lw_m8 139 rfl) rfl
theorem q1957 : (Jvm.Cond.privateMethod ({ cls := "PartyRaftModel", name := "isWeakThing", desc := "(I)Z" } : Jvm.MethodName)) ∈ lw_tbl := lw_at lw_m8 140 rfl
theorem q1958 : (Jvm.Cond.instanceMethod ({ cls := "PartyRaftModel", name := "isWeakThing", desc := "(I)Z" } : Jvm.MethodName)) ∈ lw_all := lw_g (lw_at lw_m8 141 rfl) rfl
theorem q1959 : (Jvm.Cond.code ({ cls := "PartyRaftModel", name := "isWeakThing", desc := "(I)Z" } : Jvm.MethodName) prog_17_method_111_code (3 : Nat) (Option.some Jvm.ClassFile.FieldType.boolean)) ∈ lw_all := lw_g (lw_at lw_m8 142 rfl) rfl
theorem q1961 : (Jvm.Cond.instanceMethod ({ cls := "PartyRaftModel", name := "offer", desc := "(III)I" } : Jvm.MethodName)) ∈ lw_all := lw_g (lw_at lw_m8 144 rfl) rfl
theorem q1962 : (Jvm.Cond.selects "PartyRaftModel" ({ cls := "PartyRaftModel", name := "offer", desc := "(III)I" } : Jvm.MethodName) ({ cls := "PartyRaftModel", name := "offer", desc := "(III)I" } : Jvm.MethodName)) ∈ lw_all := lw_g (lw_at lw_m8 145 rfl) rfl
theorem q1963 : (Jvm.Cond.code ({ cls := "PartyRaftModel", name := "offer", desc := "(III)I" } : Jvm.MethodName) prog_17_method_113_code (5 : Nat) (Option.some Jvm.ClassFile.FieldType.int)) ∈ lw_all := lw_g (lw_at lw_m8 146 rfl) rfl
theorem q1964 : (Jvm.Cond.constantLong "PartyRaftModel" (579 : Nat) (50 : Int64)) ∈ lw_all := lw_g (lw_at lw_m8 147 rfl) rfl
theorem q1965 : (Jvm.Cond.constantLong "PartyRaftModel" (581 : Nat) (99 : Int64)) ∈ lw_all := lw_g (lw_at lw_m8 148 rfl) rfl
theorem q1967 : (Jvm.Cond.instanceMethod ({ cls := "PartyRaftModel", name := "take", desc := "(II)I" } : Jvm.MethodName)) ∈ lw_all := lw_g (lw_at lw_m8 150 rfl) rfl
theorem q1968 : (Jvm.Cond.selects "PartyRaftModel" ({ cls := "PartyRaftModel", name := "take", desc := "(II)I" } : Jvm.MethodName) ({ cls := "PartyRaftModel", name := "take", desc := "(II)I" } : Jvm.MethodName)) ∈ lw_all := lw_g (lw_at lw_m8 151 rfl) rfl
theorem q1969 : (Jvm.Cond.code ({ cls := "PartyRaftModel", name := "take", desc := "(II)I" } : Jvm.MethodName) prog_17_method_116_code (8 : Nat) (Option.some Jvm.ClassFile.FieldType.int)) ∈ lw_all := lw_g (lw_at lw_m8 152 rfl) rfl
theorem q1970 : (Jvm.Cond.methodLink "PartyRaftModel" (586 : Nat) ({ cls := "PartyRaftModel", name := "milesWith", desc := "(II)I" } : Jvm.MethodName)) ∈ lw_all := lw_g (lw_at lw_m8 153 rfl) rfl
theorem q1971 : (Jvm.Cond.privateMethod ({ cls := "PartyRaftModel", name := "milesWith", desc := "(II)I" } : Jvm.MethodName)) ∈ lw_tbl := lw_at lw_m8 154 rfl
theorem q1972 : (Jvm.Cond.instanceMethod ({ cls := "PartyRaftModel", name := "milesWith", desc := "(II)I" } : Jvm.MethodName)) ∈ lw_all := lw_g (lw_at lw_m8 155 rfl) rfl
theorem q1973 : (Jvm.Cond.code ({ cls := "PartyRaftModel", name := "milesWith", desc := "(II)I" } : Jvm.MethodName) prog_17_method_115_code (8 : Nat) (Option.some Jvm.ClassFile.FieldType.int)) ∈ lw_all := lw_g (lw_at lw_m8 156 rfl) rfl
theorem q1974 : (Jvm.Cond.methodLink "PartyRaftModel" (583 : Nat) ({ cls := "PartyRaftModel", name := "soaked", desc := "(III)I" } : Jvm.MethodName)) ∈ lw_all := lw_g (lw_at lw_m8 157 rfl) rfl
theorem q1975 : (Jvm.Cond.static ({ cls := "PartyRaftModel", name := "soaked", desc := "(III)I" } : Jvm.MethodName)) ∈ lw_all := lw_g (lw_at lw_m8 158 rfl) rfl
theorem q1976 : (Jvm.Cond.code ({ cls := "PartyRaftModel", name := "soaked", desc := "(III)I" } : Jvm.MethodName) prog_17_method_114_code (4 : Nat) (Option.some Jvm.ClassFile.FieldType.int)) ∈ lw_all := lw_g (lw_at lw_m8 159 rfl) rfl
theorem q1978 : (Jvm.Cond.instanceMethod ({ cls := "PartyRaftModel", name := "game", desc := "(II)I" } : Jvm.MethodName)) ∈ lw_all := lw_g (lw_at lw_m8 161 rfl) rfl
theorem q1979 : (Jvm.Cond.selects "PartyRaftModel" ({ cls := "PartyRaftModel", name := "game", desc := "(II)I" } : Jvm.MethodName) ({ cls := "PartyRaftModel", name := "game", desc := "(II)I" } : Jvm.MethodName)) ∈ lw_all := lw_g (lw_at lw_m8 162 rfl) rfl
theorem q1980 : (Jvm.Cond.code ({ cls := "PartyRaftModel", name := "game", desc := "(II)I" } : Jvm.MethodName) prog_17_method_118_code (5 : Nat) (Option.some Jvm.ClassFile.FieldType.int)) ∈ lw_all := lw_g (lw_at lw_m8 163 rfl) rfl
theorem q1981 : (Jvm.Cond.methodLink "PartyRaftModel" (589 : Nat) ({ cls := "PartyRaftModel", name := "winningFrom", desc := "(I)I" } : Jvm.MethodName)) ∈ lw_all := lw_g (lw_at lw_m8 164 rfl) rfl
theorem q1982 : (Jvm.Cond.privateMethod ({ cls := "PartyRaftModel", name := "winningFrom", desc := "(I)I" } : Jvm.MethodName)) ∈ lw_tbl := lw_at lw_m8 165 rfl
theorem q1983 : (Jvm.Cond.instanceMethod ({ cls := "PartyRaftModel", name := "winningFrom", desc := "(I)I" } : Jvm.MethodName)) ∈ lw_all := lw_g (lw_at lw_m8 166 rfl) rfl
theorem q1984 : (Jvm.Cond.code ({ cls := "PartyRaftModel", name := "winningFrom", desc := "(I)I" } : Jvm.MethodName) prog_17_method_117_code (4 : Nat) (Option.some Jvm.ClassFile.FieldType.int)) ∈ lw_all := lw_g (lw_at lw_m8 167 rfl) rfl
theorem q1986 : (Jvm.Cond.instanceMethod ({ cls := "PartyRaftModel", name := "seed", desc := "(I)I" } : Jvm.MethodName)) ∈ lw_all := lw_g (lw_at lw_m8 169 rfl) rfl
theorem q1987 : (Jvm.Cond.selects "PartyRaftModel" ({ cls := "PartyRaftModel", name := "seed", desc := "(I)I" } : Jvm.MethodName) ({ cls := "PartyRaftModel", name := "seed", desc := "(I)I" } : Jvm.MethodName)) ∈ lw_all := lw_g (lw_at lw_m8 170 rfl) rfl
theorem q1988 : (Jvm.Cond.code ({ cls := "PartyRaftModel", name := "seed", desc := "(I)I" } : Jvm.MethodName) prog_17_method_119_code (3 : Nat) (Option.some Jvm.ClassFile.FieldType.int)) ∈ lw_all := lw_g (lw_at lw_m8 171 rfl) rfl
theorem q1990 : (Jvm.Cond.instanceMethod ({ cls := "PartyRaftModel", name := "drawn", desc := "(III)I" } : Jvm.MethodName)) ∈ lw_all := lw_g (lw_at lw_m8 173 rfl) rfl
theorem q1991 : (Jvm.Cond.selects "PartyRaftModel" ({ cls := "PartyRaftModel", name := "drawn", desc := "(III)I" } : Jvm.MethodName) ({ cls := "PartyRaftModel", name := "drawn", desc := "(III)I" } : Jvm.MethodName)) ∈ lw_all := lw_g (lw_at lw_m8 174 rfl) rfl
theorem q1992 : (Jvm.Cond.code ({ cls := "PartyRaftModel", name := "drawn", desc := "(III)I" } : Jvm.MethodName) prog_17_method_121_code (12 : Nat) (Option.some Jvm.ClassFile.FieldType.int)) ∈ lw_all := lw_g (lw_at lw_m8 175 rfl) rfl
theorem q1993 : (Jvm.Cond.constantLong "PartyRaftModel" (599 : Nat) (20 : Int64)) ∈ lw_all := lw_g (lw_at lw_m8 176 rfl) rfl
theorem q1994 : (Jvm.Cond.constantLong "PartyRaftModel" (601 : Nat) (60 : Int64)) ∈ lw_all := lw_g (lw_at lw_m8 177 rfl) rfl
theorem q1995 : (Jvm.Cond.methodLink "PartyRaftModel" (603 : Nat) ({ cls := "PartyRaftModel", name := "draws", desc := "(I)I" } : Jvm.MethodName)) ∈ lw_all := lw_g (lw_at lw_m8 178 rfl) rfl
theorem q1996 : (Jvm.Cond.privateMethod ({ cls := "PartyRaftModel", name := "draws", desc := "(I)I" } : Jvm.MethodName)) ∈ lw_tbl := lw_at lw_m8 179 rfl
theorem q1997 : (Jvm.Cond.instanceMethod ({ cls := "PartyRaftModel", name := "draws", desc := "(I)I" } : Jvm.MethodName)) ∈ lw_all := lw_g (lw_at lw_m8 180 rfl) rfl
theorem q1998 : (Jvm.Cond.code ({ cls := "PartyRaftModel", name := "draws", desc := "(I)I" } : Jvm.MethodName) prog_17_method_120_code (2 : Nat) (Option.some Jvm.ClassFile.FieldType.int)) ∈ lw_all := lw_g (lw_at lw_m8 181 rfl) rfl
theorem q1999 : (Jvm.Cond.constantLong "PartyRaftModel" (592 : Nat) (1103515245 : Int64)) ∈ lw_all := lw_g (lw_at lw_m8 182 rfl) rfl
theorem q2000 : (Jvm.Cond.constantLong "PartyRaftModel" (594 : Nat) (12345 : Int64)) ∈ lw_all := lw_g (lw_at lw_m8 183 rfl) rfl
theorem q2001 : (Jvm.Cond.constantLong "PartyRaftModel" (596 : Nat) (2147483648 : Int64)) ∈ lw_all := lw_g (lw_at lw_m8 184 rfl) rfl
theorem q2002 : (Jvm.Cond.constant "PartyRaftModel" (598 : Nat) (65536 : Int32)) ∈ lw_all := lw_g (lw_at lw_m8 185 rfl) rfl
theorem q2004 : (Jvm.Cond.instanceMethod ({ cls := "PartyRaftModel", name := "count", desc := "(I)I" } : Jvm.MethodName)) ∈ lw_all := lw_g (lw_at lw_m8 187 rfl) rfl
theorem q2005 : (Jvm.Cond.selects "PartyRaftModel" ({ cls := "PartyRaftModel", name := "count", desc := "(I)I" } : Jvm.MethodName) ({ cls := "PartyRaftModel", name := "count", desc := "(I)I" } : Jvm.MethodName)) ∈ lw_all := lw_g (lw_at lw_m8 188 rfl) rfl
theorem q2006 : (Jvm.Cond.code ({ cls := "PartyRaftModel", name := "count", desc := "(I)I" } : Jvm.MethodName) prog_17_method_123_code (2 : Nat) (Option.some Jvm.ClassFile.FieldType.int)) ∈ lw_all := lw_g (lw_at lw_m8 189 rfl) rfl
theorem q2007 : (Jvm.Cond.methodLink "PartyRaftModel" (606 : Nat) ({ cls := "PartyRaftModel", name := "pieces", desc := "()I" } : Jvm.MethodName)) ∈ lw_all := lw_g (lw_at lw_m8 190 rfl) rfl
theorem q2008 : (Jvm.Cond.privateMethod ({ cls := "PartyRaftModel", name := "pieces", desc := "()I" } : Jvm.MethodName)) ∈ lw_tbl := lw_at lw_m8 191 rfl
theorem q2009 : (Jvm.Cond.instanceMethod ({ cls := "PartyRaftModel", name := "pieces", desc := "()I" } : Jvm.MethodName)) ∈ lw_all := lw_g (lw_at lw_m8 192 rfl) rfl
theorem q2010 : (Jvm.Cond.code ({ cls := "PartyRaftModel", name := "pieces", desc := "()I" } : Jvm.MethodName) prog_17_method_122_code (3 : Nat) (Option.some Jvm.ClassFile.FieldType.int)) ∈ lw_all := lw_g (lw_at lw_m8 193 rfl) rfl
theorem q2012 : (Jvm.Cond.instanceMethod ({ cls := "PartyRaftModel", name := "image", desc := "(I)I" } : Jvm.MethodName)) ∈ lw_all := lw_g (lw_at lw_m8 195 rfl) rfl
theorem q2013 : (Jvm.Cond.selects "PartyRaftModel" ({ cls := "PartyRaftModel", name := "image", desc := "(I)I" } : Jvm.MethodName) ({ cls := "PartyRaftModel", name := "image", desc := "(I)I" } : Jvm.MethodName)) ∈ lw_all := lw_g (lw_at lw_m8 196 rfl) rfl
theorem q2014 : (Jvm.Cond.code ({ cls := "PartyRaftModel", name := "image", desc := "(I)I" } : Jvm.MethodName) prog_17_method_126_code (2 : Nat) (Option.some Jvm.ClassFile.FieldType.int)) ∈ lw_all := lw_g (lw_at lw_m8 197 rfl) rfl
theorem q2016 : (Jvm.Cond.instanceMethod ({ cls := "PartyRaftModel", name := "back", desc := "(I)I" } : Jvm.MethodName)) ∈ lw_all := lw_g (lw_at lw_m8 199 rfl) rfl
theorem q2017 : (Jvm.Cond.selects "PartyRaftModel" ({ cls := "PartyRaftModel", name := "back", desc := "(I)I" } : Jvm.MethodName) ({ cls := "PartyRaftModel", name := "back", desc := "(I)I" } : Jvm.MethodName)) ∈ lw_all := lw_g (lw_at lw_m8 200 rfl) rfl
theorem q2018 : (Jvm.Cond.code ({ cls := "PartyRaftModel", name := "back", desc := "(I)I" } : Jvm.MethodName) prog_17_method_127_code (2 : Nat) (Option.some Jvm.ClassFile.FieldType.int)) ∈ lw_all := lw_g (lw_at lw_m8 201 rfl) rfl
theorem in_X3 : ∀ w ∈ wsX30, w ∈ lw_all := lw_in wsX30 [1340, 1342, 1344, 1346, 1348, 1350, 1352, 1354, 1356, 1358, 1360, 1362, 1364, 1366, 1368, 1370, 1372, 1374, 1376, 1378, 1380, 1382, 1384, 1386, 1388, 1390, 1392, 1394, 1396, 1398, 1400, 1402, 1404, 1406, 1408, 1410, 1412, 1414, 1416, 1418, 1420, 1422, 1424, 1426, 1428, 1430, 1432, 1434, 1436, 1438, 1440, 1442, 1444, 1446, 1448, 1450, 1452, 1454, 1456, 1458, 1460, 1462, 1464, 1466, 1468, 1470, 1472, 1474, 1476, 1478, 1480, 1482, 1484] (by decide +kernel) (by decide +kernel)

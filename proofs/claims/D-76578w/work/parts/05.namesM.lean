/-! NailedByWordModel -/
set_option maxRecDepth 100000
def RX5 : String := "NailedByWordModel"
def TX5 : u_T := fun k => match k with
  | 0 => ("NailedByWordModel", "code", "I", false)
  | 1 => ("NailedByWordModel", "many", "I", false)
  | 2 => ("NailedByWordModel", "placeOf", "[I", true)
  | 3 => ("NailedByWordModel", "bootsOf", "[I", true)
  | 4 => ("NailedByWordModel", "promiseMany", "I", false)
  | 5 => ("NailedByWordModel", "byOf", "[I", true)
  | 6 => ("NailedByWordModel", "toOf", "[I", true)
  | 7 => ("NailedByWordModel", "atOf", "[I", true)
  | 8 => ("NailedByWordModel", "weightOf", "[I", true)
  | 9 => ("NailedByWordModel", "fromOf", "[I", true)
  | 10 => ("NailedByWordModel", "tillOf", "[I", true)
  | 11 => ("NailedByWordModel", "forgotOf", "[I", true)
  | 12 => ("NailedByWordModel", "goneOf", "[I", true)
  | 13 => ("NailedByWordModel", "holdsFrom", "I", false)
  | 14 => ("NailedByWordModel", "today", "I", false)
  | 15 => ("NailedByWordModel", "ledOf", "[I", true)
  | 16 => ("NailedByWordModel", "doneMany", "I", false)
  | 17 => ("NailedByWordModel", "undoneMany", "I", false)
  | 18 => ("NailedByWordModel", "changeOf", "[I", true)
  | 19 => ("NailedByWordModel", "changeAt", "[I", true)
  | 20 => ("NailedByWordModel", "before", "[I", true)
  | 21 => ("NailedByWordModel", "behind", "[I", true)
  | 22 => ("NailedByWordModel", "tape", "[B", true)
  | 23 => ("NailedByWordModel", "taped", "I", false)
  | 24 => ("NailedByWordModel", "here", "I", false)
  | 25 => ("NailedByWordModel", "fault", "I", false)
  | 26 => ("NailedByWordModel", "open", "I", false)
  | 27 => ("NailedByWordModel", "laid", "I", false)
  | 28 => ("NailedByWordModel", "act", "[B", true)
  | 29 => ("NailedByWordModel", "with", "[I", true)
  | 30 => ("NailedByWordModel", "lineMany", "[I", true)
  | 31 => ("NailedByWordModel", "testEnd", "[S", true)
  | 32 => ("NailedByWordModel", "lineEnd", "[S", true)
  | 33 => ("NailedByWordModel", "facts", "[I", true)
  | 34 => ("NailedByWordModel", "pile", "[I", true)
  | 35 => ("NailedByWordModel", "hasLaw", "Z", false)
  | 36 => ("NailedByWordModel", "heldDays", "I", false)
  | 37 => ("NailedByWordModel", "keptBits", "I", false)
  | 38 => ("NailedByWordModel", "tried", "[I", true)
  | 39 => ("NailedByWordModel", "bestTried", "[I", true)
  | 40 => ("NailedByWordModel", "mostKept", "I", false)
  | 41 => ("NailedByWordModel", "rounds", "[I", true)
  | 42 => ("NailedByWordModel", "bestRound", "[I", true)
  | 43 => ("NailedByWordModel", "roundMany", "I", false)
  | 44 => ("NailedByWordModel", "leastFar", "I", false)
  | 45 => ("NailedByWordModel", "freeWays", "J", false)
  | 46 => ("NailedByWordModel", "allWays", "J", false)
  | 47 => ("NailedByWordModel", "man", "I", false)
  | 48 => ("NailedByWordModel", "child", "I", false)
  | 49 => ("NailedByWordModel", "goal", "I", false)
  | 50 => ("NailedByWordModel", "hasImage", "Z", false)
  | 51 => ("NailedByWordModel", "keptDay", "I", false)
  | 52 => ("NailedByWordModel", "keptMany", "I", false)
  | 53 => ("NailedByWordModel", "keptPromises", "I", false)
  | 54 => ("NailedByWordModel", "keptPlaces", "[I", true)
  | 55 => ("NailedByWordModel", "keptBoots", "[I", true)
  | 56 => ("NailedByWordModel", "keptForgot", "[I", true)
  | 57 => ("NailedByWordModel", "keptGone", "[I", true)
  | 58 => ("NailedByWordModel", "keptLed", "[I", true)
  | 59 => ("NailedByWordModel", "bodies", "I", false)
  | 60 => ("NailedByWordModel", "kind", "[I", true)
  | 61 => ("NailedByWordModel", "traces", "I", false)
  | 62 => ("NailedByWordModel", "traced", "[I", true)
  | 63 => ("NailedByWordModel", "holds", "[I", true)
  | 64 => ("NailedByWordModel", "size", "[I", true)
  | 65 => ("NailedByWordModel", "elements", "[J", true)
  | _ => ("NailedByWordModel", "shifted", "[J", true)
def tyX5 : Nat → FieldType := fun k => match k with
  | 0 => .int
  | 1 => .int
  | 2 => .array .int
  | 3 => .array .int
  | 4 => .int
  | 5 => .array .int
  | 6 => .array .int
  | 7 => .array .int
  | 8 => .array .int
  | 9 => .array .int
  | 10 => .array .int
  | 11 => .array .int
  | 12 => .array .int
  | 13 => .int
  | 14 => .int
  | 15 => .array .int
  | 16 => .int
  | 17 => .int
  | 18 => .array .int
  | 19 => .array .int
  | 20 => .array .int
  | 21 => .array .int
  | 22 => .array .byte
  | 23 => .int
  | 24 => .int
  | 25 => .int
  | 26 => .int
  | 27 => .int
  | 28 => .array .byte
  | 29 => .array .int
  | 30 => .array .int
  | 31 => .array .short
  | 32 => .array .short
  | 33 => .array .int
  | 34 => .array .int
  | 35 => .boolean
  | 36 => .int
  | 37 => .int
  | 38 => .array .int
  | 39 => .array .int
  | 40 => .int
  | 41 => .array .int
  | 42 => .array .int
  | 43 => .int
  | 44 => .int
  | 45 => .long
  | 46 => .long
  | 47 => .int
  | 48 => .int
  | 49 => .int
  | 50 => .boolean
  | 51 => .int
  | 52 => .int
  | 53 => .int
  | 54 => .array .int
  | 55 => .array .int
  | 56 => .array .int
  | 57 => .array .int
  | 58 => .array .int
  | 59 => .int
  | 60 => .array .int
  | 61 => .int
  | 62 => .array .int
  | 63 => .array .int
  | 64 => .array .int
  | 65 => .array .long
  | _ => .array .long
abbrev wsX50 : List Cond := u_ws RX5 TX5 67
set_option maxRecDepth 100000 in
theorem nmX5 : ∀ a, a < 67 → ∀ b, b < 67 → a ≠ b → (TX5 a).2.1 ≠ (TX5 b).2.1 := by decide +kernel
set_option maxRecDepth 100000 in
theorem tyX5_ok : ∀ k, k < 67 → parseFieldDescriptor (TX5 k).2.2.1 = some (tyX5 k) := by decide +kernel
abbrev cX5_init : ByteArray := prog_25_method_1_code
def yX5_init : MethodName := ⟨RX5, "<init>", "()V"⟩
def dkwX5_init_14 : List UInt8 := [42, 16, 60, 188, 11, 181, 0, 130, 177]
abbrev dktX5_init_14 : List UInt8 := dkwX5_init_14 ++ []
def dkwX5_init_13 : List UInt8 := [89, 8, 2, 79, 181, 0, 120, 42, 16, 6, 188, 10, 181, 0, 123, 42, 17, 1, 104, 188, 11, 181, 0, 126]
abbrev dktX5_init_13 : List UInt8 := dkwX5_init_13 ++ dktX5_init_14
def dkwX5_init_12 : List UInt8 := [16, 6, 188, 10, 89, 3, 2, 79, 89, 4, 2, 79, 89, 5, 2, 79, 89, 6, 2, 79, 89, 7, 2, 79]
abbrev dktX5_init_12 : List UInt8 := dkwX5_init_12 ++ dktX5_init_13
def dkwX5_init_11 : List UInt8 := [16, 6, 188, 10, 181, 0, 111, 42, 16, 50, 188, 10, 181, 0, 114, 42, 16, 24, 188, 10, 181, 0, 117, 42]
abbrev dktX5_init_11 : List UInt8 := dkwX5_init_11 ++ dktX5_init_12
def dkwX5_init_10 : List UInt8 := [16, 6, 188, 10, 181, 0, 102, 42, 16, 12, 188, 10, 181, 0, 105, 42, 16, 12, 188, 10, 181, 0, 108, 42]
abbrev dktX5_init_10 : List UInt8 := dkwX5_init_10 ++ dktX5_init_11
def dkwX5_init_9 : List UInt8 := [16, 6, 188, 10, 181, 0, 93, 42, 16, 6, 188, 10, 181, 0, 96, 42, 16, 6, 188, 10, 181, 0, 99, 42]
abbrev dktX5_init_9 : List UInt8 := dkwX5_init_9 ++ dktX5_init_10
def dkwX5_init_8 : List UInt8 := [17, 0, 130, 188, 10, 181, 0, 84, 42, 7, 188, 10, 181, 0, 87, 42, 7, 188, 10, 181, 0, 90, 42]
abbrev dktX5_init_8 : List UInt8 := dkwX5_init_8 ++ dktX5_init_9
def dkwX5_init_7 : List UInt8 := [188, 9, 181, 0, 74, 42, 16, 122, 188, 9, 181, 0, 78, 42, 16, 6, 188, 10, 181, 0, 81, 42]
abbrev dktX5_init_7 : List UInt8 := dkwX5_init_7 ++ dktX5_init_8
def dkwX5_init_6 : List UInt8 := [188, 8, 181, 0, 65, 42, 17, 1, 4, 188, 10, 181, 0, 68, 42, 5, 188, 10, 181, 0, 71, 42, 16, 122]
abbrev dktX5_init_6 : List UInt8 := dkwX5_init_6 ++ dktX5_init_7
def dkwX5_init_5 : List UInt8 := [181, 0, 55, 42, 16, 40, 188, 10, 181, 0, 58, 42, 16, 120, 188, 8, 181, 0, 61, 42, 17, 1, 4]
abbrev dktX5_init_5 : List UInt8 := dkwX5_init_5 ++ dktX5_init_6
def dkwX5_init_4 : List UInt8 := [181, 0, 46, 42, 16, 40, 188, 10, 181, 0, 49, 42, 16, 40, 188, 10, 181, 0, 52, 42, 16, 40, 188, 10]
abbrev dktX5_init_4 : List UInt8 := dkwX5_init_4 ++ dktX5_init_5
def dkwX5_init_3 : List UInt8 := [188, 10, 181, 0, 36, 42, 16, 12, 188, 10, 181, 0, 39, 42, 6, 181, 0, 42, 42, 16, 6, 188, 10]
abbrev dktX5_init_3 : List UInt8 := dkwX5_init_3 ++ dktX5_init_4
def dkwX5_init_2 : List UInt8 := [188, 10, 181, 0, 27, 42, 16, 12, 188, 10, 181, 0, 30, 42, 16, 12, 188, 10, 181, 0, 33, 42, 16, 12]
abbrev dktX5_init_2 : List UInt8 := dkwX5_init_2 ++ dktX5_init_3
def dkwX5_init_1 : List UInt8 := [188, 10, 181, 0, 18, 42, 16, 12, 188, 10, 181, 0, 21, 42, 16, 12, 188, 10, 181, 0, 24, 42, 16, 12]
abbrev dktX5_init_1 : List UInt8 := dkwX5_init_1 ++ dktX5_init_2
def dkwX5_init_0 : List UInt8 := [42, 183, 0, 3, 42, 16, 6, 188, 10, 181, 0, 9, 42, 16, 6, 188, 10, 181, 0, 15, 42, 16, 12]
abbrev dktX5_init_0 : List UInt8 := dkwX5_init_0 ++ dktX5_init_1
theorem dksX5_init_0 : cX5_init.data.toList.drop 0 = dktX5_init_0 := by decide +kernel
theorem dksX5_init_1 : cX5_init.data.toList.drop 23 = dktX5_init_1 := dk_seg dksX5_init_0 23 rfl rfl
theorem dksX5_init_2 : cX5_init.data.toList.drop 47 = dktX5_init_2 := dk_seg dksX5_init_1 24 rfl rfl
theorem dksX5_init_3 : cX5_init.data.toList.drop 71 = dktX5_init_3 := dk_seg dksX5_init_2 24 rfl rfl
theorem dksX5_init_4 : cX5_init.data.toList.drop 94 = dktX5_init_4 := dk_seg dksX5_init_3 23 rfl rfl
theorem dksX5_init_5 : cX5_init.data.toList.drop 118 = dktX5_init_5 := dk_seg dksX5_init_4 24 rfl rfl
theorem dksX5_init_6 : cX5_init.data.toList.drop 141 = dktX5_init_6 := dk_seg dksX5_init_5 23 rfl rfl
theorem dksX5_init_7 : cX5_init.data.toList.drop 165 = dktX5_init_7 := dk_seg dksX5_init_6 24 rfl rfl
theorem dksX5_init_8 : cX5_init.data.toList.drop 187 = dktX5_init_8 := dk_seg dksX5_init_7 22 rfl rfl
theorem dksX5_init_9 : cX5_init.data.toList.drop 210 = dktX5_init_9 := dk_seg dksX5_init_8 23 rfl rfl
theorem dksX5_init_10 : cX5_init.data.toList.drop 234 = dktX5_init_10 := dk_seg dksX5_init_9 24 rfl rfl
theorem dksX5_init_11 : cX5_init.data.toList.drop 258 = dktX5_init_11 := dk_seg dksX5_init_10 24 rfl rfl
theorem dksX5_init_12 : cX5_init.data.toList.drop 282 = dktX5_init_12 := dk_seg dksX5_init_11 24 rfl rfl
theorem dksX5_init_13 : cX5_init.data.toList.drop 306 = dktX5_init_13 := dk_seg dksX5_init_12 24 rfl rfl
theorem dksX5_init_14 : cX5_init.data.toList.drop 330 = dktX5_init_14 := dk_seg dksX5_init_13 24 rfl rfl
theorem dX5_init_0 : decode cX5_init 0 = .ok (.aload_n 0, 1) := dk_42 (dk_at dksX5_init_0 0 rfl rfl)
theorem dX5_init_1 : decode cX5_init 1 = .ok (.invokespecial 3, 3) := dk_183 0 3 (dk_at dksX5_init_0 1 rfl rfl)
theorem dX5_init_4 : decode cX5_init 4 = .ok (.aload_n 0, 1) := dk_42 (dk_at dksX5_init_0 4 rfl rfl)
theorem dX5_init_5 : decode cX5_init 5 = .ok (.bipush 6, 2) := dk_16 6 (dk_at dksX5_init_0 5 rfl rfl)
theorem dX5_init_7 : decode cX5_init 7 = .ok (.newarray .int, 2) := dk_188_10 (dk_at dksX5_init_0 7 rfl rfl)
theorem dX5_init_9 : decode cX5_init 9 = .ok (.putfield 9, 3) := dk_181 0 9 (dk_at dksX5_init_0 9 rfl rfl)
theorem dX5_init_12 : decode cX5_init 12 = .ok (.aload_n 0, 1) := dk_42 (dk_at dksX5_init_0 12 rfl rfl)
theorem dX5_init_13 : decode cX5_init 13 = .ok (.bipush 6, 2) := dk_16 6 (dk_at dksX5_init_0 13 rfl rfl)
theorem dX5_init_15 : decode cX5_init 15 = .ok (.newarray .int, 2) := dk_188_10 (dk_at dksX5_init_0 15 rfl rfl)
theorem dX5_init_17 : decode cX5_init 17 = .ok (.putfield 15, 3) := dk_181 0 15 (dk_at dksX5_init_0 17 rfl rfl)
theorem dX5_init_20 : decode cX5_init 20 = .ok (.aload_n 0, 1) := dk_42 (dk_at dksX5_init_0 20 rfl rfl)
theorem dX5_init_21 : decode cX5_init 21 = .ok (.bipush 12, 2) := dk_16 12 (dk_at dksX5_init_0 21 rfl rfl)
theorem dX5_init_23 : decode cX5_init 23 = .ok (.newarray .int, 2) := dk_188_10 (dk_at dksX5_init_1 0 rfl rfl)
theorem dX5_init_25 : decode cX5_init 25 = .ok (.putfield 18, 3) := dk_181 0 18 (dk_at dksX5_init_1 2 rfl rfl)
theorem dX5_init_28 : decode cX5_init 28 = .ok (.aload_n 0, 1) := dk_42 (dk_at dksX5_init_1 5 rfl rfl)
theorem dX5_init_29 : decode cX5_init 29 = .ok (.bipush 12, 2) := dk_16 12 (dk_at dksX5_init_1 6 rfl rfl)
theorem dX5_init_31 : decode cX5_init 31 = .ok (.newarray .int, 2) := dk_188_10 (dk_at dksX5_init_1 8 rfl rfl)
theorem dX5_init_33 : decode cX5_init 33 = .ok (.putfield 21, 3) := dk_181 0 21 (dk_at dksX5_init_1 10 rfl rfl)
theorem dX5_init_36 : decode cX5_init 36 = .ok (.aload_n 0, 1) := dk_42 (dk_at dksX5_init_1 13 rfl rfl)
theorem dX5_init_37 : decode cX5_init 37 = .ok (.bipush 12, 2) := dk_16 12 (dk_at dksX5_init_1 14 rfl rfl)
theorem dX5_init_39 : decode cX5_init 39 = .ok (.newarray .int, 2) := dk_188_10 (dk_at dksX5_init_1 16 rfl rfl)
theorem dX5_init_41 : decode cX5_init 41 = .ok (.putfield 24, 3) := dk_181 0 24 (dk_at dksX5_init_1 18 rfl rfl)
theorem dX5_init_44 : decode cX5_init 44 = .ok (.aload_n 0, 1) := dk_42 (dk_at dksX5_init_1 21 rfl rfl)
theorem dX5_init_45 : decode cX5_init 45 = .ok (.bipush 12, 2) := dk_16 12 (dk_at dksX5_init_1 22 rfl rfl)
theorem dX5_init_47 : decode cX5_init 47 = .ok (.newarray .int, 2) := dk_188_10 (dk_at dksX5_init_2 0 rfl rfl)
theorem dX5_init_49 : decode cX5_init 49 = .ok (.putfield 27, 3) := dk_181 0 27 (dk_at dksX5_init_2 2 rfl rfl)
theorem dX5_init_52 : decode cX5_init 52 = .ok (.aload_n 0, 1) := dk_42 (dk_at dksX5_init_2 5 rfl rfl)
theorem dX5_init_53 : decode cX5_init 53 = .ok (.bipush 12, 2) := dk_16 12 (dk_at dksX5_init_2 6 rfl rfl)
theorem dX5_init_55 : decode cX5_init 55 = .ok (.newarray .int, 2) := dk_188_10 (dk_at dksX5_init_2 8 rfl rfl)
theorem dX5_init_57 : decode cX5_init 57 = .ok (.putfield 30, 3) := dk_181 0 30 (dk_at dksX5_init_2 10 rfl rfl)
theorem dX5_init_60 : decode cX5_init 60 = .ok (.aload_n 0, 1) := dk_42 (dk_at dksX5_init_2 13 rfl rfl)
theorem dX5_init_61 : decode cX5_init 61 = .ok (.bipush 12, 2) := dk_16 12 (dk_at dksX5_init_2 14 rfl rfl)
theorem dX5_init_63 : decode cX5_init 63 = .ok (.newarray .int, 2) := dk_188_10 (dk_at dksX5_init_2 16 rfl rfl)
theorem dX5_init_65 : decode cX5_init 65 = .ok (.putfield 33, 3) := dk_181 0 33 (dk_at dksX5_init_2 18 rfl rfl)
theorem dX5_init_68 : decode cX5_init 68 = .ok (.aload_n 0, 1) := dk_42 (dk_at dksX5_init_2 21 rfl rfl)
theorem dX5_init_69 : decode cX5_init 69 = .ok (.bipush 12, 2) := dk_16 12 (dk_at dksX5_init_2 22 rfl rfl)
theorem dX5_init_71 : decode cX5_init 71 = .ok (.newarray .int, 2) := dk_188_10 (dk_at dksX5_init_3 0 rfl rfl)
theorem dX5_init_73 : decode cX5_init 73 = .ok (.putfield 36, 3) := dk_181 0 36 (dk_at dksX5_init_3 2 rfl rfl)
theorem dX5_init_76 : decode cX5_init 76 = .ok (.aload_n 0, 1) := dk_42 (dk_at dksX5_init_3 5 rfl rfl)
theorem dX5_init_77 : decode cX5_init 77 = .ok (.bipush 12, 2) := dk_16 12 (dk_at dksX5_init_3 6 rfl rfl)
theorem dX5_init_79 : decode cX5_init 79 = .ok (.newarray .int, 2) := dk_188_10 (dk_at dksX5_init_3 8 rfl rfl)
theorem dX5_init_81 : decode cX5_init 81 = .ok (.putfield 39, 3) := dk_181 0 39 (dk_at dksX5_init_3 10 rfl rfl)
theorem dX5_init_84 : decode cX5_init 84 = .ok (.aload_n 0, 1) := dk_42 (dk_at dksX5_init_3 13 rfl rfl)
theorem dX5_init_85 : decode cX5_init 85 = .ok (.iconst 3, 1) := dk_6 (dk_at dksX5_init_3 14 rfl rfl)
theorem dX5_init_86 : decode cX5_init 86 = .ok (.putfield 42, 3) := dk_181 0 42 (dk_at dksX5_init_3 15 rfl rfl)
theorem dX5_init_89 : decode cX5_init 89 = .ok (.aload_n 0, 1) := dk_42 (dk_at dksX5_init_3 18 rfl rfl)
theorem dX5_init_90 : decode cX5_init 90 = .ok (.bipush 6, 2) := dk_16 6 (dk_at dksX5_init_3 19 rfl rfl)
theorem dX5_init_92 : decode cX5_init 92 = .ok (.newarray .int, 2) := dk_188_10 (dk_at dksX5_init_3 21 rfl rfl)
theorem dX5_init_94 : decode cX5_init 94 = .ok (.putfield 46, 3) := dk_181 0 46 (dk_at dksX5_init_4 0 rfl rfl)
theorem dX5_init_97 : decode cX5_init 97 = .ok (.aload_n 0, 1) := dk_42 (dk_at dksX5_init_4 3 rfl rfl)
theorem dX5_init_98 : decode cX5_init 98 = .ok (.bipush 40, 2) := dk_16 40 (dk_at dksX5_init_4 4 rfl rfl)
theorem dX5_init_100 : decode cX5_init 100 = .ok (.newarray .int, 2) := dk_188_10 (dk_at dksX5_init_4 6 rfl rfl)
theorem dX5_init_102 : decode cX5_init 102 = .ok (.putfield 49, 3) := dk_181 0 49 (dk_at dksX5_init_4 8 rfl rfl)
theorem dX5_init_105 : decode cX5_init 105 = .ok (.aload_n 0, 1) := dk_42 (dk_at dksX5_init_4 11 rfl rfl)
theorem dX5_init_106 : decode cX5_init 106 = .ok (.bipush 40, 2) := dk_16 40 (dk_at dksX5_init_4 12 rfl rfl)
theorem dX5_init_108 : decode cX5_init 108 = .ok (.newarray .int, 2) := dk_188_10 (dk_at dksX5_init_4 14 rfl rfl)
theorem dX5_init_110 : decode cX5_init 110 = .ok (.putfield 52, 3) := dk_181 0 52 (dk_at dksX5_init_4 16 rfl rfl)
theorem dX5_init_113 : decode cX5_init 113 = .ok (.aload_n 0, 1) := dk_42 (dk_at dksX5_init_4 19 rfl rfl)
theorem dX5_init_114 : decode cX5_init 114 = .ok (.bipush 40, 2) := dk_16 40 (dk_at dksX5_init_4 20 rfl rfl)
theorem dX5_init_116 : decode cX5_init 116 = .ok (.newarray .int, 2) := dk_188_10 (dk_at dksX5_init_4 22 rfl rfl)
theorem dX5_init_118 : decode cX5_init 118 = .ok (.putfield 55, 3) := dk_181 0 55 (dk_at dksX5_init_5 0 rfl rfl)
theorem dX5_init_121 : decode cX5_init 121 = .ok (.aload_n 0, 1) := dk_42 (dk_at dksX5_init_5 3 rfl rfl)
theorem dX5_init_122 : decode cX5_init 122 = .ok (.bipush 40, 2) := dk_16 40 (dk_at dksX5_init_5 4 rfl rfl)
theorem dX5_init_124 : decode cX5_init 124 = .ok (.newarray .int, 2) := dk_188_10 (dk_at dksX5_init_5 6 rfl rfl)
theorem dX5_init_126 : decode cX5_init 126 = .ok (.putfield 58, 3) := dk_181 0 58 (dk_at dksX5_init_5 8 rfl rfl)
theorem dX5_init_129 : decode cX5_init 129 = .ok (.aload_n 0, 1) := dk_42 (dk_at dksX5_init_5 11 rfl rfl)
theorem dX5_init_130 : decode cX5_init 130 = .ok (.bipush 120, 2) := dk_16 120 (dk_at dksX5_init_5 12 rfl rfl)
theorem dX5_init_132 : decode cX5_init 132 = .ok (.newarray .byte, 2) := dk_188_8 (dk_at dksX5_init_5 14 rfl rfl)
theorem dX5_init_134 : decode cX5_init 134 = .ok (.putfield 61, 3) := dk_181 0 61 (dk_at dksX5_init_5 16 rfl rfl)
theorem dX5_init_137 : decode cX5_init 137 = .ok (.aload_n 0, 1) := dk_42 (dk_at dksX5_init_5 19 rfl rfl)
theorem dX5_init_138 : decode cX5_init 138 = .ok (.sipush 260, 3) := dk_17 1 4 (dk_at dksX5_init_5 20 rfl rfl)
theorem dX5_init_141 : decode cX5_init 141 = .ok (.newarray .byte, 2) := dk_188_8 (dk_at dksX5_init_6 0 rfl rfl)
theorem dX5_init_143 : decode cX5_init 143 = .ok (.putfield 65, 3) := dk_181 0 65 (dk_at dksX5_init_6 2 rfl rfl)
theorem dX5_init_146 : decode cX5_init 146 = .ok (.aload_n 0, 1) := dk_42 (dk_at dksX5_init_6 5 rfl rfl)
theorem dX5_init_147 : decode cX5_init 147 = .ok (.sipush 260, 3) := dk_17 1 4 (dk_at dksX5_init_6 6 rfl rfl)
theorem dX5_init_150 : decode cX5_init 150 = .ok (.newarray .int, 2) := dk_188_10 (dk_at dksX5_init_6 9 rfl rfl)
theorem dX5_init_152 : decode cX5_init 152 = .ok (.putfield 68, 3) := dk_181 0 68 (dk_at dksX5_init_6 11 rfl rfl)
theorem dX5_init_155 : decode cX5_init 155 = .ok (.aload_n 0, 1) := dk_42 (dk_at dksX5_init_6 14 rfl rfl)
theorem dX5_init_156 : decode cX5_init 156 = .ok (.iconst 2, 1) := dk_5 (dk_at dksX5_init_6 15 rfl rfl)
theorem dX5_init_157 : decode cX5_init 157 = .ok (.newarray .int, 2) := dk_188_10 (dk_at dksX5_init_6 16 rfl rfl)
theorem dX5_init_159 : decode cX5_init 159 = .ok (.putfield 71, 3) := dk_181 0 71 (dk_at dksX5_init_6 18 rfl rfl)
theorem dX5_init_162 : decode cX5_init 162 = .ok (.aload_n 0, 1) := dk_42 (dk_at dksX5_init_6 21 rfl rfl)
theorem dX5_init_163 : decode cX5_init 163 = .ok (.bipush 122, 2) := dk_16 122 (dk_at dksX5_init_6 22 rfl rfl)
theorem dX5_init_165 : decode cX5_init 165 = .ok (.newarray .short, 2) := dk_188_9 (dk_at dksX5_init_7 0 rfl rfl)
theorem dX5_init_167 : decode cX5_init 167 = .ok (.putfield 74, 3) := dk_181 0 74 (dk_at dksX5_init_7 2 rfl rfl)
theorem dX5_init_170 : decode cX5_init 170 = .ok (.aload_n 0, 1) := dk_42 (dk_at dksX5_init_7 5 rfl rfl)
theorem dX5_init_171 : decode cX5_init 171 = .ok (.bipush 122, 2) := dk_16 122 (dk_at dksX5_init_7 6 rfl rfl)
theorem dX5_init_173 : decode cX5_init 173 = .ok (.newarray .short, 2) := dk_188_9 (dk_at dksX5_init_7 8 rfl rfl)
theorem dX5_init_175 : decode cX5_init 175 = .ok (.putfield 78, 3) := dk_181 0 78 (dk_at dksX5_init_7 10 rfl rfl)
theorem dX5_init_178 : decode cX5_init 178 = .ok (.aload_n 0, 1) := dk_42 (dk_at dksX5_init_7 13 rfl rfl)
theorem dX5_init_179 : decode cX5_init 179 = .ok (.bipush 6, 2) := dk_16 6 (dk_at dksX5_init_7 14 rfl rfl)
theorem dX5_init_181 : decode cX5_init 181 = .ok (.newarray .int, 2) := dk_188_10 (dk_at dksX5_init_7 16 rfl rfl)
theorem dX5_init_183 : decode cX5_init 183 = .ok (.putfield 81, 3) := dk_181 0 81 (dk_at dksX5_init_7 18 rfl rfl)
theorem dX5_init_186 : decode cX5_init 186 = .ok (.aload_n 0, 1) := dk_42 (dk_at dksX5_init_7 21 rfl rfl)
theorem dX5_init_187 : decode cX5_init 187 = .ok (.sipush 130, 3) := dk_17 0 130 (dk_at dksX5_init_8 0 rfl rfl)
theorem dX5_init_190 : decode cX5_init 190 = .ok (.newarray .int, 2) := dk_188_10 (dk_at dksX5_init_8 3 rfl rfl)
theorem dX5_init_192 : decode cX5_init 192 = .ok (.putfield 84, 3) := dk_181 0 84 (dk_at dksX5_init_8 5 rfl rfl)
theorem dX5_init_195 : decode cX5_init 195 = .ok (.aload_n 0, 1) := dk_42 (dk_at dksX5_init_8 8 rfl rfl)
theorem dX5_init_196 : decode cX5_init 196 = .ok (.iconst 4, 1) := dk_7 (dk_at dksX5_init_8 9 rfl rfl)
theorem dX5_init_197 : decode cX5_init 197 = .ok (.newarray .int, 2) := dk_188_10 (dk_at dksX5_init_8 10 rfl rfl)
theorem dX5_init_199 : decode cX5_init 199 = .ok (.putfield 87, 3) := dk_181 0 87 (dk_at dksX5_init_8 12 rfl rfl)
theorem dX5_init_202 : decode cX5_init 202 = .ok (.aload_n 0, 1) := dk_42 (dk_at dksX5_init_8 15 rfl rfl)
theorem dX5_init_203 : decode cX5_init 203 = .ok (.iconst 4, 1) := dk_7 (dk_at dksX5_init_8 16 rfl rfl)
theorem dX5_init_204 : decode cX5_init 204 = .ok (.newarray .int, 2) := dk_188_10 (dk_at dksX5_init_8 17 rfl rfl)
theorem dX5_init_206 : decode cX5_init 206 = .ok (.putfield 90, 3) := dk_181 0 90 (dk_at dksX5_init_8 19 rfl rfl)
theorem dX5_init_209 : decode cX5_init 209 = .ok (.aload_n 0, 1) := dk_42 (dk_at dksX5_init_8 22 rfl rfl)
theorem dX5_init_210 : decode cX5_init 210 = .ok (.bipush 6, 2) := dk_16 6 (dk_at dksX5_init_9 0 rfl rfl)
theorem dX5_init_212 : decode cX5_init 212 = .ok (.newarray .int, 2) := dk_188_10 (dk_at dksX5_init_9 2 rfl rfl)
theorem dX5_init_214 : decode cX5_init 214 = .ok (.putfield 93, 3) := dk_181 0 93 (dk_at dksX5_init_9 4 rfl rfl)
theorem dX5_init_217 : decode cX5_init 217 = .ok (.aload_n 0, 1) := dk_42 (dk_at dksX5_init_9 7 rfl rfl)
theorem dX5_init_218 : decode cX5_init 218 = .ok (.bipush 6, 2) := dk_16 6 (dk_at dksX5_init_9 8 rfl rfl)
theorem dX5_init_220 : decode cX5_init 220 = .ok (.newarray .int, 2) := dk_188_10 (dk_at dksX5_init_9 10 rfl rfl)
theorem dX5_init_222 : decode cX5_init 222 = .ok (.putfield 96, 3) := dk_181 0 96 (dk_at dksX5_init_9 12 rfl rfl)
theorem dX5_init_225 : decode cX5_init 225 = .ok (.aload_n 0, 1) := dk_42 (dk_at dksX5_init_9 15 rfl rfl)
theorem dX5_init_226 : decode cX5_init 226 = .ok (.bipush 6, 2) := dk_16 6 (dk_at dksX5_init_9 16 rfl rfl)
theorem dX5_init_228 : decode cX5_init 228 = .ok (.newarray .int, 2) := dk_188_10 (dk_at dksX5_init_9 18 rfl rfl)
theorem dX5_init_230 : decode cX5_init 230 = .ok (.putfield 99, 3) := dk_181 0 99 (dk_at dksX5_init_9 20 rfl rfl)
theorem dX5_init_233 : decode cX5_init 233 = .ok (.aload_n 0, 1) := dk_42 (dk_at dksX5_init_9 23 rfl rfl)
theorem dX5_init_234 : decode cX5_init 234 = .ok (.bipush 6, 2) := dk_16 6 (dk_at dksX5_init_10 0 rfl rfl)
theorem dX5_init_236 : decode cX5_init 236 = .ok (.newarray .int, 2) := dk_188_10 (dk_at dksX5_init_10 2 rfl rfl)
theorem dX5_init_238 : decode cX5_init 238 = .ok (.putfield 102, 3) := dk_181 0 102 (dk_at dksX5_init_10 4 rfl rfl)
theorem dX5_init_241 : decode cX5_init 241 = .ok (.aload_n 0, 1) := dk_42 (dk_at dksX5_init_10 7 rfl rfl)
theorem dX5_init_242 : decode cX5_init 242 = .ok (.bipush 12, 2) := dk_16 12 (dk_at dksX5_init_10 8 rfl rfl)
theorem dX5_init_244 : decode cX5_init 244 = .ok (.newarray .int, 2) := dk_188_10 (dk_at dksX5_init_10 10 rfl rfl)
theorem dX5_init_246 : decode cX5_init 246 = .ok (.putfield 105, 3) := dk_181 0 105 (dk_at dksX5_init_10 12 rfl rfl)
theorem dX5_init_249 : decode cX5_init 249 = .ok (.aload_n 0, 1) := dk_42 (dk_at dksX5_init_10 15 rfl rfl)
theorem dX5_init_250 : decode cX5_init 250 = .ok (.bipush 12, 2) := dk_16 12 (dk_at dksX5_init_10 16 rfl rfl)
theorem dX5_init_252 : decode cX5_init 252 = .ok (.newarray .int, 2) := dk_188_10 (dk_at dksX5_init_10 18 rfl rfl)
theorem dX5_init_254 : decode cX5_init 254 = .ok (.putfield 108, 3) := dk_181 0 108 (dk_at dksX5_init_10 20 rfl rfl)
theorem dX5_init_257 : decode cX5_init 257 = .ok (.aload_n 0, 1) := dk_42 (dk_at dksX5_init_10 23 rfl rfl)
theorem dX5_init_258 : decode cX5_init 258 = .ok (.bipush 6, 2) := dk_16 6 (dk_at dksX5_init_11 0 rfl rfl)
theorem dX5_init_260 : decode cX5_init 260 = .ok (.newarray .int, 2) := dk_188_10 (dk_at dksX5_init_11 2 rfl rfl)
theorem dX5_init_262 : decode cX5_init 262 = .ok (.putfield 111, 3) := dk_181 0 111 (dk_at dksX5_init_11 4 rfl rfl)
theorem dX5_init_265 : decode cX5_init 265 = .ok (.aload_n 0, 1) := dk_42 (dk_at dksX5_init_11 7 rfl rfl)
theorem dX5_init_266 : decode cX5_init 266 = .ok (.bipush 50, 2) := dk_16 50 (dk_at dksX5_init_11 8 rfl rfl)
theorem dX5_init_268 : decode cX5_init 268 = .ok (.newarray .int, 2) := dk_188_10 (dk_at dksX5_init_11 10 rfl rfl)
theorem dX5_init_270 : decode cX5_init 270 = .ok (.putfield 114, 3) := dk_181 0 114 (dk_at dksX5_init_11 12 rfl rfl)
theorem dX5_init_273 : decode cX5_init 273 = .ok (.aload_n 0, 1) := dk_42 (dk_at dksX5_init_11 15 rfl rfl)
theorem dX5_init_274 : decode cX5_init 274 = .ok (.bipush 24, 2) := dk_16 24 (dk_at dksX5_init_11 16 rfl rfl)
theorem dX5_init_276 : decode cX5_init 276 = .ok (.newarray .int, 2) := dk_188_10 (dk_at dksX5_init_11 18 rfl rfl)
theorem dX5_init_278 : decode cX5_init 278 = .ok (.putfield 117, 3) := dk_181 0 117 (dk_at dksX5_init_11 20 rfl rfl)
theorem dX5_init_281 : decode cX5_init 281 = .ok (.aload_n 0, 1) := dk_42 (dk_at dksX5_init_11 23 rfl rfl)
theorem dX5_init_282 : decode cX5_init 282 = .ok (.bipush 6, 2) := dk_16 6 (dk_at dksX5_init_12 0 rfl rfl)
theorem dX5_init_284 : decode cX5_init 284 = .ok (.newarray .int, 2) := dk_188_10 (dk_at dksX5_init_12 2 rfl rfl)
theorem dX5_init_286 : decode cX5_init 286 = .ok (.dup, 1) := dk_89 (dk_at dksX5_init_12 4 rfl rfl)
theorem dX5_init_287 : decode cX5_init 287 = .ok (.iconst 0, 1) := dk_3 (dk_at dksX5_init_12 5 rfl rfl)
theorem dX5_init_288 : decode cX5_init 288 = .ok (.iconst (-1), 1) := dk_2 (dk_at dksX5_init_12 6 rfl rfl)
theorem dX5_init_289 : decode cX5_init 289 = .ok (.iastore, 1) := dk_79 (dk_at dksX5_init_12 7 rfl rfl)
theorem dX5_init_290 : decode cX5_init 290 = .ok (.dup, 1) := dk_89 (dk_at dksX5_init_12 8 rfl rfl)
theorem dX5_init_291 : decode cX5_init 291 = .ok (.iconst 1, 1) := dk_4 (dk_at dksX5_init_12 9 rfl rfl)
theorem dX5_init_292 : decode cX5_init 292 = .ok (.iconst (-1), 1) := dk_2 (dk_at dksX5_init_12 10 rfl rfl)
theorem dX5_init_293 : decode cX5_init 293 = .ok (.iastore, 1) := dk_79 (dk_at dksX5_init_12 11 rfl rfl)
theorem dX5_init_294 : decode cX5_init 294 = .ok (.dup, 1) := dk_89 (dk_at dksX5_init_12 12 rfl rfl)
theorem dX5_init_295 : decode cX5_init 295 = .ok (.iconst 2, 1) := dk_5 (dk_at dksX5_init_12 13 rfl rfl)
theorem dX5_init_296 : decode cX5_init 296 = .ok (.iconst (-1), 1) := dk_2 (dk_at dksX5_init_12 14 rfl rfl)
theorem dX5_init_297 : decode cX5_init 297 = .ok (.iastore, 1) := dk_79 (dk_at dksX5_init_12 15 rfl rfl)
theorem dX5_init_298 : decode cX5_init 298 = .ok (.dup, 1) := dk_89 (dk_at dksX5_init_12 16 rfl rfl)
theorem dX5_init_299 : decode cX5_init 299 = .ok (.iconst 3, 1) := dk_6 (dk_at dksX5_init_12 17 rfl rfl)
theorem dX5_init_300 : decode cX5_init 300 = .ok (.iconst (-1), 1) := dk_2 (dk_at dksX5_init_12 18 rfl rfl)
theorem dX5_init_301 : decode cX5_init 301 = .ok (.iastore, 1) := dk_79 (dk_at dksX5_init_12 19 rfl rfl)
theorem dX5_init_302 : decode cX5_init 302 = .ok (.dup, 1) := dk_89 (dk_at dksX5_init_12 20 rfl rfl)
theorem dX5_init_303 : decode cX5_init 303 = .ok (.iconst 4, 1) := dk_7 (dk_at dksX5_init_12 21 rfl rfl)
theorem dX5_init_304 : decode cX5_init 304 = .ok (.iconst (-1), 1) := dk_2 (dk_at dksX5_init_12 22 rfl rfl)
theorem dX5_init_305 : decode cX5_init 305 = .ok (.iastore, 1) := dk_79 (dk_at dksX5_init_12 23 rfl rfl)
theorem dX5_init_306 : decode cX5_init 306 = .ok (.dup, 1) := dk_89 (dk_at dksX5_init_13 0 rfl rfl)
theorem dX5_init_307 : decode cX5_init 307 = .ok (.iconst 5, 1) := dk_8 (dk_at dksX5_init_13 1 rfl rfl)
theorem dX5_init_308 : decode cX5_init 308 = .ok (.iconst (-1), 1) := dk_2 (dk_at dksX5_init_13 2 rfl rfl)
theorem dX5_init_309 : decode cX5_init 309 = .ok (.iastore, 1) := dk_79 (dk_at dksX5_init_13 3 rfl rfl)
theorem dX5_init_310 : decode cX5_init 310 = .ok (.putfield 120, 3) := dk_181 0 120 (dk_at dksX5_init_13 4 rfl rfl)
theorem dX5_init_313 : decode cX5_init 313 = .ok (.aload_n 0, 1) := dk_42 (dk_at dksX5_init_13 7 rfl rfl)
theorem dX5_init_314 : decode cX5_init 314 = .ok (.bipush 6, 2) := dk_16 6 (dk_at dksX5_init_13 8 rfl rfl)
theorem dX5_init_316 : decode cX5_init 316 = .ok (.newarray .int, 2) := dk_188_10 (dk_at dksX5_init_13 10 rfl rfl)
theorem dX5_init_318 : decode cX5_init 318 = .ok (.putfield 123, 3) := dk_181 0 123 (dk_at dksX5_init_13 12 rfl rfl)
theorem dX5_init_321 : decode cX5_init 321 = .ok (.aload_n 0, 1) := dk_42 (dk_at dksX5_init_13 15 rfl rfl)
theorem dX5_init_322 : decode cX5_init 322 = .ok (.sipush 360, 3) := dk_17 1 104 (dk_at dksX5_init_13 16 rfl rfl)
theorem dX5_init_325 : decode cX5_init 325 = .ok (.newarray .long, 2) := dk_188_11 (dk_at dksX5_init_13 19 rfl rfl)
theorem dX5_init_327 : decode cX5_init 327 = .ok (.putfield 126, 3) := dk_181 0 126 (dk_at dksX5_init_13 21 rfl rfl)
theorem dX5_init_330 : decode cX5_init 330 = .ok (.aload_n 0, 1) := dk_42 (dk_at dksX5_init_14 0 rfl rfl)
theorem dX5_init_331 : decode cX5_init 331 = .ok (.bipush 60, 2) := dk_16 60 (dk_at dksX5_init_14 1 rfl rfl)
theorem dX5_init_333 : decode cX5_init 333 = .ok (.newarray .long, 2) := dk_188_11 (dk_at dksX5_init_14 3 rfl rfl)
theorem dX5_init_335 : decode cX5_init 335 = .ok (.putfield 130, 3) := dk_181 0 130 (dk_at dksX5_init_14 5 rfl rfl)
theorem dX5_init_338 : decode cX5_init 338 = .ok (.return_, 1) := dk_177 (dk_at dksX5_init_14 8 rfl rfl)
abbrev cX5_person : ByteArray := prog_25_method_10_code
def yX5_person : MethodName := ⟨RX5, "person", "(I)I"⟩
def dkwX5_person_2 : List UInt8 := [4, 96, 181, 0, 140, 42, 180, 0, 140, 4, 100, 172]
abbrev dktX5_person_2 : List UInt8 := dkwX5_person_2 ++ []
def dkwX5_person_1 : List UInt8 := [180, 0, 9, 42, 180, 0, 140, 27, 79, 42, 180, 0, 15, 42, 180, 0, 140, 6, 79, 42, 89, 180, 0, 140]
abbrev dktX5_person_1 : List UInt8 := dkwX5_person_1 ++ dktX5_person_2
def dkwX5_person_0 : List UInt8 := [27, 184, 0, 150, 154, 0, 5, 2, 172, 42, 180, 0, 140, 16, 6, 160, 0, 6, 16, 253, 172, 42]
abbrev dktX5_person_0 : List UInt8 := dkwX5_person_0 ++ dktX5_person_1
theorem dksX5_person_0 : cX5_person.data.toList.drop 0 = dktX5_person_0 := by decide +kernel
theorem dksX5_person_1 : cX5_person.data.toList.drop 22 = dktX5_person_1 := dk_seg dksX5_person_0 22 rfl rfl
theorem dksX5_person_2 : cX5_person.data.toList.drop 46 = dktX5_person_2 := dk_seg dksX5_person_1 24 rfl rfl
theorem dX5_person_0 : decode cX5_person 0 = .ok (.iload_n 1, 1) := dk_27 (dk_at dksX5_person_0 0 rfl rfl)
theorem dX5_person_1 : decode cX5_person 1 = .ok (.invokestatic 150, 3) := dk_184 0 150 (dk_at dksX5_person_0 1 rfl rfl)
theorem dX5_person_4 : decode cX5_person 4 = .ok (.ifCond .ne 5, 3) := dk_154 0 5 (dk_at dksX5_person_0 4 rfl rfl)
theorem dX5_person_7 : decode cX5_person 7 = .ok (.iconst (-1), 1) := dk_2 (dk_at dksX5_person_0 7 rfl rfl)
theorem dX5_person_8 : decode cX5_person 8 = .ok (.ireturn, 1) := dk_172 (dk_at dksX5_person_0 8 rfl rfl)
theorem dX5_person_9 : decode cX5_person 9 = .ok (.aload_n 0, 1) := dk_42 (dk_at dksX5_person_0 9 rfl rfl)
theorem dX5_person_10 : decode cX5_person 10 = .ok (.getfield 140, 3) := dk_180 0 140 (dk_at dksX5_person_0 10 rfl rfl)
theorem dX5_person_13 : decode cX5_person 13 = .ok (.bipush 6, 2) := dk_16 6 (dk_at dksX5_person_0 13 rfl rfl)
theorem dX5_person_15 : decode cX5_person 15 = .ok (.if_icmp .ne 6, 3) := dk_160 0 6 (dk_at dksX5_person_0 15 rfl rfl)
theorem dX5_person_18 : decode cX5_person 18 = .ok (.bipush (-3), 2) := dk_16 253 (dk_at dksX5_person_0 18 rfl rfl)
theorem dX5_person_20 : decode cX5_person 20 = .ok (.ireturn, 1) := dk_172 (dk_at dksX5_person_0 20 rfl rfl)
theorem dX5_person_21 : decode cX5_person 21 = .ok (.aload_n 0, 1) := dk_42 (dk_at dksX5_person_0 21 rfl rfl)
theorem dX5_person_22 : decode cX5_person 22 = .ok (.getfield 9, 3) := dk_180 0 9 (dk_at dksX5_person_1 0 rfl rfl)
theorem dX5_person_25 : decode cX5_person 25 = .ok (.aload_n 0, 1) := dk_42 (dk_at dksX5_person_1 3 rfl rfl)
theorem dX5_person_26 : decode cX5_person 26 = .ok (.getfield 140, 3) := dk_180 0 140 (dk_at dksX5_person_1 4 rfl rfl)
theorem dX5_person_29 : decode cX5_person 29 = .ok (.iload_n 1, 1) := dk_27 (dk_at dksX5_person_1 7 rfl rfl)
theorem dX5_person_30 : decode cX5_person 30 = .ok (.iastore, 1) := dk_79 (dk_at dksX5_person_1 8 rfl rfl)
theorem dX5_person_31 : decode cX5_person 31 = .ok (.aload_n 0, 1) := dk_42 (dk_at dksX5_person_1 9 rfl rfl)
theorem dX5_person_32 : decode cX5_person 32 = .ok (.getfield 15, 3) := dk_180 0 15 (dk_at dksX5_person_1 10 rfl rfl)
theorem dX5_person_35 : decode cX5_person 35 = .ok (.aload_n 0, 1) := dk_42 (dk_at dksX5_person_1 13 rfl rfl)
theorem dX5_person_36 : decode cX5_person 36 = .ok (.getfield 140, 3) := dk_180 0 140 (dk_at dksX5_person_1 14 rfl rfl)
theorem dX5_person_39 : decode cX5_person 39 = .ok (.iconst 3, 1) := dk_6 (dk_at dksX5_person_1 17 rfl rfl)
theorem dX5_person_40 : decode cX5_person 40 = .ok (.iastore, 1) := dk_79 (dk_at dksX5_person_1 18 rfl rfl)
theorem dX5_person_41 : decode cX5_person 41 = .ok (.aload_n 0, 1) := dk_42 (dk_at dksX5_person_1 19 rfl rfl)
theorem dX5_person_42 : decode cX5_person 42 = .ok (.dup, 1) := dk_89 (dk_at dksX5_person_1 20 rfl rfl)
theorem dX5_person_43 : decode cX5_person 43 = .ok (.getfield 140, 3) := dk_180 0 140 (dk_at dksX5_person_1 21 rfl rfl)
theorem dX5_person_46 : decode cX5_person 46 = .ok (.iconst 1, 1) := dk_4 (dk_at dksX5_person_2 0 rfl rfl)
theorem dX5_person_47 : decode cX5_person 47 = .ok (.iadd, 1) := dk_96 (dk_at dksX5_person_2 1 rfl rfl)
theorem dX5_person_48 : decode cX5_person 48 = .ok (.putfield 140, 3) := dk_181 0 140 (dk_at dksX5_person_2 2 rfl rfl)
theorem dX5_person_51 : decode cX5_person 51 = .ok (.aload_n 0, 1) := dk_42 (dk_at dksX5_person_2 5 rfl rfl)
theorem dX5_person_52 : decode cX5_person 52 = .ok (.getfield 140, 3) := dk_180 0 140 (dk_at dksX5_person_2 6 rfl rfl)
theorem dX5_person_55 : decode cX5_person 55 = .ok (.iconst 1, 1) := dk_4 (dk_at dksX5_person_2 9 rfl rfl)
theorem dX5_person_56 : decode cX5_person 56 = .ok (.isub, 1) := dk_100 (dk_at dksX5_person_2 10 rfl rfl)
theorem dX5_person_57 : decode cX5_person 57 = .ok (.ireturn, 1) := dk_172 (dk_at dksX5_person_2 11 rfl rfl)
abbrev cX5_isPlaceOf : ByteArray := prog_25_method_6_code
def yX5_isPlaceOf : MethodName := ⟨RX5, "isPlaceOf", "(I)Z"⟩
def dkwX5_isPlaceOf_0 : List UInt8 := [26, 3, 16, 24, 184, 0, 136, 172]
abbrev dktX5_isPlaceOf_0 : List UInt8 := dkwX5_isPlaceOf_0 ++ []
theorem dksX5_isPlaceOf_0 : cX5_isPlaceOf.data.toList.drop 0 = dktX5_isPlaceOf_0 := by decide +kernel
theorem dX5_isPlaceOf_0 : decode cX5_isPlaceOf 0 = .ok (.iload_n 0, 1) := dk_26 (dk_at dksX5_isPlaceOf_0 0 rfl rfl)
theorem dX5_isPlaceOf_1 : decode cX5_isPlaceOf 1 = .ok (.iconst 0, 1) := dk_3 (dk_at dksX5_isPlaceOf_0 1 rfl rfl)
theorem dX5_isPlaceOf_2 : decode cX5_isPlaceOf 2 = .ok (.bipush 24, 2) := dk_16 24 (dk_at dksX5_isPlaceOf_0 2 rfl rfl)
theorem dX5_isPlaceOf_4 : decode cX5_isPlaceOf 4 = .ok (.invokestatic 136, 3) := dk_184 0 136 (dk_at dksX5_isPlaceOf_0 4 rfl rfl)
theorem dX5_isPlaceOf_7 : decode cX5_isPlaceOf 7 = .ok (.ireturn, 1) := dk_172 (dk_at dksX5_isPlaceOf_0 7 rfl rfl)
abbrev cX5_in : ByteArray := prog_25_method_3_code
def yX5_in : MethodName := ⟨RX5, "in", "(III)Z"⟩
def dkwX5_in_0 : List UInt8 := [26, 27, 161, 0, 12, 26, 28, 163, 0, 7, 4, 167, 0, 4, 3, 172]
abbrev dktX5_in_0 : List UInt8 := dkwX5_in_0 ++ []
theorem dksX5_in_0 : cX5_in.data.toList.drop 0 = dktX5_in_0 := by decide +kernel
theorem dX5_in_0 : decode cX5_in 0 = .ok (.iload_n 0, 1) := dk_26 (dk_at dksX5_in_0 0 rfl rfl)
theorem dX5_in_1 : decode cX5_in 1 = .ok (.iload_n 1, 1) := dk_27 (dk_at dksX5_in_0 1 rfl rfl)
theorem dX5_in_2 : decode cX5_in 2 = .ok (.if_icmp .lt 12, 3) := dk_161 0 12 (dk_at dksX5_in_0 2 rfl rfl)
theorem dX5_in_5 : decode cX5_in 5 = .ok (.iload_n 0, 1) := dk_26 (dk_at dksX5_in_0 5 rfl rfl)
theorem dX5_in_6 : decode cX5_in 6 = .ok (.iload_n 2, 1) := dk_28 (dk_at dksX5_in_0 6 rfl rfl)
theorem dX5_in_7 : decode cX5_in 7 = .ok (.if_icmp .gt 7, 3) := dk_163 0 7 (dk_at dksX5_in_0 7 rfl rfl)
theorem dX5_in_10 : decode cX5_in 10 = .ok (.iconst 1, 1) := dk_4 (dk_at dksX5_in_0 10 rfl rfl)
theorem dX5_in_11 : decode cX5_in 11 = .ok (.goto 4, 3) := dk_167 0 4 (dk_at dksX5_in_0 11 rfl rfl)
theorem dX5_in_14 : decode cX5_in 14 = .ok (.iconst 0, 1) := dk_3 (dk_at dksX5_in_0 14 rfl rfl)
theorem dX5_in_15 : decode cX5_in 15 = .ok (.ireturn, 1) := dk_172 (dk_at dksX5_in_0 15 rfl rfl)
abbrev cX5_promise : ByteArray := prog_25_method_12_code
def yX5_promise : MethodName := ⟨RX5, "promise", "(II)I"⟩
def dkwX5_promise_3 : List UInt8 := [28, 16, 100, 108, 28, 16, 100, 112, 182, 0, 160, 172]
abbrev dktX5_promise_3 : List UInt8 := dkwX5_promise_3 ++ []
def dkwX5_promise_2 : List UInt8 := [3, 92, 46, 4, 96, 79, 42, 27, 16, 10, 108, 27, 16, 10, 112, 42, 180, 0, 9, 27, 16, 10, 108, 46]
abbrev dktX5_promise_2 : List UInt8 := dkwX5_promise_2 ++ dktX5_promise_3
def dkwX5_promise_1 : List UInt8 := [184, 0, 136, 154, 0, 5, 2, 172, 42, 180, 0, 143, 16, 12, 160, 0, 6, 16, 253, 172, 42, 180, 0, 46]
abbrev dktX5_promise_1 : List UInt8 := dkwX5_promise_1 ++ dktX5_promise_2
def dkwX5_promise_0 : List UInt8 := [27, 155, 0, 29, 42, 27, 16, 10, 108, 27, 16, 10, 112, 182, 0, 156, 153, 0, 14, 28, 3, 17, 3, 231]
abbrev dktX5_promise_0 : List UInt8 := dkwX5_promise_0 ++ dktX5_promise_1
theorem dksX5_promise_0 : cX5_promise.data.toList.drop 0 = dktX5_promise_0 := by decide +kernel
theorem dksX5_promise_1 : cX5_promise.data.toList.drop 24 = dktX5_promise_1 := dk_seg dksX5_promise_0 24 rfl rfl
theorem dksX5_promise_2 : cX5_promise.data.toList.drop 48 = dktX5_promise_2 := dk_seg dksX5_promise_1 24 rfl rfl
theorem dksX5_promise_3 : cX5_promise.data.toList.drop 72 = dktX5_promise_3 := dk_seg dksX5_promise_2 24 rfl rfl
theorem dX5_promise_0 : decode cX5_promise 0 = .ok (.iload_n 1, 1) := dk_27 (dk_at dksX5_promise_0 0 rfl rfl)
theorem dX5_promise_1 : decode cX5_promise 1 = .ok (.ifCond .lt 29, 3) := dk_155 0 29 (dk_at dksX5_promise_0 1 rfl rfl)
theorem dX5_promise_4 : decode cX5_promise 4 = .ok (.aload_n 0, 1) := dk_42 (dk_at dksX5_promise_0 4 rfl rfl)
theorem dX5_promise_5 : decode cX5_promise 5 = .ok (.iload_n 1, 1) := dk_27 (dk_at dksX5_promise_0 5 rfl rfl)
theorem dX5_promise_6 : decode cX5_promise 6 = .ok (.bipush 10, 2) := dk_16 10 (dk_at dksX5_promise_0 6 rfl rfl)
theorem dX5_promise_8 : decode cX5_promise 8 = .ok (.idiv, 1) := dk_108 (dk_at dksX5_promise_0 8 rfl rfl)
theorem dX5_promise_9 : decode cX5_promise 9 = .ok (.iload_n 1, 1) := dk_27 (dk_at dksX5_promise_0 9 rfl rfl)
theorem dX5_promise_10 : decode cX5_promise 10 = .ok (.bipush 10, 2) := dk_16 10 (dk_at dksX5_promise_0 10 rfl rfl)
theorem dX5_promise_12 : decode cX5_promise 12 = .ok (.irem, 1) := dk_112 (dk_at dksX5_promise_0 12 rfl rfl)
theorem dX5_promise_13 : decode cX5_promise 13 = .ok (.invokevirtual 156, 3) := dk_182 0 156 (dk_at dksX5_promise_0 13 rfl rfl)
theorem dX5_promise_16 : decode cX5_promise 16 = .ok (.ifCond .eq 14, 3) := dk_153 0 14 (dk_at dksX5_promise_0 16 rfl rfl)
theorem dX5_promise_19 : decode cX5_promise 19 = .ok (.iload_n 2, 1) := dk_28 (dk_at dksX5_promise_0 19 rfl rfl)
theorem dX5_promise_20 : decode cX5_promise 20 = .ok (.iconst 0, 1) := dk_3 (dk_at dksX5_promise_0 20 rfl rfl)
theorem dX5_promise_21 : decode cX5_promise 21 = .ok (.sipush 999, 3) := dk_17 3 231 (dk_at dksX5_promise_0 21 rfl rfl)
theorem dX5_promise_24 : decode cX5_promise 24 = .ok (.invokestatic 136, 3) := dk_184 0 136 (dk_at dksX5_promise_1 0 rfl rfl)
theorem dX5_promise_27 : decode cX5_promise 27 = .ok (.ifCond .ne 5, 3) := dk_154 0 5 (dk_at dksX5_promise_1 3 rfl rfl)
theorem dX5_promise_30 : decode cX5_promise 30 = .ok (.iconst (-1), 1) := dk_2 (dk_at dksX5_promise_1 6 rfl rfl)
theorem dX5_promise_31 : decode cX5_promise 31 = .ok (.ireturn, 1) := dk_172 (dk_at dksX5_promise_1 7 rfl rfl)
theorem dX5_promise_32 : decode cX5_promise 32 = .ok (.aload_n 0, 1) := dk_42 (dk_at dksX5_promise_1 8 rfl rfl)
theorem dX5_promise_33 : decode cX5_promise 33 = .ok (.getfield 143, 3) := dk_180 0 143 (dk_at dksX5_promise_1 9 rfl rfl)
theorem dX5_promise_36 : decode cX5_promise 36 = .ok (.bipush 12, 2) := dk_16 12 (dk_at dksX5_promise_1 12 rfl rfl)
theorem dX5_promise_38 : decode cX5_promise 38 = .ok (.if_icmp .ne 6, 3) := dk_160 0 6 (dk_at dksX5_promise_1 14 rfl rfl)
theorem dX5_promise_41 : decode cX5_promise 41 = .ok (.bipush (-3), 2) := dk_16 253 (dk_at dksX5_promise_1 17 rfl rfl)
theorem dX5_promise_43 : decode cX5_promise 43 = .ok (.ireturn, 1) := dk_172 (dk_at dksX5_promise_1 19 rfl rfl)
theorem dX5_promise_44 : decode cX5_promise 44 = .ok (.aload_n 0, 1) := dk_42 (dk_at dksX5_promise_1 20 rfl rfl)
theorem dX5_promise_45 : decode cX5_promise 45 = .ok (.getfield 46, 3) := dk_180 0 46 (dk_at dksX5_promise_1 21 rfl rfl)
theorem dX5_promise_48 : decode cX5_promise 48 = .ok (.iconst 0, 1) := dk_3 (dk_at dksX5_promise_2 0 rfl rfl)
theorem dX5_promise_49 : decode cX5_promise 49 = .ok (.dup2, 1) := dk_92 (dk_at dksX5_promise_2 1 rfl rfl)
theorem dX5_promise_50 : decode cX5_promise 50 = .ok (.iaload, 1) := dk_46 (dk_at dksX5_promise_2 2 rfl rfl)
theorem dX5_promise_51 : decode cX5_promise 51 = .ok (.iconst 1, 1) := dk_4 (dk_at dksX5_promise_2 3 rfl rfl)
theorem dX5_promise_52 : decode cX5_promise 52 = .ok (.iadd, 1) := dk_96 (dk_at dksX5_promise_2 4 rfl rfl)
theorem dX5_promise_53 : decode cX5_promise 53 = .ok (.iastore, 1) := dk_79 (dk_at dksX5_promise_2 5 rfl rfl)
theorem dX5_promise_54 : decode cX5_promise 54 = .ok (.aload_n 0, 1) := dk_42 (dk_at dksX5_promise_2 6 rfl rfl)
theorem dX5_promise_55 : decode cX5_promise 55 = .ok (.iload_n 1, 1) := dk_27 (dk_at dksX5_promise_2 7 rfl rfl)
theorem dX5_promise_56 : decode cX5_promise 56 = .ok (.bipush 10, 2) := dk_16 10 (dk_at dksX5_promise_2 8 rfl rfl)
theorem dX5_promise_58 : decode cX5_promise 58 = .ok (.idiv, 1) := dk_108 (dk_at dksX5_promise_2 10 rfl rfl)
theorem dX5_promise_59 : decode cX5_promise 59 = .ok (.iload_n 1, 1) := dk_27 (dk_at dksX5_promise_2 11 rfl rfl)
theorem dX5_promise_60 : decode cX5_promise 60 = .ok (.bipush 10, 2) := dk_16 10 (dk_at dksX5_promise_2 12 rfl rfl)
theorem dX5_promise_62 : decode cX5_promise 62 = .ok (.irem, 1) := dk_112 (dk_at dksX5_promise_2 14 rfl rfl)
theorem dX5_promise_63 : decode cX5_promise 63 = .ok (.aload_n 0, 1) := dk_42 (dk_at dksX5_promise_2 15 rfl rfl)
theorem dX5_promise_64 : decode cX5_promise 64 = .ok (.getfield 9, 3) := dk_180 0 9 (dk_at dksX5_promise_2 16 rfl rfl)
theorem dX5_promise_67 : decode cX5_promise 67 = .ok (.iload_n 1, 1) := dk_27 (dk_at dksX5_promise_2 19 rfl rfl)
theorem dX5_promise_68 : decode cX5_promise 68 = .ok (.bipush 10, 2) := dk_16 10 (dk_at dksX5_promise_2 20 rfl rfl)
theorem dX5_promise_70 : decode cX5_promise 70 = .ok (.idiv, 1) := dk_108 (dk_at dksX5_promise_2 22 rfl rfl)
theorem dX5_promise_71 : decode cX5_promise 71 = .ok (.iaload, 1) := dk_46 (dk_at dksX5_promise_2 23 rfl rfl)
theorem dX5_promise_72 : decode cX5_promise 72 = .ok (.iload_n 2, 1) := dk_28 (dk_at dksX5_promise_3 0 rfl rfl)
theorem dX5_promise_73 : decode cX5_promise 73 = .ok (.bipush 100, 2) := dk_16 100 (dk_at dksX5_promise_3 1 rfl rfl)
theorem dX5_promise_75 : decode cX5_promise 75 = .ok (.idiv, 1) := dk_108 (dk_at dksX5_promise_3 3 rfl rfl)
theorem dX5_promise_76 : decode cX5_promise 76 = .ok (.iload_n 2, 1) := dk_28 (dk_at dksX5_promise_3 4 rfl rfl)
theorem dX5_promise_77 : decode cX5_promise 77 = .ok (.bipush 100, 2) := dk_16 100 (dk_at dksX5_promise_3 5 rfl rfl)
theorem dX5_promise_79 : decode cX5_promise 79 = .ok (.irem, 1) := dk_112 (dk_at dksX5_promise_3 7 rfl rfl)
theorem dX5_promise_80 : decode cX5_promise 80 = .ok (.invokevirtual 160, 3) := dk_182 0 160 (dk_at dksX5_promise_3 8 rfl rfl)
theorem dX5_promise_83 : decode cX5_promise 83 = .ok (.ireturn, 1) := dk_172 (dk_at dksX5_promise_3 11 rfl rfl)
abbrev cX5_areTwo : ByteArray := prog_25_method_9_code
def yX5_areTwo : MethodName := ⟨RX5, "areTwo", "(II)Z"⟩
def dkwX5_areTwo_1 : List UInt8 := [167, 0, 4, 3, 172]
abbrev dktX5_areTwo_1 : List UInt8 := dkwX5_areTwo_1 ++ []
def dkwX5_areTwo_0 : List UInt8 := [42, 27, 182, 0, 146, 153, 0, 20, 42, 28, 182, 0, 146, 153, 0, 12, 27, 28, 159, 0, 7, 4]
abbrev dktX5_areTwo_0 : List UInt8 := dkwX5_areTwo_0 ++ dktX5_areTwo_1
theorem dksX5_areTwo_0 : cX5_areTwo.data.toList.drop 0 = dktX5_areTwo_0 := by decide +kernel
theorem dksX5_areTwo_1 : cX5_areTwo.data.toList.drop 22 = dktX5_areTwo_1 := dk_seg dksX5_areTwo_0 22 rfl rfl
theorem dX5_areTwo_0 : decode cX5_areTwo 0 = .ok (.aload_n 0, 1) := dk_42 (dk_at dksX5_areTwo_0 0 rfl rfl)
theorem dX5_areTwo_1 : decode cX5_areTwo 1 = .ok (.iload_n 1, 1) := dk_27 (dk_at dksX5_areTwo_0 1 rfl rfl)
theorem dX5_areTwo_2 : decode cX5_areTwo 2 = .ok (.invokevirtual 146, 3) := dk_182 0 146 (dk_at dksX5_areTwo_0 2 rfl rfl)
theorem dX5_areTwo_5 : decode cX5_areTwo 5 = .ok (.ifCond .eq 20, 3) := dk_153 0 20 (dk_at dksX5_areTwo_0 5 rfl rfl)
theorem dX5_areTwo_8 : decode cX5_areTwo 8 = .ok (.aload_n 0, 1) := dk_42 (dk_at dksX5_areTwo_0 8 rfl rfl)
theorem dX5_areTwo_9 : decode cX5_areTwo 9 = .ok (.iload_n 2, 1) := dk_28 (dk_at dksX5_areTwo_0 9 rfl rfl)
theorem dX5_areTwo_10 : decode cX5_areTwo 10 = .ok (.invokevirtual 146, 3) := dk_182 0 146 (dk_at dksX5_areTwo_0 10 rfl rfl)
theorem dX5_areTwo_13 : decode cX5_areTwo 13 = .ok (.ifCond .eq 12, 3) := dk_153 0 12 (dk_at dksX5_areTwo_0 13 rfl rfl)
theorem dX5_areTwo_16 : decode cX5_areTwo 16 = .ok (.iload_n 1, 1) := dk_27 (dk_at dksX5_areTwo_0 16 rfl rfl)
theorem dX5_areTwo_17 : decode cX5_areTwo 17 = .ok (.iload_n 2, 1) := dk_28 (dk_at dksX5_areTwo_0 17 rfl rfl)
theorem dX5_areTwo_18 : decode cX5_areTwo 18 = .ok (.if_icmp .eq 7, 3) := dk_159 0 7 (dk_at dksX5_areTwo_0 18 rfl rfl)
theorem dX5_areTwo_21 : decode cX5_areTwo 21 = .ok (.iconst 1, 1) := dk_4 (dk_at dksX5_areTwo_0 21 rfl rfl)
theorem dX5_areTwo_22 : decode cX5_areTwo 22 = .ok (.goto 4, 3) := dk_167 0 4 (dk_at dksX5_areTwo_1 0 rfl rfl)
theorem dX5_areTwo_25 : decode cX5_areTwo 25 = .ok (.iconst 0, 1) := dk_3 (dk_at dksX5_areTwo_1 3 rfl rfl)
theorem dX5_areTwo_26 : decode cX5_areTwo 26 = .ok (.ireturn, 1) := dk_172 (dk_at dksX5_areTwo_1 4 rfl rfl)
abbrev cX5_isOne : ByteArray := prog_25_method_7_code
def yX5_isOne : MethodName := ⟨RX5, "isOne", "(I)Z"⟩
def dkwX5_isOne_0 : List UInt8 := [27, 3, 42, 180, 0, 140, 4, 100, 184, 0, 136, 172]
abbrev dktX5_isOne_0 : List UInt8 := dkwX5_isOne_0 ++ []
theorem dksX5_isOne_0 : cX5_isOne.data.toList.drop 0 = dktX5_isOne_0 := by decide +kernel
theorem dX5_isOne_0 : decode cX5_isOne 0 = .ok (.iload_n 1, 1) := dk_27 (dk_at dksX5_isOne_0 0 rfl rfl)
theorem dX5_isOne_1 : decode cX5_isOne 1 = .ok (.iconst 0, 1) := dk_3 (dk_at dksX5_isOne_0 1 rfl rfl)
theorem dX5_isOne_2 : decode cX5_isOne 2 = .ok (.aload_n 0, 1) := dk_42 (dk_at dksX5_isOne_0 2 rfl rfl)
theorem dX5_isOne_3 : decode cX5_isOne 3 = .ok (.getfield 140, 3) := dk_180 0 140 (dk_at dksX5_isOne_0 3 rfl rfl)
theorem dX5_isOne_6 : decode cX5_isOne 6 = .ok (.iconst 1, 1) := dk_4 (dk_at dksX5_isOne_0 6 rfl rfl)
theorem dX5_isOne_7 : decode cX5_isOne 7 = .ok (.isub, 1) := dk_100 (dk_at dksX5_isOne_0 7 rfl rfl)
theorem dX5_isOne_8 : decode cX5_isOne 8 = .ok (.invokestatic 136, 3) := dk_184 0 136 (dk_at dksX5_isOne_0 8 rfl rfl)
theorem dX5_isOne_11 : decode cX5_isOne 11 = .ok (.ireturn, 1) := dk_172 (dk_at dksX5_isOne_0 11 rfl rfl)
abbrev cX5_addPromise : ByteArray := prog_25_method_11_code
def yX5_addPromise : MethodName := ⟨RX5, "addPromise", "(IIIII)I"⟩
def dkwX5_addPromise_3 : List UInt8 := [21, 6, 172]
abbrev dktX5_addPromise_3 : List UInt8 := dkwX5_addPromise_3 ++ []
def dkwX5_addPromise_2 : List UInt8 := [180, 0, 153, 79, 42, 180, 0, 33, 21, 6, 21, 5, 79, 42, 89, 180, 0, 143, 4, 96, 181, 0, 143]
abbrev dktX5_addPromise_2 : List UInt8 := dkwX5_addPromise_2 ++ dktX5_addPromise_3
def dkwX5_addPromise_1 : List UInt8 := [180, 0, 24, 21, 6, 29, 79, 42, 180, 0, 27, 21, 6, 21, 4, 79, 42, 180, 0, 30, 21, 6, 42]
abbrev dktX5_addPromise_1 : List UInt8 := dkwX5_addPromise_1 ++ dktX5_addPromise_2
def dkwX5_addPromise_0 : List UInt8 := [42, 180, 0, 143, 54, 6, 42, 180, 0, 18, 21, 6, 27, 79, 42, 180, 0, 21, 21, 6, 28, 79, 42]
abbrev dktX5_addPromise_0 : List UInt8 := dkwX5_addPromise_0 ++ dktX5_addPromise_1
theorem dksX5_addPromise_0 : cX5_addPromise.data.toList.drop 0 = dktX5_addPromise_0 := by decide +kernel
theorem dksX5_addPromise_1 : cX5_addPromise.data.toList.drop 23 = dktX5_addPromise_1 := dk_seg dksX5_addPromise_0 23 rfl rfl
theorem dksX5_addPromise_2 : cX5_addPromise.data.toList.drop 46 = dktX5_addPromise_2 := dk_seg dksX5_addPromise_1 23 rfl rfl
theorem dksX5_addPromise_3 : cX5_addPromise.data.toList.drop 69 = dktX5_addPromise_3 := dk_seg dksX5_addPromise_2 23 rfl rfl
theorem dX5_addPromise_0 : decode cX5_addPromise 0 = .ok (.aload_n 0, 1) := dk_42 (dk_at dksX5_addPromise_0 0 rfl rfl)
theorem dX5_addPromise_1 : decode cX5_addPromise 1 = .ok (.getfield 143, 3) := dk_180 0 143 (dk_at dksX5_addPromise_0 1 rfl rfl)
theorem dX5_addPromise_4 : decode cX5_addPromise 4 = .ok (.istore 6, 2) := dk_54 6 (dk_at dksX5_addPromise_0 4 rfl rfl)
theorem dX5_addPromise_6 : decode cX5_addPromise 6 = .ok (.aload_n 0, 1) := dk_42 (dk_at dksX5_addPromise_0 6 rfl rfl)
theorem dX5_addPromise_7 : decode cX5_addPromise 7 = .ok (.getfield 18, 3) := dk_180 0 18 (dk_at dksX5_addPromise_0 7 rfl rfl)
theorem dX5_addPromise_10 : decode cX5_addPromise 10 = .ok (.iload 6, 2) := dk_21 6 (dk_at dksX5_addPromise_0 10 rfl rfl)
theorem dX5_addPromise_12 : decode cX5_addPromise 12 = .ok (.iload_n 1, 1) := dk_27 (dk_at dksX5_addPromise_0 12 rfl rfl)
theorem dX5_addPromise_13 : decode cX5_addPromise 13 = .ok (.iastore, 1) := dk_79 (dk_at dksX5_addPromise_0 13 rfl rfl)
theorem dX5_addPromise_14 : decode cX5_addPromise 14 = .ok (.aload_n 0, 1) := dk_42 (dk_at dksX5_addPromise_0 14 rfl rfl)
theorem dX5_addPromise_15 : decode cX5_addPromise 15 = .ok (.getfield 21, 3) := dk_180 0 21 (dk_at dksX5_addPromise_0 15 rfl rfl)
theorem dX5_addPromise_18 : decode cX5_addPromise 18 = .ok (.iload 6, 2) := dk_21 6 (dk_at dksX5_addPromise_0 18 rfl rfl)
theorem dX5_addPromise_20 : decode cX5_addPromise 20 = .ok (.iload_n 2, 1) := dk_28 (dk_at dksX5_addPromise_0 20 rfl rfl)
theorem dX5_addPromise_21 : decode cX5_addPromise 21 = .ok (.iastore, 1) := dk_79 (dk_at dksX5_addPromise_0 21 rfl rfl)
theorem dX5_addPromise_22 : decode cX5_addPromise 22 = .ok (.aload_n 0, 1) := dk_42 (dk_at dksX5_addPromise_0 22 rfl rfl)
theorem dX5_addPromise_23 : decode cX5_addPromise 23 = .ok (.getfield 24, 3) := dk_180 0 24 (dk_at dksX5_addPromise_1 0 rfl rfl)
theorem dX5_addPromise_26 : decode cX5_addPromise 26 = .ok (.iload 6, 2) := dk_21 6 (dk_at dksX5_addPromise_1 3 rfl rfl)
theorem dX5_addPromise_28 : decode cX5_addPromise 28 = .ok (.iload_n 3, 1) := dk_29 (dk_at dksX5_addPromise_1 5 rfl rfl)
theorem dX5_addPromise_29 : decode cX5_addPromise 29 = .ok (.iastore, 1) := dk_79 (dk_at dksX5_addPromise_1 6 rfl rfl)
theorem dX5_addPromise_30 : decode cX5_addPromise 30 = .ok (.aload_n 0, 1) := dk_42 (dk_at dksX5_addPromise_1 7 rfl rfl)
theorem dX5_addPromise_31 : decode cX5_addPromise 31 = .ok (.getfield 27, 3) := dk_180 0 27 (dk_at dksX5_addPromise_1 8 rfl rfl)
theorem dX5_addPromise_34 : decode cX5_addPromise 34 = .ok (.iload 6, 2) := dk_21 6 (dk_at dksX5_addPromise_1 11 rfl rfl)
theorem dX5_addPromise_36 : decode cX5_addPromise 36 = .ok (.iload 4, 2) := dk_21 4 (dk_at dksX5_addPromise_1 13 rfl rfl)
theorem dX5_addPromise_38 : decode cX5_addPromise 38 = .ok (.iastore, 1) := dk_79 (dk_at dksX5_addPromise_1 15 rfl rfl)
theorem dX5_addPromise_39 : decode cX5_addPromise 39 = .ok (.aload_n 0, 1) := dk_42 (dk_at dksX5_addPromise_1 16 rfl rfl)
theorem dX5_addPromise_40 : decode cX5_addPromise 40 = .ok (.getfield 30, 3) := dk_180 0 30 (dk_at dksX5_addPromise_1 17 rfl rfl)
theorem dX5_addPromise_43 : decode cX5_addPromise 43 = .ok (.iload 6, 2) := dk_21 6 (dk_at dksX5_addPromise_1 20 rfl rfl)
theorem dX5_addPromise_45 : decode cX5_addPromise 45 = .ok (.aload_n 0, 1) := dk_42 (dk_at dksX5_addPromise_1 22 rfl rfl)
theorem dX5_addPromise_46 : decode cX5_addPromise 46 = .ok (.getfield 153, 3) := dk_180 0 153 (dk_at dksX5_addPromise_2 0 rfl rfl)
theorem dX5_addPromise_49 : decode cX5_addPromise 49 = .ok (.iastore, 1) := dk_79 (dk_at dksX5_addPromise_2 3 rfl rfl)
theorem dX5_addPromise_50 : decode cX5_addPromise 50 = .ok (.aload_n 0, 1) := dk_42 (dk_at dksX5_addPromise_2 4 rfl rfl)
theorem dX5_addPromise_51 : decode cX5_addPromise 51 = .ok (.getfield 33, 3) := dk_180 0 33 (dk_at dksX5_addPromise_2 5 rfl rfl)
theorem dX5_addPromise_54 : decode cX5_addPromise 54 = .ok (.iload 6, 2) := dk_21 6 (dk_at dksX5_addPromise_2 8 rfl rfl)
theorem dX5_addPromise_56 : decode cX5_addPromise 56 = .ok (.iload 5, 2) := dk_21 5 (dk_at dksX5_addPromise_2 10 rfl rfl)
theorem dX5_addPromise_58 : decode cX5_addPromise 58 = .ok (.iastore, 1) := dk_79 (dk_at dksX5_addPromise_2 12 rfl rfl)
theorem dX5_addPromise_59 : decode cX5_addPromise 59 = .ok (.aload_n 0, 1) := dk_42 (dk_at dksX5_addPromise_2 13 rfl rfl)
theorem dX5_addPromise_60 : decode cX5_addPromise 60 = .ok (.dup, 1) := dk_89 (dk_at dksX5_addPromise_2 14 rfl rfl)
theorem dX5_addPromise_61 : decode cX5_addPromise 61 = .ok (.getfield 143, 3) := dk_180 0 143 (dk_at dksX5_addPromise_2 15 rfl rfl)
theorem dX5_addPromise_64 : decode cX5_addPromise 64 = .ok (.iconst 1, 1) := dk_4 (dk_at dksX5_addPromise_2 18 rfl rfl)
theorem dX5_addPromise_65 : decode cX5_addPromise 65 = .ok (.iadd, 1) := dk_96 (dk_at dksX5_addPromise_2 19 rfl rfl)
theorem dX5_addPromise_66 : decode cX5_addPromise 66 = .ok (.putfield 143, 3) := dk_181 0 143 (dk_at dksX5_addPromise_2 20 rfl rfl)
theorem dX5_addPromise_69 : decode cX5_addPromise 69 = .ok (.iload 6, 2) := dk_21 6 (dk_at dksX5_addPromise_3 0 rfl rfl)
theorem dX5_addPromise_71 : decode cX5_addPromise 71 = .ok (.ireturn, 1) := dk_172 (dk_at dksX5_addPromise_3 2 rfl rfl)
abbrev cX5_promises : ByteArray := prog_25_method_13_code
def yX5_promises : MethodName := ⟨RX5, "promises", "(III)I"⟩
def dkwX5_promises_11 : List UInt8 := [167, 255, 56, 29, 172]
abbrev dktX5_promises_11 : List UInt8 := dkwX5_promises_11 ++ []
def dkwX5_promises_10 : List UInt8 := [21, 7, 6, 96, 47, 136, 42, 180, 0, 126, 21, 7, 7, 96, 47, 136, 182, 0, 160, 87, 132, 4, 1]
abbrev dktX5_promises_10 : List UInt8 := dkwX5_promises_10 ++ dktX5_promises_11
def dkwX5_promises_9 : List UInt8 := [180, 0, 126, 21, 7, 4, 96, 47, 136, 42, 180, 0, 126, 21, 7, 5, 96, 47, 136, 42, 180, 0, 126]
abbrev dktX5_promises_9 : List UInt8 := dkwX5_promises_9 ++ dktX5_promises_10
def dkwX5_promises_8 : List UInt8 := [136, 3, 16, 99, 184, 0, 136, 154, 0, 6, 21, 4, 172, 42, 42, 180, 0, 126, 21, 7, 47, 136, 42]
abbrev dktX5_promises_8 : List UInt8 := dkwX5_promises_8 ++ dktX5_promises_9
def dkwX5_promises_7 : List UInt8 := [21, 7, 6, 96, 47, 136, 3, 16, 9, 184, 0, 136, 153, 0, 22, 42, 180, 0, 126, 21, 7, 7, 96, 47]
abbrev dktX5_promises_7 : List UInt8 := dkwX5_promises_7 ++ dktX5_promises_8
def dkwX5_promises_6 : List UInt8 := [153, 0, 57, 42, 180, 0, 126, 21, 7, 5, 96, 47, 136, 184, 0, 150, 153, 0, 41, 42, 180, 0, 126]
abbrev dktX5_promises_6 : List UInt8 := dkwX5_promises_6 ++ dktX5_promises_7
def dkwX5_promises_5 : List UInt8 := [54, 7, 42, 42, 180, 0, 126, 21, 7, 47, 136, 42, 180, 0, 126, 21, 7, 4, 96, 47, 136, 182, 0, 156]
abbrev dktX5_promises_5 : List UInt8 := dkwX5_promises_5 ++ dktX5_promises_6
def dkwX5_promises_4 : List UInt8 := [156, 0, 12, 42, 180, 0, 143, 16, 12, 160, 0, 6, 21, 4, 172, 16, 60, 27, 104, 22, 5, 136, 96]
abbrev dktX5_promises_4 : List UInt8 := dkwX5_promises_4 ++ dktX5_promises_5
def dkwX5_promises_3 : List UInt8 := [55, 5, 22, 5, 9, 148, 155, 0, 29, 22, 5, 20, 0, 167, 97, 42, 180, 0, 123, 27, 46, 133, 148]
abbrev dktX5_promises_3 : List UInt8 := dkwX5_promises_3 ++ dktX5_promises_4
def dkwX5_promises_2 : List UInt8 := [46, 2, 160, 0, 5, 3, 172, 3, 54, 4, 21, 4, 29, 162, 0, 200, 28, 133, 8, 21, 4, 104, 133, 97]
abbrev dktX5_promises_2 : List UInt8 := dkwX5_promises_2 ++ dktX5_promises_3
def dkwX5_promises_1 : List UInt8 := [46, 2, 159, 0, 17, 42, 180, 0, 120, 27, 46, 16, 254, 159, 0, 6, 16, 244, 172, 42, 180, 0, 120, 27]
abbrev dktX5_promises_1 : List UInt8 := dkwX5_promises_1 ++ dktX5_promises_2
def dkwX5_promises_0 : List UInt8 := [27, 184, 0, 164, 153, 0, 13, 29, 4, 16, 12, 184, 0, 136, 154, 0, 5, 2, 172, 42, 180, 0, 120, 27]
abbrev dktX5_promises_0 : List UInt8 := dkwX5_promises_0 ++ dktX5_promises_1
theorem dksX5_promises_0 : cX5_promises.data.toList.drop 0 = dktX5_promises_0 := by decide +kernel
theorem dksX5_promises_1 : cX5_promises.data.toList.drop 24 = dktX5_promises_1 := dk_seg dksX5_promises_0 24 rfl rfl
theorem dksX5_promises_2 : cX5_promises.data.toList.drop 48 = dktX5_promises_2 := dk_seg dksX5_promises_1 24 rfl rfl
theorem dksX5_promises_3 : cX5_promises.data.toList.drop 72 = dktX5_promises_3 := dk_seg dksX5_promises_2 24 rfl rfl
theorem dksX5_promises_4 : cX5_promises.data.toList.drop 95 = dktX5_promises_4 := dk_seg dksX5_promises_3 23 rfl rfl
theorem dksX5_promises_5 : cX5_promises.data.toList.drop 118 = dktX5_promises_5 := dk_seg dksX5_promises_4 23 rfl rfl
theorem dksX5_promises_6 : cX5_promises.data.toList.drop 142 = dktX5_promises_6 := dk_seg dksX5_promises_5 24 rfl rfl
theorem dksX5_promises_7 : cX5_promises.data.toList.drop 165 = dktX5_promises_7 := dk_seg dksX5_promises_6 23 rfl rfl
theorem dksX5_promises_8 : cX5_promises.data.toList.drop 189 = dktX5_promises_8 := dk_seg dksX5_promises_7 24 rfl rfl
theorem dksX5_promises_9 : cX5_promises.data.toList.drop 212 = dktX5_promises_9 := dk_seg dksX5_promises_8 23 rfl rfl
theorem dksX5_promises_10 : cX5_promises.data.toList.drop 235 = dktX5_promises_10 := dk_seg dksX5_promises_9 23 rfl rfl
theorem dksX5_promises_11 : cX5_promises.data.toList.drop 258 = dktX5_promises_11 := dk_seg dksX5_promises_10 23 rfl rfl
theorem dX5_promises_0 : decode cX5_promises 0 = .ok (.iload_n 1, 1) := dk_27 (dk_at dksX5_promises_0 0 rfl rfl)
theorem dX5_promises_1 : decode cX5_promises 1 = .ok (.invokestatic 164, 3) := dk_184 0 164 (dk_at dksX5_promises_0 1 rfl rfl)
theorem dX5_promises_4 : decode cX5_promises 4 = .ok (.ifCond .eq 13, 3) := dk_153 0 13 (dk_at dksX5_promises_0 4 rfl rfl)
theorem dX5_promises_7 : decode cX5_promises 7 = .ok (.iload_n 3, 1) := dk_29 (dk_at dksX5_promises_0 7 rfl rfl)
theorem dX5_promises_8 : decode cX5_promises 8 = .ok (.iconst 1, 1) := dk_4 (dk_at dksX5_promises_0 8 rfl rfl)
theorem dX5_promises_9 : decode cX5_promises 9 = .ok (.bipush 12, 2) := dk_16 12 (dk_at dksX5_promises_0 9 rfl rfl)
theorem dX5_promises_11 : decode cX5_promises 11 = .ok (.invokestatic 136, 3) := dk_184 0 136 (dk_at dksX5_promises_0 11 rfl rfl)
theorem dX5_promises_14 : decode cX5_promises 14 = .ok (.ifCond .ne 5, 3) := dk_154 0 5 (dk_at dksX5_promises_0 14 rfl rfl)
theorem dX5_promises_17 : decode cX5_promises 17 = .ok (.iconst (-1), 1) := dk_2 (dk_at dksX5_promises_0 17 rfl rfl)
theorem dX5_promises_18 : decode cX5_promises 18 = .ok (.ireturn, 1) := dk_172 (dk_at dksX5_promises_0 18 rfl rfl)
theorem dX5_promises_19 : decode cX5_promises 19 = .ok (.aload_n 0, 1) := dk_42 (dk_at dksX5_promises_0 19 rfl rfl)
theorem dX5_promises_20 : decode cX5_promises 20 = .ok (.getfield 120, 3) := dk_180 0 120 (dk_at dksX5_promises_0 20 rfl rfl)
theorem dX5_promises_23 : decode cX5_promises 23 = .ok (.iload_n 1, 1) := dk_27 (dk_at dksX5_promises_0 23 rfl rfl)
theorem dX5_promises_24 : decode cX5_promises 24 = .ok (.iaload, 1) := dk_46 (dk_at dksX5_promises_1 0 rfl rfl)
theorem dX5_promises_25 : decode cX5_promises 25 = .ok (.iconst (-1), 1) := dk_2 (dk_at dksX5_promises_1 1 rfl rfl)
theorem dX5_promises_26 : decode cX5_promises 26 = .ok (.if_icmp .eq 17, 3) := dk_159 0 17 (dk_at dksX5_promises_1 2 rfl rfl)
theorem dX5_promises_29 : decode cX5_promises 29 = .ok (.aload_n 0, 1) := dk_42 (dk_at dksX5_promises_1 5 rfl rfl)
theorem dX5_promises_30 : decode cX5_promises 30 = .ok (.getfield 120, 3) := dk_180 0 120 (dk_at dksX5_promises_1 6 rfl rfl)
theorem dX5_promises_33 : decode cX5_promises 33 = .ok (.iload_n 1, 1) := dk_27 (dk_at dksX5_promises_1 9 rfl rfl)
theorem dX5_promises_34 : decode cX5_promises 34 = .ok (.iaload, 1) := dk_46 (dk_at dksX5_promises_1 10 rfl rfl)
theorem dX5_promises_35 : decode cX5_promises 35 = .ok (.bipush (-2), 2) := dk_16 254 (dk_at dksX5_promises_1 11 rfl rfl)
theorem dX5_promises_37 : decode cX5_promises 37 = .ok (.if_icmp .eq 6, 3) := dk_159 0 6 (dk_at dksX5_promises_1 13 rfl rfl)
theorem dX5_promises_40 : decode cX5_promises 40 = .ok (.bipush (-12), 2) := dk_16 244 (dk_at dksX5_promises_1 16 rfl rfl)
theorem dX5_promises_42 : decode cX5_promises 42 = .ok (.ireturn, 1) := dk_172 (dk_at dksX5_promises_1 18 rfl rfl)
theorem dX5_promises_43 : decode cX5_promises 43 = .ok (.aload_n 0, 1) := dk_42 (dk_at dksX5_promises_1 19 rfl rfl)
theorem dX5_promises_44 : decode cX5_promises 44 = .ok (.getfield 120, 3) := dk_180 0 120 (dk_at dksX5_promises_1 20 rfl rfl)
theorem dX5_promises_47 : decode cX5_promises 47 = .ok (.iload_n 1, 1) := dk_27 (dk_at dksX5_promises_1 23 rfl rfl)
theorem dX5_promises_48 : decode cX5_promises 48 = .ok (.iaload, 1) := dk_46 (dk_at dksX5_promises_2 0 rfl rfl)
theorem dX5_promises_49 : decode cX5_promises 49 = .ok (.iconst (-1), 1) := dk_2 (dk_at dksX5_promises_2 1 rfl rfl)
theorem dX5_promises_50 : decode cX5_promises 50 = .ok (.if_icmp .ne 5, 3) := dk_160 0 5 (dk_at dksX5_promises_2 2 rfl rfl)
theorem dX5_promises_53 : decode cX5_promises 53 = .ok (.iconst 0, 1) := dk_3 (dk_at dksX5_promises_2 5 rfl rfl)
theorem dX5_promises_54 : decode cX5_promises 54 = .ok (.ireturn, 1) := dk_172 (dk_at dksX5_promises_2 6 rfl rfl)
theorem dX5_promises_55 : decode cX5_promises 55 = .ok (.iconst 0, 1) := dk_3 (dk_at dksX5_promises_2 7 rfl rfl)
theorem dX5_promises_56 : decode cX5_promises 56 = .ok (.istore 4, 2) := dk_54 4 (dk_at dksX5_promises_2 8 rfl rfl)
theorem dX5_promises_58 : decode cX5_promises 58 = .ok (.iload 4, 2) := dk_21 4 (dk_at dksX5_promises_2 10 rfl rfl)
theorem dX5_promises_60 : decode cX5_promises 60 = .ok (.iload_n 3, 1) := dk_29 (dk_at dksX5_promises_2 12 rfl rfl)
theorem dX5_promises_61 : decode cX5_promises 61 = .ok (.if_icmp .ge 200, 3) := dk_162 0 200 (dk_at dksX5_promises_2 13 rfl rfl)
theorem dX5_promises_64 : decode cX5_promises 64 = .ok (.iload_n 2, 1) := dk_28 (dk_at dksX5_promises_2 16 rfl rfl)
theorem dX5_promises_65 : decode cX5_promises 65 = .ok (.i2l, 1) := dk_133 (dk_at dksX5_promises_2 17 rfl rfl)
theorem dX5_promises_66 : decode cX5_promises 66 = .ok (.iconst 5, 1) := dk_8 (dk_at dksX5_promises_2 18 rfl rfl)
theorem dX5_promises_67 : decode cX5_promises 67 = .ok (.iload 4, 2) := dk_21 4 (dk_at dksX5_promises_2 19 rfl rfl)
theorem dX5_promises_69 : decode cX5_promises 69 = .ok (.imul, 1) := dk_104 (dk_at dksX5_promises_2 21 rfl rfl)
theorem dX5_promises_70 : decode cX5_promises 70 = .ok (.i2l, 1) := dk_133 (dk_at dksX5_promises_2 22 rfl rfl)
theorem dX5_promises_71 : decode cX5_promises 71 = .ok (.ladd, 1) := dk_97 (dk_at dksX5_promises_2 23 rfl rfl)
theorem dX5_promises_72 : decode cX5_promises 72 = .ok (.lstore 5, 2) := dk_55 5 (dk_at dksX5_promises_3 0 rfl rfl)
theorem dX5_promises_74 : decode cX5_promises 74 = .ok (.lload 5, 2) := dk_22 5 (dk_at dksX5_promises_3 2 rfl rfl)
theorem dX5_promises_76 : decode cX5_promises 76 = .ok (.lconst 0, 1) := dk_9 (dk_at dksX5_promises_3 4 rfl rfl)
theorem dX5_promises_77 : decode cX5_promises 77 = .ok (.lcmp, 1) := dk_148 (dk_at dksX5_promises_3 5 rfl rfl)
theorem dX5_promises_78 : decode cX5_promises 78 = .ok (.ifCond .lt 29, 3) := dk_155 0 29 (dk_at dksX5_promises_3 6 rfl rfl)
theorem dX5_promises_81 : decode cX5_promises 81 = .ok (.lload 5, 2) := dk_22 5 (dk_at dksX5_promises_3 9 rfl rfl)
theorem dX5_promises_83 : decode cX5_promises 83 = .ok (.ldc2_w 167, 3) := dk_20 0 167 (dk_at dksX5_promises_3 11 rfl rfl)
theorem dX5_promises_86 : decode cX5_promises 86 = .ok (.ladd, 1) := dk_97 (dk_at dksX5_promises_3 14 rfl rfl)
theorem dX5_promises_87 : decode cX5_promises 87 = .ok (.aload_n 0, 1) := dk_42 (dk_at dksX5_promises_3 15 rfl rfl)
theorem dX5_promises_88 : decode cX5_promises 88 = .ok (.getfield 123, 3) := dk_180 0 123 (dk_at dksX5_promises_3 16 rfl rfl)
theorem dX5_promises_91 : decode cX5_promises 91 = .ok (.iload_n 1, 1) := dk_27 (dk_at dksX5_promises_3 19 rfl rfl)
theorem dX5_promises_92 : decode cX5_promises 92 = .ok (.iaload, 1) := dk_46 (dk_at dksX5_promises_3 20 rfl rfl)
theorem dX5_promises_93 : decode cX5_promises 93 = .ok (.i2l, 1) := dk_133 (dk_at dksX5_promises_3 21 rfl rfl)
theorem dX5_promises_94 : decode cX5_promises 94 = .ok (.lcmp, 1) := dk_148 (dk_at dksX5_promises_3 22 rfl rfl)
theorem dX5_promises_95 : decode cX5_promises 95 = .ok (.ifCond .ge 12, 3) := dk_156 0 12 (dk_at dksX5_promises_4 0 rfl rfl)
theorem dX5_promises_98 : decode cX5_promises 98 = .ok (.aload_n 0, 1) := dk_42 (dk_at dksX5_promises_4 3 rfl rfl)
theorem dX5_promises_99 : decode cX5_promises 99 = .ok (.getfield 143, 3) := dk_180 0 143 (dk_at dksX5_promises_4 4 rfl rfl)
theorem dX5_promises_102 : decode cX5_promises 102 = .ok (.bipush 12, 2) := dk_16 12 (dk_at dksX5_promises_4 7 rfl rfl)
theorem dX5_promises_104 : decode cX5_promises 104 = .ok (.if_icmp .ne 6, 3) := dk_160 0 6 (dk_at dksX5_promises_4 9 rfl rfl)
theorem dX5_promises_107 : decode cX5_promises 107 = .ok (.iload 4, 2) := dk_21 4 (dk_at dksX5_promises_4 12 rfl rfl)
theorem dX5_promises_109 : decode cX5_promises 109 = .ok (.ireturn, 1) := dk_172 (dk_at dksX5_promises_4 14 rfl rfl)
theorem dX5_promises_110 : decode cX5_promises 110 = .ok (.bipush 60, 2) := dk_16 60 (dk_at dksX5_promises_4 15 rfl rfl)
theorem dX5_promises_112 : decode cX5_promises 112 = .ok (.iload_n 1, 1) := dk_27 (dk_at dksX5_promises_4 17 rfl rfl)
theorem dX5_promises_113 : decode cX5_promises 113 = .ok (.imul, 1) := dk_104 (dk_at dksX5_promises_4 18 rfl rfl)
theorem dX5_promises_114 : decode cX5_promises 114 = .ok (.lload 5, 2) := dk_22 5 (dk_at dksX5_promises_4 19 rfl rfl)
theorem dX5_promises_116 : decode cX5_promises 116 = .ok (.l2i, 1) := dk_136 (dk_at dksX5_promises_4 21 rfl rfl)
theorem dX5_promises_117 : decode cX5_promises 117 = .ok (.iadd, 1) := dk_96 (dk_at dksX5_promises_4 22 rfl rfl)
theorem dX5_promises_118 : decode cX5_promises 118 = .ok (.istore 7, 2) := dk_54 7 (dk_at dksX5_promises_5 0 rfl rfl)
theorem dX5_promises_120 : decode cX5_promises 120 = .ok (.aload_n 0, 1) := dk_42 (dk_at dksX5_promises_5 2 rfl rfl)
theorem dX5_promises_121 : decode cX5_promises 121 = .ok (.aload_n 0, 1) := dk_42 (dk_at dksX5_promises_5 3 rfl rfl)
theorem dX5_promises_122 : decode cX5_promises 122 = .ok (.getfield 126, 3) := dk_180 0 126 (dk_at dksX5_promises_5 4 rfl rfl)
theorem dX5_promises_125 : decode cX5_promises 125 = .ok (.iload 7, 2) := dk_21 7 (dk_at dksX5_promises_5 7 rfl rfl)
theorem dX5_promises_127 : decode cX5_promises 127 = .ok (.laload, 1) := dk_47 (dk_at dksX5_promises_5 9 rfl rfl)
theorem dX5_promises_128 : decode cX5_promises 128 = .ok (.l2i, 1) := dk_136 (dk_at dksX5_promises_5 10 rfl rfl)
theorem dX5_promises_129 : decode cX5_promises 129 = .ok (.aload_n 0, 1) := dk_42 (dk_at dksX5_promises_5 11 rfl rfl)
theorem dX5_promises_130 : decode cX5_promises 130 = .ok (.getfield 126, 3) := dk_180 0 126 (dk_at dksX5_promises_5 12 rfl rfl)
theorem dX5_promises_133 : decode cX5_promises 133 = .ok (.iload 7, 2) := dk_21 7 (dk_at dksX5_promises_5 15 rfl rfl)
theorem dX5_promises_135 : decode cX5_promises 135 = .ok (.iconst 1, 1) := dk_4 (dk_at dksX5_promises_5 17 rfl rfl)
theorem dX5_promises_136 : decode cX5_promises 136 = .ok (.iadd, 1) := dk_96 (dk_at dksX5_promises_5 18 rfl rfl)
theorem dX5_promises_137 : decode cX5_promises 137 = .ok (.laload, 1) := dk_47 (dk_at dksX5_promises_5 19 rfl rfl)
theorem dX5_promises_138 : decode cX5_promises 138 = .ok (.l2i, 1) := dk_136 (dk_at dksX5_promises_5 20 rfl rfl)
theorem dX5_promises_139 : decode cX5_promises 139 = .ok (.invokevirtual 156, 3) := dk_182 0 156 (dk_at dksX5_promises_5 21 rfl rfl)
theorem dX5_promises_142 : decode cX5_promises 142 = .ok (.ifCond .eq 57, 3) := dk_153 0 57 (dk_at dksX5_promises_6 0 rfl rfl)
theorem dX5_promises_145 : decode cX5_promises 145 = .ok (.aload_n 0, 1) := dk_42 (dk_at dksX5_promises_6 3 rfl rfl)
theorem dX5_promises_146 : decode cX5_promises 146 = .ok (.getfield 126, 3) := dk_180 0 126 (dk_at dksX5_promises_6 4 rfl rfl)
theorem dX5_promises_149 : decode cX5_promises 149 = .ok (.iload 7, 2) := dk_21 7 (dk_at dksX5_promises_6 7 rfl rfl)
theorem dX5_promises_151 : decode cX5_promises 151 = .ok (.iconst 2, 1) := dk_5 (dk_at dksX5_promises_6 9 rfl rfl)
theorem dX5_promises_152 : decode cX5_promises 152 = .ok (.iadd, 1) := dk_96 (dk_at dksX5_promises_6 10 rfl rfl)
theorem dX5_promises_153 : decode cX5_promises 153 = .ok (.laload, 1) := dk_47 (dk_at dksX5_promises_6 11 rfl rfl)
theorem dX5_promises_154 : decode cX5_promises 154 = .ok (.l2i, 1) := dk_136 (dk_at dksX5_promises_6 12 rfl rfl)
theorem dX5_promises_155 : decode cX5_promises 155 = .ok (.invokestatic 150, 3) := dk_184 0 150 (dk_at dksX5_promises_6 13 rfl rfl)
theorem dX5_promises_158 : decode cX5_promises 158 = .ok (.ifCond .eq 41, 3) := dk_153 0 41 (dk_at dksX5_promises_6 16 rfl rfl)
theorem dX5_promises_161 : decode cX5_promises 161 = .ok (.aload_n 0, 1) := dk_42 (dk_at dksX5_promises_6 19 rfl rfl)
theorem dX5_promises_162 : decode cX5_promises 162 = .ok (.getfield 126, 3) := dk_180 0 126 (dk_at dksX5_promises_6 20 rfl rfl)
theorem dX5_promises_165 : decode cX5_promises 165 = .ok (.iload 7, 2) := dk_21 7 (dk_at dksX5_promises_7 0 rfl rfl)
theorem dX5_promises_167 : decode cX5_promises 167 = .ok (.iconst 3, 1) := dk_6 (dk_at dksX5_promises_7 2 rfl rfl)
theorem dX5_promises_168 : decode cX5_promises 168 = .ok (.iadd, 1) := dk_96 (dk_at dksX5_promises_7 3 rfl rfl)
theorem dX5_promises_169 : decode cX5_promises 169 = .ok (.laload, 1) := dk_47 (dk_at dksX5_promises_7 4 rfl rfl)
theorem dX5_promises_170 : decode cX5_promises 170 = .ok (.l2i, 1) := dk_136 (dk_at dksX5_promises_7 5 rfl rfl)
theorem dX5_promises_171 : decode cX5_promises 171 = .ok (.iconst 0, 1) := dk_3 (dk_at dksX5_promises_7 6 rfl rfl)
theorem dX5_promises_172 : decode cX5_promises 172 = .ok (.bipush 9, 2) := dk_16 9 (dk_at dksX5_promises_7 7 rfl rfl)
theorem dX5_promises_174 : decode cX5_promises 174 = .ok (.invokestatic 136, 3) := dk_184 0 136 (dk_at dksX5_promises_7 9 rfl rfl)
theorem dX5_promises_177 : decode cX5_promises 177 = .ok (.ifCond .eq 22, 3) := dk_153 0 22 (dk_at dksX5_promises_7 12 rfl rfl)
theorem dX5_promises_180 : decode cX5_promises 180 = .ok (.aload_n 0, 1) := dk_42 (dk_at dksX5_promises_7 15 rfl rfl)
theorem dX5_promises_181 : decode cX5_promises 181 = .ok (.getfield 126, 3) := dk_180 0 126 (dk_at dksX5_promises_7 16 rfl rfl)
theorem dX5_promises_184 : decode cX5_promises 184 = .ok (.iload 7, 2) := dk_21 7 (dk_at dksX5_promises_7 19 rfl rfl)
theorem dX5_promises_186 : decode cX5_promises 186 = .ok (.iconst 4, 1) := dk_7 (dk_at dksX5_promises_7 21 rfl rfl)
theorem dX5_promises_187 : decode cX5_promises 187 = .ok (.iadd, 1) := dk_96 (dk_at dksX5_promises_7 22 rfl rfl)
theorem dX5_promises_188 : decode cX5_promises 188 = .ok (.laload, 1) := dk_47 (dk_at dksX5_promises_7 23 rfl rfl)
theorem dX5_promises_189 : decode cX5_promises 189 = .ok (.l2i, 1) := dk_136 (dk_at dksX5_promises_8 0 rfl rfl)
theorem dX5_promises_190 : decode cX5_promises 190 = .ok (.iconst 0, 1) := dk_3 (dk_at dksX5_promises_8 1 rfl rfl)
theorem dX5_promises_191 : decode cX5_promises 191 = .ok (.bipush 99, 2) := dk_16 99 (dk_at dksX5_promises_8 2 rfl rfl)
theorem dX5_promises_193 : decode cX5_promises 193 = .ok (.invokestatic 136, 3) := dk_184 0 136 (dk_at dksX5_promises_8 4 rfl rfl)
theorem dX5_promises_196 : decode cX5_promises 196 = .ok (.ifCond .ne 6, 3) := dk_154 0 6 (dk_at dksX5_promises_8 7 rfl rfl)
theorem dX5_promises_199 : decode cX5_promises 199 = .ok (.iload 4, 2) := dk_21 4 (dk_at dksX5_promises_8 10 rfl rfl)
theorem dX5_promises_201 : decode cX5_promises 201 = .ok (.ireturn, 1) := dk_172 (dk_at dksX5_promises_8 12 rfl rfl)
theorem dX5_promises_202 : decode cX5_promises 202 = .ok (.aload_n 0, 1) := dk_42 (dk_at dksX5_promises_8 13 rfl rfl)
theorem dX5_promises_203 : decode cX5_promises 203 = .ok (.aload_n 0, 1) := dk_42 (dk_at dksX5_promises_8 14 rfl rfl)
theorem dX5_promises_204 : decode cX5_promises 204 = .ok (.getfield 126, 3) := dk_180 0 126 (dk_at dksX5_promises_8 15 rfl rfl)
theorem dX5_promises_207 : decode cX5_promises 207 = .ok (.iload 7, 2) := dk_21 7 (dk_at dksX5_promises_8 18 rfl rfl)
theorem dX5_promises_209 : decode cX5_promises 209 = .ok (.laload, 1) := dk_47 (dk_at dksX5_promises_8 20 rfl rfl)
theorem dX5_promises_210 : decode cX5_promises 210 = .ok (.l2i, 1) := dk_136 (dk_at dksX5_promises_8 21 rfl rfl)
theorem dX5_promises_211 : decode cX5_promises 211 = .ok (.aload_n 0, 1) := dk_42 (dk_at dksX5_promises_8 22 rfl rfl)
theorem dX5_promises_212 : decode cX5_promises 212 = .ok (.getfield 126, 3) := dk_180 0 126 (dk_at dksX5_promises_9 0 rfl rfl)
theorem dX5_promises_215 : decode cX5_promises 215 = .ok (.iload 7, 2) := dk_21 7 (dk_at dksX5_promises_9 3 rfl rfl)
theorem dX5_promises_217 : decode cX5_promises 217 = .ok (.iconst 1, 1) := dk_4 (dk_at dksX5_promises_9 5 rfl rfl)
theorem dX5_promises_218 : decode cX5_promises 218 = .ok (.iadd, 1) := dk_96 (dk_at dksX5_promises_9 6 rfl rfl)
theorem dX5_promises_219 : decode cX5_promises 219 = .ok (.laload, 1) := dk_47 (dk_at dksX5_promises_9 7 rfl rfl)
theorem dX5_promises_220 : decode cX5_promises 220 = .ok (.l2i, 1) := dk_136 (dk_at dksX5_promises_9 8 rfl rfl)
theorem dX5_promises_221 : decode cX5_promises 221 = .ok (.aload_n 0, 1) := dk_42 (dk_at dksX5_promises_9 9 rfl rfl)
theorem dX5_promises_222 : decode cX5_promises 222 = .ok (.getfield 126, 3) := dk_180 0 126 (dk_at dksX5_promises_9 10 rfl rfl)
theorem dX5_promises_225 : decode cX5_promises 225 = .ok (.iload 7, 2) := dk_21 7 (dk_at dksX5_promises_9 13 rfl rfl)
theorem dX5_promises_227 : decode cX5_promises 227 = .ok (.iconst 2, 1) := dk_5 (dk_at dksX5_promises_9 15 rfl rfl)
theorem dX5_promises_228 : decode cX5_promises 228 = .ok (.iadd, 1) := dk_96 (dk_at dksX5_promises_9 16 rfl rfl)
theorem dX5_promises_229 : decode cX5_promises 229 = .ok (.laload, 1) := dk_47 (dk_at dksX5_promises_9 17 rfl rfl)
theorem dX5_promises_230 : decode cX5_promises 230 = .ok (.l2i, 1) := dk_136 (dk_at dksX5_promises_9 18 rfl rfl)
theorem dX5_promises_231 : decode cX5_promises 231 = .ok (.aload_n 0, 1) := dk_42 (dk_at dksX5_promises_9 19 rfl rfl)
theorem dX5_promises_232 : decode cX5_promises 232 = .ok (.getfield 126, 3) := dk_180 0 126 (dk_at dksX5_promises_9 20 rfl rfl)
theorem dX5_promises_235 : decode cX5_promises 235 = .ok (.iload 7, 2) := dk_21 7 (dk_at dksX5_promises_10 0 rfl rfl)
theorem dX5_promises_237 : decode cX5_promises 237 = .ok (.iconst 3, 1) := dk_6 (dk_at dksX5_promises_10 2 rfl rfl)
theorem dX5_promises_238 : decode cX5_promises 238 = .ok (.iadd, 1) := dk_96 (dk_at dksX5_promises_10 3 rfl rfl)
theorem dX5_promises_239 : decode cX5_promises 239 = .ok (.laload, 1) := dk_47 (dk_at dksX5_promises_10 4 rfl rfl)
theorem dX5_promises_240 : decode cX5_promises 240 = .ok (.l2i, 1) := dk_136 (dk_at dksX5_promises_10 5 rfl rfl)
theorem dX5_promises_241 : decode cX5_promises 241 = .ok (.aload_n 0, 1) := dk_42 (dk_at dksX5_promises_10 6 rfl rfl)
theorem dX5_promises_242 : decode cX5_promises 242 = .ok (.getfield 126, 3) := dk_180 0 126 (dk_at dksX5_promises_10 7 rfl rfl)
theorem dX5_promises_245 : decode cX5_promises 245 = .ok (.iload 7, 2) := dk_21 7 (dk_at dksX5_promises_10 10 rfl rfl)
theorem dX5_promises_247 : decode cX5_promises 247 = .ok (.iconst 4, 1) := dk_7 (dk_at dksX5_promises_10 12 rfl rfl)
theorem dX5_promises_248 : decode cX5_promises 248 = .ok (.iadd, 1) := dk_96 (dk_at dksX5_promises_10 13 rfl rfl)
theorem dX5_promises_249 : decode cX5_promises 249 = .ok (.laload, 1) := dk_47 (dk_at dksX5_promises_10 14 rfl rfl)
theorem dX5_promises_250 : decode cX5_promises 250 = .ok (.l2i, 1) := dk_136 (dk_at dksX5_promises_10 15 rfl rfl)
theorem dX5_promises_251 : decode cX5_promises 251 = .ok (.invokevirtual 160, 3) := dk_182 0 160 (dk_at dksX5_promises_10 16 rfl rfl)
theorem dX5_promises_254 : decode cX5_promises 254 = .ok (.pop, 1) := dk_87 (dk_at dksX5_promises_10 19 rfl rfl)
theorem dX5_promises_255 : decode cX5_promises 255 = .ok (.iinc 4 1, 3) := dk_132 4 1 (dk_at dksX5_promises_10 20 rfl rfl)
theorem dX5_promises_258 : decode cX5_promises 258 = .ok (.goto (-200), 3) := dk_167 255 56 (dk_at dksX5_promises_11 0 rfl rfl)
theorem dX5_promises_261 : decode cX5_promises 261 = .ok (.iload_n 3, 1) := dk_29 (dk_at dksX5_promises_11 3 rfl rfl)
theorem dX5_promises_262 : decode cX5_promises 262 = .ok (.ireturn, 1) := dk_172 (dk_at dksX5_promises_11 4 rfl rfl)
abbrev cX5_isShelf : ByteArray := prog_25_method_118_code
def yX5_isShelf : MethodName := ⟨RX5, "isShelf", "(I)Z"⟩
def dkwX5_isShelf_0 : List UInt8 := [26, 3, 8, 184, 0, 136, 172]
abbrev dktX5_isShelf_0 : List UInt8 := dkwX5_isShelf_0 ++ []
theorem dksX5_isShelf_0 : cX5_isShelf.data.toList.drop 0 = dktX5_isShelf_0 := by decide +kernel
theorem dX5_isShelf_0 : decode cX5_isShelf 0 = .ok (.iload_n 0, 1) := dk_26 (dk_at dksX5_isShelf_0 0 rfl rfl)
theorem dX5_isShelf_1 : decode cX5_isShelf 1 = .ok (.iconst 0, 1) := dk_3 (dk_at dksX5_isShelf_0 1 rfl rfl)
theorem dX5_isShelf_2 : decode cX5_isShelf 2 = .ok (.iconst 5, 1) := dk_8 (dk_at dksX5_isShelf_0 2 rfl rfl)
theorem dX5_isShelf_3 : decode cX5_isShelf 3 = .ok (.invokestatic 136, 3) := dk_184 0 136 (dk_at dksX5_isShelf_0 3 rfl rfl)
theorem dX5_isShelf_6 : decode cX5_isShelf 6 = .ok (.ireturn, 1) := dk_172 (dk_at dksX5_isShelf_0 6 rfl rfl)
abbrev cX5_undo : ByteArray := prog_25_method_17_code
def yX5_undo : MethodName := ⟨RX5, "undo", "()I"⟩
def dkwX5_undo_2 : List UInt8 := [180, 0, 176, 46, 42, 180, 0, 55, 42, 180, 0, 176, 46, 182, 0, 179, 42, 180, 0, 176, 172]
abbrev dktX5_undo_2 : List UInt8 := dkwX5_undo_2 ++ []
def dkwX5_undo_1 : List UInt8 := [180, 0, 173, 4, 96, 181, 0, 173, 42, 42, 180, 0, 49, 42, 180, 0, 176, 46, 42, 180, 0, 52, 42]
abbrev dktX5_undo_1 : List UInt8 := dkwX5_undo_1 ++ dktX5_undo_2
def dkwX5_undo_0 : List UInt8 := [42, 180, 0, 176, 154, 0, 6, 16, 251, 172, 42, 89, 180, 0, 176, 4, 100, 181, 0, 176, 42, 89]
abbrev dktX5_undo_0 : List UInt8 := dkwX5_undo_0 ++ dktX5_undo_1
theorem dksX5_undo_0 : cX5_undo.data.toList.drop 0 = dktX5_undo_0 := by decide +kernel
theorem dksX5_undo_1 : cX5_undo.data.toList.drop 22 = dktX5_undo_1 := dk_seg dksX5_undo_0 22 rfl rfl
theorem dksX5_undo_2 : cX5_undo.data.toList.drop 45 = dktX5_undo_2 := dk_seg dksX5_undo_1 23 rfl rfl
theorem dX5_undo_0 : decode cX5_undo 0 = .ok (.aload_n 0, 1) := dk_42 (dk_at dksX5_undo_0 0 rfl rfl)
theorem dX5_undo_1 : decode cX5_undo 1 = .ok (.getfield 176, 3) := dk_180 0 176 (dk_at dksX5_undo_0 1 rfl rfl)
theorem dX5_undo_4 : decode cX5_undo 4 = .ok (.ifCond .ne 6, 3) := dk_154 0 6 (dk_at dksX5_undo_0 4 rfl rfl)
theorem dX5_undo_7 : decode cX5_undo 7 = .ok (.bipush (-5), 2) := dk_16 251 (dk_at dksX5_undo_0 7 rfl rfl)
theorem dX5_undo_9 : decode cX5_undo 9 = .ok (.ireturn, 1) := dk_172 (dk_at dksX5_undo_0 9 rfl rfl)
theorem dX5_undo_10 : decode cX5_undo 10 = .ok (.aload_n 0, 1) := dk_42 (dk_at dksX5_undo_0 10 rfl rfl)
theorem dX5_undo_11 : decode cX5_undo 11 = .ok (.dup, 1) := dk_89 (dk_at dksX5_undo_0 11 rfl rfl)
theorem dX5_undo_12 : decode cX5_undo 12 = .ok (.getfield 176, 3) := dk_180 0 176 (dk_at dksX5_undo_0 12 rfl rfl)
theorem dX5_undo_15 : decode cX5_undo 15 = .ok (.iconst 1, 1) := dk_4 (dk_at dksX5_undo_0 15 rfl rfl)
theorem dX5_undo_16 : decode cX5_undo 16 = .ok (.isub, 1) := dk_100 (dk_at dksX5_undo_0 16 rfl rfl)
theorem dX5_undo_17 : decode cX5_undo 17 = .ok (.putfield 176, 3) := dk_181 0 176 (dk_at dksX5_undo_0 17 rfl rfl)
theorem dX5_undo_20 : decode cX5_undo 20 = .ok (.aload_n 0, 1) := dk_42 (dk_at dksX5_undo_0 20 rfl rfl)
theorem dX5_undo_21 : decode cX5_undo 21 = .ok (.dup, 1) := dk_89 (dk_at dksX5_undo_0 21 rfl rfl)
theorem dX5_undo_22 : decode cX5_undo 22 = .ok (.getfield 173, 3) := dk_180 0 173 (dk_at dksX5_undo_1 0 rfl rfl)
theorem dX5_undo_25 : decode cX5_undo 25 = .ok (.iconst 1, 1) := dk_4 (dk_at dksX5_undo_1 3 rfl rfl)
theorem dX5_undo_26 : decode cX5_undo 26 = .ok (.iadd, 1) := dk_96 (dk_at dksX5_undo_1 4 rfl rfl)
theorem dX5_undo_27 : decode cX5_undo 27 = .ok (.putfield 173, 3) := dk_181 0 173 (dk_at dksX5_undo_1 5 rfl rfl)
theorem dX5_undo_30 : decode cX5_undo 30 = .ok (.aload_n 0, 1) := dk_42 (dk_at dksX5_undo_1 8 rfl rfl)
theorem dX5_undo_31 : decode cX5_undo 31 = .ok (.aload_n 0, 1) := dk_42 (dk_at dksX5_undo_1 9 rfl rfl)
theorem dX5_undo_32 : decode cX5_undo 32 = .ok (.getfield 49, 3) := dk_180 0 49 (dk_at dksX5_undo_1 10 rfl rfl)
theorem dX5_undo_35 : decode cX5_undo 35 = .ok (.aload_n 0, 1) := dk_42 (dk_at dksX5_undo_1 13 rfl rfl)
theorem dX5_undo_36 : decode cX5_undo 36 = .ok (.getfield 176, 3) := dk_180 0 176 (dk_at dksX5_undo_1 14 rfl rfl)
theorem dX5_undo_39 : decode cX5_undo 39 = .ok (.iaload, 1) := dk_46 (dk_at dksX5_undo_1 17 rfl rfl)
theorem dX5_undo_40 : decode cX5_undo 40 = .ok (.aload_n 0, 1) := dk_42 (dk_at dksX5_undo_1 18 rfl rfl)
theorem dX5_undo_41 : decode cX5_undo 41 = .ok (.getfield 52, 3) := dk_180 0 52 (dk_at dksX5_undo_1 19 rfl rfl)
theorem dX5_undo_44 : decode cX5_undo 44 = .ok (.aload_n 0, 1) := dk_42 (dk_at dksX5_undo_1 22 rfl rfl)
theorem dX5_undo_45 : decode cX5_undo 45 = .ok (.getfield 176, 3) := dk_180 0 176 (dk_at dksX5_undo_2 0 rfl rfl)
theorem dX5_undo_48 : decode cX5_undo 48 = .ok (.iaload, 1) := dk_46 (dk_at dksX5_undo_2 3 rfl rfl)
theorem dX5_undo_49 : decode cX5_undo 49 = .ok (.aload_n 0, 1) := dk_42 (dk_at dksX5_undo_2 4 rfl rfl)
theorem dX5_undo_50 : decode cX5_undo 50 = .ok (.getfield 55, 3) := dk_180 0 55 (dk_at dksX5_undo_2 5 rfl rfl)
theorem dX5_undo_53 : decode cX5_undo 53 = .ok (.aload_n 0, 1) := dk_42 (dk_at dksX5_undo_2 8 rfl rfl)
theorem dX5_undo_54 : decode cX5_undo 54 = .ok (.getfield 176, 3) := dk_180 0 176 (dk_at dksX5_undo_2 9 rfl rfl)
theorem dX5_undo_57 : decode cX5_undo 57 = .ok (.iaload, 1) := dk_46 (dk_at dksX5_undo_2 12 rfl rfl)
theorem dX5_undo_58 : decode cX5_undo 58 = .ok (.invokevirtual 179, 3) := dk_182 0 179 (dk_at dksX5_undo_2 13 rfl rfl)
theorem dX5_undo_61 : decode cX5_undo 61 = .ok (.aload_n 0, 1) := dk_42 (dk_at dksX5_undo_2 16 rfl rfl)
theorem dX5_undo_62 : decode cX5_undo 62 = .ok (.getfield 176, 3) := dk_180 0 176 (dk_at dksX5_undo_2 17 rfl rfl)
theorem dX5_undo_65 : decode cX5_undo 65 = .ok (.ireturn, 1) := dk_172 (dk_at dksX5_undo_2 20 rfl rfl)
abbrev cX5_lays : ByteArray := prog_25_method_15_code
def yX5_lays : MethodName := ⟨RX5, "lays", "(III)V"⟩
def dkwX5_lays_5 : List UInt8 := [180, 0, 39, 28, 29, 79, 167, 0, 16, 42, 29, 181, 0, 42, 167, 0, 8, 42, 29, 181, 0, 153, 177]
abbrev dktX5_lays_5 : List UInt8 := dkwX5_lays_5 ++ []
def dkwX5_lays_4 : List UInt8 := [167, 0, 46, 42, 180, 0, 33, 28, 29, 79, 167, 0, 36, 42, 180, 0, 36, 28, 29, 79, 167, 0, 26, 42]
abbrev dktX5_lays_4 : List UInt8 := dkwX5_lays_4 ++ dktX5_lays_5
def dkwX5_lays_3 : List UInt8 := [28, 29, 79, 167, 0, 66, 42, 180, 0, 27, 28, 29, 79, 167, 0, 56, 42, 180, 0, 30, 28, 29, 79]
abbrev dktX5_lays_3 : List UInt8 := dkwX5_lays_3 ++ dktX5_lays_4
def dkwX5_lays_2 : List UInt8 := [42, 180, 0, 9, 28, 29, 79, 167, 0, 86, 42, 180, 0, 15, 28, 29, 79, 167, 0, 76, 42, 180, 0, 24]
abbrev dktX5_lays_2 : List UInt8 := dkwX5_lays_2 ++ dktX5_lays_3
def dkwX5_lays_1 : List UInt8 := [170, 0, 0, 0, 0, 0, 139, 0, 0, 0, 0, 0, 0, 0, 8, 0, 0, 0, 51, 0, 0, 0, 61, 0, 0, 0, 71, 0, 0, 0, 81, 0, 0, 0, 91, 0, 0, 0, 101, 0, 0, 0, 111, 0, 0, 0, 121, 0, 0, 0, 131]
abbrev dktX5_lays_1 : List UInt8 := dkwX5_lays_1 ++ dktX5_lays_2
def dkwX5_lays_0 : List UInt8 := [27]
abbrev dktX5_lays_0 : List UInt8 := dkwX5_lays_0 ++ dktX5_lays_1
theorem dksX5_lays_0 : cX5_lays.data.toList.drop 0 = dktX5_lays_0 := by decide +kernel
theorem dksX5_lays_1 : cX5_lays.data.toList.drop 1 = dktX5_lays_1 := dk_seg dksX5_lays_0 1 rfl rfl
theorem dksX5_lays_2 : cX5_lays.data.toList.drop 52 = dktX5_lays_2 := dk_seg dksX5_lays_1 51 rfl rfl
theorem dksX5_lays_3 : cX5_lays.data.toList.drop 76 = dktX5_lays_3 := dk_seg dksX5_lays_2 24 rfl rfl
theorem dksX5_lays_4 : cX5_lays.data.toList.drop 99 = dktX5_lays_4 := dk_seg dksX5_lays_3 23 rfl rfl
theorem dksX5_lays_5 : cX5_lays.data.toList.drop 123 = dktX5_lays_5 := dk_seg dksX5_lays_4 24 rfl rfl
theorem dX5_lays_0 : decode cX5_lays 0 = .ok (.iload_n 1, 1) := dk_27 (dk_at dksX5_lays_0 0 rfl rfl)
theorem dX5_lays_1 : decode cX5_lays 1 = .ok (.tableswitch 139 0 8 #[51, 61, 71, 81, 91, 101, 111, 121, 131], 51) := by decide +kernel
theorem dX5_lays_52 : decode cX5_lays 52 = .ok (.aload_n 0, 1) := dk_42 (dk_at dksX5_lays_2 0 rfl rfl)
theorem dX5_lays_53 : decode cX5_lays 53 = .ok (.getfield 9, 3) := dk_180 0 9 (dk_at dksX5_lays_2 1 rfl rfl)
theorem dX5_lays_56 : decode cX5_lays 56 = .ok (.iload_n 2, 1) := dk_28 (dk_at dksX5_lays_2 4 rfl rfl)
theorem dX5_lays_57 : decode cX5_lays 57 = .ok (.iload_n 3, 1) := dk_29 (dk_at dksX5_lays_2 5 rfl rfl)
theorem dX5_lays_58 : decode cX5_lays 58 = .ok (.iastore, 1) := dk_79 (dk_at dksX5_lays_2 6 rfl rfl)
theorem dX5_lays_59 : decode cX5_lays 59 = .ok (.goto 86, 3) := dk_167 0 86 (dk_at dksX5_lays_2 7 rfl rfl)
theorem dX5_lays_62 : decode cX5_lays 62 = .ok (.aload_n 0, 1) := dk_42 (dk_at dksX5_lays_2 10 rfl rfl)
theorem dX5_lays_63 : decode cX5_lays 63 = .ok (.getfield 15, 3) := dk_180 0 15 (dk_at dksX5_lays_2 11 rfl rfl)
theorem dX5_lays_66 : decode cX5_lays 66 = .ok (.iload_n 2, 1) := dk_28 (dk_at dksX5_lays_2 14 rfl rfl)
theorem dX5_lays_67 : decode cX5_lays 67 = .ok (.iload_n 3, 1) := dk_29 (dk_at dksX5_lays_2 15 rfl rfl)
theorem dX5_lays_68 : decode cX5_lays 68 = .ok (.iastore, 1) := dk_79 (dk_at dksX5_lays_2 16 rfl rfl)
theorem dX5_lays_69 : decode cX5_lays 69 = .ok (.goto 76, 3) := dk_167 0 76 (dk_at dksX5_lays_2 17 rfl rfl)
theorem dX5_lays_72 : decode cX5_lays 72 = .ok (.aload_n 0, 1) := dk_42 (dk_at dksX5_lays_2 20 rfl rfl)
theorem dX5_lays_73 : decode cX5_lays 73 = .ok (.getfield 24, 3) := dk_180 0 24 (dk_at dksX5_lays_2 21 rfl rfl)
theorem dX5_lays_76 : decode cX5_lays 76 = .ok (.iload_n 2, 1) := dk_28 (dk_at dksX5_lays_3 0 rfl rfl)
theorem dX5_lays_77 : decode cX5_lays 77 = .ok (.iload_n 3, 1) := dk_29 (dk_at dksX5_lays_3 1 rfl rfl)
theorem dX5_lays_78 : decode cX5_lays 78 = .ok (.iastore, 1) := dk_79 (dk_at dksX5_lays_3 2 rfl rfl)
theorem dX5_lays_79 : decode cX5_lays 79 = .ok (.goto 66, 3) := dk_167 0 66 (dk_at dksX5_lays_3 3 rfl rfl)
theorem dX5_lays_82 : decode cX5_lays 82 = .ok (.aload_n 0, 1) := dk_42 (dk_at dksX5_lays_3 6 rfl rfl)
theorem dX5_lays_83 : decode cX5_lays 83 = .ok (.getfield 27, 3) := dk_180 0 27 (dk_at dksX5_lays_3 7 rfl rfl)
theorem dX5_lays_86 : decode cX5_lays 86 = .ok (.iload_n 2, 1) := dk_28 (dk_at dksX5_lays_3 10 rfl rfl)
theorem dX5_lays_87 : decode cX5_lays 87 = .ok (.iload_n 3, 1) := dk_29 (dk_at dksX5_lays_3 11 rfl rfl)
theorem dX5_lays_88 : decode cX5_lays 88 = .ok (.iastore, 1) := dk_79 (dk_at dksX5_lays_3 12 rfl rfl)
theorem dX5_lays_89 : decode cX5_lays 89 = .ok (.goto 56, 3) := dk_167 0 56 (dk_at dksX5_lays_3 13 rfl rfl)
theorem dX5_lays_92 : decode cX5_lays 92 = .ok (.aload_n 0, 1) := dk_42 (dk_at dksX5_lays_3 16 rfl rfl)
theorem dX5_lays_93 : decode cX5_lays 93 = .ok (.getfield 30, 3) := dk_180 0 30 (dk_at dksX5_lays_3 17 rfl rfl)
theorem dX5_lays_96 : decode cX5_lays 96 = .ok (.iload_n 2, 1) := dk_28 (dk_at dksX5_lays_3 20 rfl rfl)
theorem dX5_lays_97 : decode cX5_lays 97 = .ok (.iload_n 3, 1) := dk_29 (dk_at dksX5_lays_3 21 rfl rfl)
theorem dX5_lays_98 : decode cX5_lays 98 = .ok (.iastore, 1) := dk_79 (dk_at dksX5_lays_3 22 rfl rfl)
theorem dX5_lays_99 : decode cX5_lays 99 = .ok (.goto 46, 3) := dk_167 0 46 (dk_at dksX5_lays_4 0 rfl rfl)
theorem dX5_lays_102 : decode cX5_lays 102 = .ok (.aload_n 0, 1) := dk_42 (dk_at dksX5_lays_4 3 rfl rfl)
theorem dX5_lays_103 : decode cX5_lays 103 = .ok (.getfield 33, 3) := dk_180 0 33 (dk_at dksX5_lays_4 4 rfl rfl)
theorem dX5_lays_106 : decode cX5_lays 106 = .ok (.iload_n 2, 1) := dk_28 (dk_at dksX5_lays_4 7 rfl rfl)
theorem dX5_lays_107 : decode cX5_lays 107 = .ok (.iload_n 3, 1) := dk_29 (dk_at dksX5_lays_4 8 rfl rfl)
theorem dX5_lays_108 : decode cX5_lays 108 = .ok (.iastore, 1) := dk_79 (dk_at dksX5_lays_4 9 rfl rfl)
theorem dX5_lays_109 : decode cX5_lays 109 = .ok (.goto 36, 3) := dk_167 0 36 (dk_at dksX5_lays_4 10 rfl rfl)
theorem dX5_lays_112 : decode cX5_lays 112 = .ok (.aload_n 0, 1) := dk_42 (dk_at dksX5_lays_4 13 rfl rfl)
theorem dX5_lays_113 : decode cX5_lays 113 = .ok (.getfield 36, 3) := dk_180 0 36 (dk_at dksX5_lays_4 14 rfl rfl)
theorem dX5_lays_116 : decode cX5_lays 116 = .ok (.iload_n 2, 1) := dk_28 (dk_at dksX5_lays_4 17 rfl rfl)
theorem dX5_lays_117 : decode cX5_lays 117 = .ok (.iload_n 3, 1) := dk_29 (dk_at dksX5_lays_4 18 rfl rfl)
theorem dX5_lays_118 : decode cX5_lays 118 = .ok (.iastore, 1) := dk_79 (dk_at dksX5_lays_4 19 rfl rfl)
theorem dX5_lays_119 : decode cX5_lays 119 = .ok (.goto 26, 3) := dk_167 0 26 (dk_at dksX5_lays_4 20 rfl rfl)
theorem dX5_lays_122 : decode cX5_lays 122 = .ok (.aload_n 0, 1) := dk_42 (dk_at dksX5_lays_4 23 rfl rfl)
theorem dX5_lays_123 : decode cX5_lays 123 = .ok (.getfield 39, 3) := dk_180 0 39 (dk_at dksX5_lays_5 0 rfl rfl)
theorem dX5_lays_126 : decode cX5_lays 126 = .ok (.iload_n 2, 1) := dk_28 (dk_at dksX5_lays_5 3 rfl rfl)
theorem dX5_lays_127 : decode cX5_lays 127 = .ok (.iload_n 3, 1) := dk_29 (dk_at dksX5_lays_5 4 rfl rfl)
theorem dX5_lays_128 : decode cX5_lays 128 = .ok (.iastore, 1) := dk_79 (dk_at dksX5_lays_5 5 rfl rfl)
theorem dX5_lays_129 : decode cX5_lays 129 = .ok (.goto 16, 3) := dk_167 0 16 (dk_at dksX5_lays_5 6 rfl rfl)
theorem dX5_lays_132 : decode cX5_lays 132 = .ok (.aload_n 0, 1) := dk_42 (dk_at dksX5_lays_5 9 rfl rfl)
theorem dX5_lays_133 : decode cX5_lays 133 = .ok (.iload_n 3, 1) := dk_29 (dk_at dksX5_lays_5 10 rfl rfl)
theorem dX5_lays_134 : decode cX5_lays 134 = .ok (.putfield 42, 3) := dk_181 0 42 (dk_at dksX5_lays_5 11 rfl rfl)
theorem dX5_lays_137 : decode cX5_lays 137 = .ok (.goto 8, 3) := dk_167 0 8 (dk_at dksX5_lays_5 14 rfl rfl)
theorem dX5_lays_140 : decode cX5_lays 140 = .ok (.aload_n 0, 1) := dk_42 (dk_at dksX5_lays_5 17 rfl rfl)
theorem dX5_lays_141 : decode cX5_lays 141 = .ok (.iload_n 3, 1) := dk_29 (dk_at dksX5_lays_5 18 rfl rfl)
theorem dX5_lays_142 : decode cX5_lays 142 = .ok (.putfield 153, 3) := dk_181 0 153 (dk_at dksX5_lays_5 19 rfl rfl)
theorem dX5_lays_145 : decode cX5_lays 145 = .ok (.return_, 1) := dk_177 (dk_at dksX5_lays_5 22 rfl rfl)
abbrev cX5_redo : ByteArray := prog_25_method_18_code
def yX5_redo : MethodName := ⟨RX5, "redo", "()I"⟩
def dkwX5_redo_2 : List UInt8 := [181, 0, 176, 42, 89, 180, 0, 173, 4, 100, 181, 0, 173, 42, 180, 0, 173, 172]
abbrev dktX5_redo_2 : List UInt8 := dkwX5_redo_2 ++ []
def dkwX5_redo_1 : List UInt8 := [42, 180, 0, 176, 46, 42, 180, 0, 58, 42, 180, 0, 176, 46, 182, 0, 179, 42, 89, 180, 0, 176, 4, 96]
abbrev dktX5_redo_1 : List UInt8 := dkwX5_redo_1 ++ dktX5_redo_2
def dkwX5_redo_0 : List UInt8 := [42, 180, 0, 173, 154, 0, 6, 16, 251, 172, 42, 42, 180, 0, 49, 42, 180, 0, 176, 46, 42, 180, 0, 52]
abbrev dktX5_redo_0 : List UInt8 := dkwX5_redo_0 ++ dktX5_redo_1
theorem dksX5_redo_0 : cX5_redo.data.toList.drop 0 = dktX5_redo_0 := by decide +kernel
theorem dksX5_redo_1 : cX5_redo.data.toList.drop 24 = dktX5_redo_1 := dk_seg dksX5_redo_0 24 rfl rfl
theorem dksX5_redo_2 : cX5_redo.data.toList.drop 48 = dktX5_redo_2 := dk_seg dksX5_redo_1 24 rfl rfl
theorem dX5_redo_0 : decode cX5_redo 0 = .ok (.aload_n 0, 1) := dk_42 (dk_at dksX5_redo_0 0 rfl rfl)
theorem dX5_redo_1 : decode cX5_redo 1 = .ok (.getfield 173, 3) := dk_180 0 173 (dk_at dksX5_redo_0 1 rfl rfl)
theorem dX5_redo_4 : decode cX5_redo 4 = .ok (.ifCond .ne 6, 3) := dk_154 0 6 (dk_at dksX5_redo_0 4 rfl rfl)
theorem dX5_redo_7 : decode cX5_redo 7 = .ok (.bipush (-5), 2) := dk_16 251 (dk_at dksX5_redo_0 7 rfl rfl)
theorem dX5_redo_9 : decode cX5_redo 9 = .ok (.ireturn, 1) := dk_172 (dk_at dksX5_redo_0 9 rfl rfl)
theorem dX5_redo_10 : decode cX5_redo 10 = .ok (.aload_n 0, 1) := dk_42 (dk_at dksX5_redo_0 10 rfl rfl)
theorem dX5_redo_11 : decode cX5_redo 11 = .ok (.aload_n 0, 1) := dk_42 (dk_at dksX5_redo_0 11 rfl rfl)
theorem dX5_redo_12 : decode cX5_redo 12 = .ok (.getfield 49, 3) := dk_180 0 49 (dk_at dksX5_redo_0 12 rfl rfl)
theorem dX5_redo_15 : decode cX5_redo 15 = .ok (.aload_n 0, 1) := dk_42 (dk_at dksX5_redo_0 15 rfl rfl)
theorem dX5_redo_16 : decode cX5_redo 16 = .ok (.getfield 176, 3) := dk_180 0 176 (dk_at dksX5_redo_0 16 rfl rfl)
theorem dX5_redo_19 : decode cX5_redo 19 = .ok (.iaload, 1) := dk_46 (dk_at dksX5_redo_0 19 rfl rfl)
theorem dX5_redo_20 : decode cX5_redo 20 = .ok (.aload_n 0, 1) := dk_42 (dk_at dksX5_redo_0 20 rfl rfl)
theorem dX5_redo_21 : decode cX5_redo 21 = .ok (.getfield 52, 3) := dk_180 0 52 (dk_at dksX5_redo_0 21 rfl rfl)
theorem dX5_redo_24 : decode cX5_redo 24 = .ok (.aload_n 0, 1) := dk_42 (dk_at dksX5_redo_1 0 rfl rfl)
theorem dX5_redo_25 : decode cX5_redo 25 = .ok (.getfield 176, 3) := dk_180 0 176 (dk_at dksX5_redo_1 1 rfl rfl)
theorem dX5_redo_28 : decode cX5_redo 28 = .ok (.iaload, 1) := dk_46 (dk_at dksX5_redo_1 4 rfl rfl)
theorem dX5_redo_29 : decode cX5_redo 29 = .ok (.aload_n 0, 1) := dk_42 (dk_at dksX5_redo_1 5 rfl rfl)
theorem dX5_redo_30 : decode cX5_redo 30 = .ok (.getfield 58, 3) := dk_180 0 58 (dk_at dksX5_redo_1 6 rfl rfl)
theorem dX5_redo_33 : decode cX5_redo 33 = .ok (.aload_n 0, 1) := dk_42 (dk_at dksX5_redo_1 9 rfl rfl)
theorem dX5_redo_34 : decode cX5_redo 34 = .ok (.getfield 176, 3) := dk_180 0 176 (dk_at dksX5_redo_1 10 rfl rfl)
theorem dX5_redo_37 : decode cX5_redo 37 = .ok (.iaload, 1) := dk_46 (dk_at dksX5_redo_1 13 rfl rfl)
theorem dX5_redo_38 : decode cX5_redo 38 = .ok (.invokevirtual 179, 3) := dk_182 0 179 (dk_at dksX5_redo_1 14 rfl rfl)
theorem dX5_redo_41 : decode cX5_redo 41 = .ok (.aload_n 0, 1) := dk_42 (dk_at dksX5_redo_1 17 rfl rfl)
theorem dX5_redo_42 : decode cX5_redo 42 = .ok (.dup, 1) := dk_89 (dk_at dksX5_redo_1 18 rfl rfl)
theorem dX5_redo_43 : decode cX5_redo 43 = .ok (.getfield 176, 3) := dk_180 0 176 (dk_at dksX5_redo_1 19 rfl rfl)
theorem dX5_redo_46 : decode cX5_redo 46 = .ok (.iconst 1, 1) := dk_4 (dk_at dksX5_redo_1 22 rfl rfl)
theorem dX5_redo_47 : decode cX5_redo 47 = .ok (.iadd, 1) := dk_96 (dk_at dksX5_redo_1 23 rfl rfl)
theorem dX5_redo_48 : decode cX5_redo 48 = .ok (.putfield 176, 3) := dk_181 0 176 (dk_at dksX5_redo_2 0 rfl rfl)
theorem dX5_redo_51 : decode cX5_redo 51 = .ok (.aload_n 0, 1) := dk_42 (dk_at dksX5_redo_2 3 rfl rfl)
theorem dX5_redo_52 : decode cX5_redo 52 = .ok (.dup, 1) := dk_89 (dk_at dksX5_redo_2 4 rfl rfl)
theorem dX5_redo_53 : decode cX5_redo 53 = .ok (.getfield 173, 3) := dk_180 0 173 (dk_at dksX5_redo_2 5 rfl rfl)
theorem dX5_redo_56 : decode cX5_redo 56 = .ok (.iconst 1, 1) := dk_4 (dk_at dksX5_redo_2 8 rfl rfl)
theorem dX5_redo_57 : decode cX5_redo 57 = .ok (.isub, 1) := dk_100 (dk_at dksX5_redo_2 9 rfl rfl)
theorem dX5_redo_58 : decode cX5_redo 58 = .ok (.putfield 173, 3) := dk_181 0 173 (dk_at dksX5_redo_2 10 rfl rfl)
theorem dX5_redo_61 : decode cX5_redo 61 = .ok (.aload_n 0, 1) := dk_42 (dk_at dksX5_redo_2 13 rfl rfl)
theorem dX5_redo_62 : decode cX5_redo 62 = .ok (.getfield 173, 3) := dk_180 0 173 (dk_at dksX5_redo_2 14 rfl rfl)
theorem dX5_redo_65 : decode cX5_redo 65 = .ok (.ireturn, 1) := dk_172 (dk_at dksX5_redo_2 17 rfl rfl)
abbrev cX5_mend : ByteArray := prog_25_method_21_code
def yX5_mend : MethodName := ⟨RX5, "mend", "(III)I"⟩
def dkwX5_mend_1 : List UInt8 := [167, 0, 4, 2, 172]
abbrev dktX5_mend_1 : List UInt8 := dkwX5_mend_1 ++ []
def dkwX5_mend_0 : List UInt8 := [42, 27, 28, 182, 0, 186, 153, 0, 21, 28, 29, 184, 0, 189, 153, 0, 13, 42, 28, 27, 29, 182, 0, 192]
abbrev dktX5_mend_0 : List UInt8 := dkwX5_mend_0 ++ dktX5_mend_1
theorem dksX5_mend_0 : cX5_mend.data.toList.drop 0 = dktX5_mend_0 := by decide +kernel
theorem dksX5_mend_1 : cX5_mend.data.toList.drop 24 = dktX5_mend_1 := dk_seg dksX5_mend_0 24 rfl rfl
theorem dX5_mend_0 : decode cX5_mend 0 = .ok (.aload_n 0, 1) := dk_42 (dk_at dksX5_mend_0 0 rfl rfl)
theorem dX5_mend_1 : decode cX5_mend 1 = .ok (.iload_n 1, 1) := dk_27 (dk_at dksX5_mend_0 1 rfl rfl)
theorem dX5_mend_2 : decode cX5_mend 2 = .ok (.iload_n 2, 1) := dk_28 (dk_at dksX5_mend_0 2 rfl rfl)
theorem dX5_mend_3 : decode cX5_mend 3 = .ok (.invokevirtual 186, 3) := dk_182 0 186 (dk_at dksX5_mend_0 3 rfl rfl)
theorem dX5_mend_6 : decode cX5_mend 6 = .ok (.ifCond .eq 21, 3) := dk_153 0 21 (dk_at dksX5_mend_0 6 rfl rfl)
theorem dX5_mend_9 : decode cX5_mend 9 = .ok (.iload_n 2, 1) := dk_28 (dk_at dksX5_mend_0 9 rfl rfl)
theorem dX5_mend_10 : decode cX5_mend 10 = .ok (.iload_n 3, 1) := dk_29 (dk_at dksX5_mend_0 10 rfl rfl)
theorem dX5_mend_11 : decode cX5_mend 11 = .ok (.invokestatic 189, 3) := dk_184 0 189 (dk_at dksX5_mend_0 11 rfl rfl)
theorem dX5_mend_14 : decode cX5_mend 14 = .ok (.ifCond .eq 13, 3) := dk_153 0 13 (dk_at dksX5_mend_0 14 rfl rfl)
theorem dX5_mend_17 : decode cX5_mend 17 = .ok (.aload_n 0, 1) := dk_42 (dk_at dksX5_mend_0 17 rfl rfl)
theorem dX5_mend_18 : decode cX5_mend 18 = .ok (.iload_n 2, 1) := dk_28 (dk_at dksX5_mend_0 18 rfl rfl)
theorem dX5_mend_19 : decode cX5_mend 19 = .ok (.iload_n 1, 1) := dk_27 (dk_at dksX5_mend_0 19 rfl rfl)
theorem dX5_mend_20 : decode cX5_mend 20 = .ok (.iload_n 3, 1) := dk_29 (dk_at dksX5_mend_0 20 rfl rfl)
theorem dX5_mend_21 : decode cX5_mend 21 = .ok (.invokevirtual 192, 3) := dk_182 0 192 (dk_at dksX5_mend_0 21 rfl rfl)
theorem dX5_mend_24 : decode cX5_mend 24 = .ok (.goto 4, 3) := dk_167 0 4 (dk_at dksX5_mend_1 0 rfl rfl)
theorem dX5_mend_27 : decode cX5_mend 27 = .ok (.iconst (-1), 1) := dk_2 (dk_at dksX5_mend_1 3 rfl rfl)
theorem dX5_mend_28 : decode cX5_mend 28 = .ok (.ireturn, 1) := dk_172 (dk_at dksX5_mend_1 4 rfl rfl)
abbrev cX5_isPlace : ByteArray := prog_25_method_19_code
def yX5_isPlace : MethodName := ⟨RX5, "isPlace", "(II)Z"⟩
def dkwX5_isPlace_2 : List UInt8 := [154, 0, 7, 4, 167, 0, 4, 3, 172]
abbrev dktX5_isPlace_2 : List UInt8 := dkwX5_isPlace_2 ++ []
def dkwX5_isPlace_1 : List UInt8 := [153, 0, 11, 42, 27, 182, 0, 183, 167, 0, 23, 28, 16, 8, 16, 9, 184, 0, 136, 153, 0, 11, 27]
abbrev dktX5_isPlace_1 : List UInt8 := dkwX5_isPlace_1 ++ dktX5_isPlace_2
def dkwX5_isPlace_0 : List UInt8 := [28, 3, 4, 184, 0, 136, 153, 0, 11, 42, 27, 182, 0, 146, 167, 0, 41, 28, 5, 16, 7, 184, 0, 136]
abbrev dktX5_isPlace_0 : List UInt8 := dkwX5_isPlace_0 ++ dktX5_isPlace_1
theorem dksX5_isPlace_0 : cX5_isPlace.data.toList.drop 0 = dktX5_isPlace_0 := by decide +kernel
theorem dksX5_isPlace_1 : cX5_isPlace.data.toList.drop 24 = dktX5_isPlace_1 := dk_seg dksX5_isPlace_0 24 rfl rfl
theorem dksX5_isPlace_2 : cX5_isPlace.data.toList.drop 47 = dktX5_isPlace_2 := dk_seg dksX5_isPlace_1 23 rfl rfl
theorem dX5_isPlace_0 : decode cX5_isPlace 0 = .ok (.iload_n 2, 1) := dk_28 (dk_at dksX5_isPlace_0 0 rfl rfl)
theorem dX5_isPlace_1 : decode cX5_isPlace 1 = .ok (.iconst 0, 1) := dk_3 (dk_at dksX5_isPlace_0 1 rfl rfl)
theorem dX5_isPlace_2 : decode cX5_isPlace 2 = .ok (.iconst 1, 1) := dk_4 (dk_at dksX5_isPlace_0 2 rfl rfl)
theorem dX5_isPlace_3 : decode cX5_isPlace 3 = .ok (.invokestatic 136, 3) := dk_184 0 136 (dk_at dksX5_isPlace_0 3 rfl rfl)
theorem dX5_isPlace_6 : decode cX5_isPlace 6 = .ok (.ifCond .eq 11, 3) := dk_153 0 11 (dk_at dksX5_isPlace_0 6 rfl rfl)
theorem dX5_isPlace_9 : decode cX5_isPlace 9 = .ok (.aload_n 0, 1) := dk_42 (dk_at dksX5_isPlace_0 9 rfl rfl)
theorem dX5_isPlace_10 : decode cX5_isPlace 10 = .ok (.iload_n 1, 1) := dk_27 (dk_at dksX5_isPlace_0 10 rfl rfl)
theorem dX5_isPlace_11 : decode cX5_isPlace 11 = .ok (.invokevirtual 146, 3) := dk_182 0 146 (dk_at dksX5_isPlace_0 11 rfl rfl)
theorem dX5_isPlace_14 : decode cX5_isPlace 14 = .ok (.goto 41, 3) := dk_167 0 41 (dk_at dksX5_isPlace_0 14 rfl rfl)
theorem dX5_isPlace_17 : decode cX5_isPlace 17 = .ok (.iload_n 2, 1) := dk_28 (dk_at dksX5_isPlace_0 17 rfl rfl)
theorem dX5_isPlace_18 : decode cX5_isPlace 18 = .ok (.iconst 2, 1) := dk_5 (dk_at dksX5_isPlace_0 18 rfl rfl)
theorem dX5_isPlace_19 : decode cX5_isPlace 19 = .ok (.bipush 7, 2) := dk_16 7 (dk_at dksX5_isPlace_0 19 rfl rfl)
theorem dX5_isPlace_21 : decode cX5_isPlace 21 = .ok (.invokestatic 136, 3) := dk_184 0 136 (dk_at dksX5_isPlace_0 21 rfl rfl)
theorem dX5_isPlace_24 : decode cX5_isPlace 24 = .ok (.ifCond .eq 11, 3) := dk_153 0 11 (dk_at dksX5_isPlace_1 0 rfl rfl)
theorem dX5_isPlace_27 : decode cX5_isPlace 27 = .ok (.aload_n 0, 1) := dk_42 (dk_at dksX5_isPlace_1 3 rfl rfl)
theorem dX5_isPlace_28 : decode cX5_isPlace 28 = .ok (.iload_n 1, 1) := dk_27 (dk_at dksX5_isPlace_1 4 rfl rfl)
theorem dX5_isPlace_29 : decode cX5_isPlace 29 = .ok (.invokevirtual 183, 3) := dk_182 0 183 (dk_at dksX5_isPlace_1 5 rfl rfl)
theorem dX5_isPlace_32 : decode cX5_isPlace 32 = .ok (.goto 23, 3) := dk_167 0 23 (dk_at dksX5_isPlace_1 8 rfl rfl)
theorem dX5_isPlace_35 : decode cX5_isPlace 35 = .ok (.iload_n 2, 1) := dk_28 (dk_at dksX5_isPlace_1 11 rfl rfl)
theorem dX5_isPlace_36 : decode cX5_isPlace 36 = .ok (.bipush 8, 2) := dk_16 8 (dk_at dksX5_isPlace_1 12 rfl rfl)
theorem dX5_isPlace_38 : decode cX5_isPlace 38 = .ok (.bipush 9, 2) := dk_16 9 (dk_at dksX5_isPlace_1 14 rfl rfl)
theorem dX5_isPlace_40 : decode cX5_isPlace 40 = .ok (.invokestatic 136, 3) := dk_184 0 136 (dk_at dksX5_isPlace_1 16 rfl rfl)
theorem dX5_isPlace_43 : decode cX5_isPlace 43 = .ok (.ifCond .eq 11, 3) := dk_153 0 11 (dk_at dksX5_isPlace_1 19 rfl rfl)
theorem dX5_isPlace_46 : decode cX5_isPlace 46 = .ok (.iload_n 1, 1) := dk_27 (dk_at dksX5_isPlace_1 22 rfl rfl)
theorem dX5_isPlace_47 : decode cX5_isPlace 47 = .ok (.ifCond .ne 7, 3) := dk_154 0 7 (dk_at dksX5_isPlace_2 0 rfl rfl)
theorem dX5_isPlace_50 : decode cX5_isPlace 50 = .ok (.iconst 1, 1) := dk_4 (dk_at dksX5_isPlace_2 3 rfl rfl)
theorem dX5_isPlace_51 : decode cX5_isPlace 51 = .ok (.goto 4, 3) := dk_167 0 4 (dk_at dksX5_isPlace_2 4 rfl rfl)
theorem dX5_isPlace_54 : decode cX5_isPlace 54 = .ok (.iconst 0, 1) := dk_3 (dk_at dksX5_isPlace_2 7 rfl rfl)
theorem dX5_isPlace_55 : decode cX5_isPlace 55 = .ok (.ireturn, 1) := dk_172 (dk_at dksX5_isPlace_2 8 rfl rfl)
abbrev cX5_isPromise : ByteArray := prog_25_method_8_code
def yX5_isPromise : MethodName := ⟨RX5, "isPromise", "(I)Z"⟩
def dkwX5_isPromise_0 : List UInt8 := [27, 3, 42, 180, 0, 143, 4, 100, 184, 0, 136, 172]
abbrev dktX5_isPromise_0 : List UInt8 := dkwX5_isPromise_0 ++ []
theorem dksX5_isPromise_0 : cX5_isPromise.data.toList.drop 0 = dktX5_isPromise_0 := by decide +kernel
theorem dX5_isPromise_0 : decode cX5_isPromise 0 = .ok (.iload_n 1, 1) := dk_27 (dk_at dksX5_isPromise_0 0 rfl rfl)
theorem dX5_isPromise_1 : decode cX5_isPromise 1 = .ok (.iconst 0, 1) := dk_3 (dk_at dksX5_isPromise_0 1 rfl rfl)
theorem dX5_isPromise_2 : decode cX5_isPromise 2 = .ok (.aload_n 0, 1) := dk_42 (dk_at dksX5_isPromise_0 2 rfl rfl)
theorem dX5_isPromise_3 : decode cX5_isPromise 3 = .ok (.getfield 143, 3) := dk_180 0 143 (dk_at dksX5_isPromise_0 3 rfl rfl)
theorem dX5_isPromise_6 : decode cX5_isPromise 6 = .ok (.iconst 1, 1) := dk_4 (dk_at dksX5_isPromise_0 6 rfl rfl)
theorem dX5_isPromise_7 : decode cX5_isPromise 7 = .ok (.isub, 1) := dk_100 (dk_at dksX5_isPromise_0 7 rfl rfl)
theorem dX5_isPromise_8 : decode cX5_isPromise 8 = .ok (.invokestatic 136, 3) := dk_184 0 136 (dk_at dksX5_isPromise_0 8 rfl rfl)
theorem dX5_isPromise_11 : decode cX5_isPromise 11 = .ok (.ireturn, 1) := dk_172 (dk_at dksX5_isPromise_0 11 rfl rfl)
abbrev cX5_mayHave : ByteArray := prog_25_method_20_code
def yX5_mayHave : MethodName := ⟨RX5, "mayHave", "(II)Z"⟩
def dkwX5_mayHave_3 : List UInt8 := [184, 0, 136, 172, 27, 3, 16, 99, 184, 0, 136, 172]
abbrev dktX5_mayHave_3 : List UInt8 := dkwX5_mayHave_3 ++ []
def dkwX5_mayHave_2 : List UInt8 := [27, 184, 0, 150, 172, 27, 3, 16, 9, 184, 0, 136, 172, 27, 3, 4, 184, 0, 136, 172, 27, 4, 16, 9]
abbrev dktX5_mayHave_2 : List UInt8 := dkwX5_mayHave_2 ++ dktX5_mayHave_3
def dkwX5_mayHave_1 : List UInt8 := [170, 0, 0, 0, 0, 0, 79, 0, 0, 0, 0, 0, 0, 0, 8, 0, 0, 0, 51, 0, 0, 0, 56, 0, 0, 0, 51, 0, 0, 0, 56, 0, 0, 0, 79, 0, 0, 0, 79, 0, 0, 0, 64, 0, 0, 0, 64, 0, 0, 0, 71]
abbrev dktX5_mayHave_1 : List UInt8 := dkwX5_mayHave_1 ++ dktX5_mayHave_2
def dkwX5_mayHave_0 : List UInt8 := [26]
abbrev dktX5_mayHave_0 : List UInt8 := dkwX5_mayHave_0 ++ dktX5_mayHave_1
theorem dksX5_mayHave_0 : cX5_mayHave.data.toList.drop 0 = dktX5_mayHave_0 := by decide +kernel
theorem dksX5_mayHave_1 : cX5_mayHave.data.toList.drop 1 = dktX5_mayHave_1 := dk_seg dksX5_mayHave_0 1 rfl rfl
theorem dksX5_mayHave_2 : cX5_mayHave.data.toList.drop 52 = dktX5_mayHave_2 := dk_seg dksX5_mayHave_1 51 rfl rfl
theorem dksX5_mayHave_3 : cX5_mayHave.data.toList.drop 76 = dktX5_mayHave_3 := dk_seg dksX5_mayHave_2 24 rfl rfl
theorem dX5_mayHave_0 : decode cX5_mayHave 0 = .ok (.iload_n 0, 1) := dk_26 (dk_at dksX5_mayHave_0 0 rfl rfl)
theorem dX5_mayHave_1 : decode cX5_mayHave 1 = .ok (.tableswitch 79 0 8 #[51, 56, 51, 56, 79, 79, 64, 64, 71], 51) := by decide +kernel
theorem dX5_mayHave_52 : decode cX5_mayHave 52 = .ok (.iload_n 1, 1) := dk_27 (dk_at dksX5_mayHave_2 0 rfl rfl)
theorem dX5_mayHave_53 : decode cX5_mayHave 53 = .ok (.invokestatic 150, 3) := dk_184 0 150 (dk_at dksX5_mayHave_2 1 rfl rfl)
theorem dX5_mayHave_56 : decode cX5_mayHave 56 = .ok (.ireturn, 1) := dk_172 (dk_at dksX5_mayHave_2 4 rfl rfl)
theorem dX5_mayHave_57 : decode cX5_mayHave 57 = .ok (.iload_n 1, 1) := dk_27 (dk_at dksX5_mayHave_2 5 rfl rfl)
theorem dX5_mayHave_58 : decode cX5_mayHave 58 = .ok (.iconst 0, 1) := dk_3 (dk_at dksX5_mayHave_2 6 rfl rfl)
theorem dX5_mayHave_59 : decode cX5_mayHave 59 = .ok (.bipush 9, 2) := dk_16 9 (dk_at dksX5_mayHave_2 7 rfl rfl)
theorem dX5_mayHave_61 : decode cX5_mayHave 61 = .ok (.invokestatic 136, 3) := dk_184 0 136 (dk_at dksX5_mayHave_2 9 rfl rfl)
theorem dX5_mayHave_64 : decode cX5_mayHave 64 = .ok (.ireturn, 1) := dk_172 (dk_at dksX5_mayHave_2 12 rfl rfl)
theorem dX5_mayHave_65 : decode cX5_mayHave 65 = .ok (.iload_n 1, 1) := dk_27 (dk_at dksX5_mayHave_2 13 rfl rfl)
theorem dX5_mayHave_66 : decode cX5_mayHave 66 = .ok (.iconst 0, 1) := dk_3 (dk_at dksX5_mayHave_2 14 rfl rfl)
theorem dX5_mayHave_67 : decode cX5_mayHave 67 = .ok (.iconst 1, 1) := dk_4 (dk_at dksX5_mayHave_2 15 rfl rfl)
theorem dX5_mayHave_68 : decode cX5_mayHave 68 = .ok (.invokestatic 136, 3) := dk_184 0 136 (dk_at dksX5_mayHave_2 16 rfl rfl)
theorem dX5_mayHave_71 : decode cX5_mayHave 71 = .ok (.ireturn, 1) := dk_172 (dk_at dksX5_mayHave_2 19 rfl rfl)
theorem dX5_mayHave_72 : decode cX5_mayHave 72 = .ok (.iload_n 1, 1) := dk_27 (dk_at dksX5_mayHave_2 20 rfl rfl)
theorem dX5_mayHave_73 : decode cX5_mayHave 73 = .ok (.iconst 1, 1) := dk_4 (dk_at dksX5_mayHave_2 21 rfl rfl)
theorem dX5_mayHave_74 : decode cX5_mayHave 74 = .ok (.bipush 9, 2) := dk_16 9 (dk_at dksX5_mayHave_2 22 rfl rfl)
theorem dX5_mayHave_76 : decode cX5_mayHave 76 = .ok (.invokestatic 136, 3) := dk_184 0 136 (dk_at dksX5_mayHave_3 0 rfl rfl)
theorem dX5_mayHave_79 : decode cX5_mayHave 79 = .ok (.ireturn, 1) := dk_172 (dk_at dksX5_mayHave_3 3 rfl rfl)
theorem dX5_mayHave_80 : decode cX5_mayHave 80 = .ok (.iload_n 1, 1) := dk_27 (dk_at dksX5_mayHave_3 4 rfl rfl)
theorem dX5_mayHave_81 : decode cX5_mayHave 81 = .ok (.iconst 0, 1) := dk_3 (dk_at dksX5_mayHave_3 5 rfl rfl)
theorem dX5_mayHave_82 : decode cX5_mayHave 82 = .ok (.bipush 99, 2) := dk_16 99 (dk_at dksX5_mayHave_3 6 rfl rfl)
theorem dX5_mayHave_84 : decode cX5_mayHave 84 = .ok (.invokestatic 136, 3) := dk_184 0 136 (dk_at dksX5_mayHave_3 8 rfl rfl)
theorem dX5_mayHave_87 : decode cX5_mayHave 87 = .ok (.ireturn, 1) := dk_172 (dk_at dksX5_mayHave_3 11 rfl rfl)
abbrev cX5_changes : ByteArray := prog_25_method_16_code
def yX5_changes : MethodName := ⟨RX5, "changes", "(III)I"⟩
def dkwX5_changes_7 : List UInt8 := [180, 0, 176, 4, 96, 181, 0, 176, 42, 27, 28, 29, 182, 0, 179, 21, 4, 172]
abbrev dktX5_changes_7 : List UInt8 := dkwX5_changes_7 ++ []
def dkwX5_changes_6 : List UInt8 := [180, 0, 55, 42, 180, 0, 176, 21, 4, 79, 42, 180, 0, 58, 42, 180, 0, 176, 29, 79, 42, 89]
abbrev dktX5_changes_6 : List UInt8 := dkwX5_changes_6 ++ dktX5_changes_7
def dkwX5_changes_5 : List UInt8 := [181, 0, 176, 42, 180, 0, 49, 42, 180, 0, 176, 27, 79, 42, 180, 0, 52, 42, 180, 0, 176, 28, 79, 42]
abbrev dktX5_changes_5 : List UInt8 := dkwX5_changes_5 ++ dktX5_changes_6
def dkwX5_changes_4 : List UInt8 := [4, 100, 42, 180, 0, 58, 21, 5, 46, 79, 132, 5, 1, 167, 255, 182, 42, 89, 180, 0, 176, 4, 100]
abbrev dktX5_changes_4 : List UInt8 := dkwX5_changes_4 ++ dktX5_changes_5
def dkwX5_changes_3 : List UInt8 := [46, 79, 42, 180, 0, 55, 21, 5, 4, 100, 42, 180, 0, 55, 21, 5, 46, 79, 42, 180, 0, 58, 21, 5]
abbrev dktX5_changes_3 : List UInt8 := dkwX5_changes_3 ++ dktX5_changes_4
def dkwX5_changes_2 : List UInt8 := [4, 100, 42, 180, 0, 49, 21, 5, 46, 79, 42, 180, 0, 52, 21, 5, 4, 100, 42, 180, 0, 52, 21, 5]
abbrev dktX5_changes_2 : List UInt8 := dkwX5_changes_2 ++ dktX5_changes_3
def dkwX5_changes_1 : List UInt8 := [180, 0, 176, 16, 40, 160, 0, 93, 4, 54, 5, 21, 5, 16, 40, 162, 0, 73, 42, 180, 0, 49, 21, 5]
abbrev dktX5_changes_1 : List UInt8 := dkwX5_changes_1 ++ dktX5_changes_2
def dkwX5_changes_0 : List UInt8 := [42, 27, 28, 182, 0, 169, 54, 4, 21, 4, 29, 160, 0, 6, 21, 4, 172, 42, 3, 181, 0, 173, 42]
abbrev dktX5_changes_0 : List UInt8 := dkwX5_changes_0 ++ dktX5_changes_1
theorem dksX5_changes_0 : cX5_changes.data.toList.drop 0 = dktX5_changes_0 := by decide +kernel
theorem dksX5_changes_1 : cX5_changes.data.toList.drop 23 = dktX5_changes_1 := dk_seg dksX5_changes_0 23 rfl rfl
theorem dksX5_changes_2 : cX5_changes.data.toList.drop 47 = dktX5_changes_2 := dk_seg dksX5_changes_1 24 rfl rfl
theorem dksX5_changes_3 : cX5_changes.data.toList.drop 71 = dktX5_changes_3 := dk_seg dksX5_changes_2 24 rfl rfl
theorem dksX5_changes_4 : cX5_changes.data.toList.drop 95 = dktX5_changes_4 := dk_seg dksX5_changes_3 24 rfl rfl
theorem dksX5_changes_5 : cX5_changes.data.toList.drop 118 = dktX5_changes_5 := dk_seg dksX5_changes_4 23 rfl rfl
theorem dksX5_changes_6 : cX5_changes.data.toList.drop 142 = dktX5_changes_6 := dk_seg dksX5_changes_5 24 rfl rfl
theorem dksX5_changes_7 : cX5_changes.data.toList.drop 164 = dktX5_changes_7 := dk_seg dksX5_changes_6 22 rfl rfl
theorem dX5_changes_0 : decode cX5_changes 0 = .ok (.aload_n 0, 1) := dk_42 (dk_at dksX5_changes_0 0 rfl rfl)
theorem dX5_changes_1 : decode cX5_changes 1 = .ok (.iload_n 1, 1) := dk_27 (dk_at dksX5_changes_0 1 rfl rfl)
theorem dX5_changes_2 : decode cX5_changes 2 = .ok (.iload_n 2, 1) := dk_28 (dk_at dksX5_changes_0 2 rfl rfl)
theorem dX5_changes_3 : decode cX5_changes 3 = .ok (.invokevirtual 169, 3) := dk_182 0 169 (dk_at dksX5_changes_0 3 rfl rfl)
theorem dX5_changes_6 : decode cX5_changes 6 = .ok (.istore 4, 2) := dk_54 4 (dk_at dksX5_changes_0 6 rfl rfl)
theorem dX5_changes_8 : decode cX5_changes 8 = .ok (.iload 4, 2) := dk_21 4 (dk_at dksX5_changes_0 8 rfl rfl)
theorem dX5_changes_10 : decode cX5_changes 10 = .ok (.iload_n 3, 1) := dk_29 (dk_at dksX5_changes_0 10 rfl rfl)
theorem dX5_changes_11 : decode cX5_changes 11 = .ok (.if_icmp .ne 6, 3) := dk_160 0 6 (dk_at dksX5_changes_0 11 rfl rfl)
theorem dX5_changes_14 : decode cX5_changes 14 = .ok (.iload 4, 2) := dk_21 4 (dk_at dksX5_changes_0 14 rfl rfl)
theorem dX5_changes_16 : decode cX5_changes 16 = .ok (.ireturn, 1) := dk_172 (dk_at dksX5_changes_0 16 rfl rfl)
theorem dX5_changes_17 : decode cX5_changes 17 = .ok (.aload_n 0, 1) := dk_42 (dk_at dksX5_changes_0 17 rfl rfl)
theorem dX5_changes_18 : decode cX5_changes 18 = .ok (.iconst 0, 1) := dk_3 (dk_at dksX5_changes_0 18 rfl rfl)
theorem dX5_changes_19 : decode cX5_changes 19 = .ok (.putfield 173, 3) := dk_181 0 173 (dk_at dksX5_changes_0 19 rfl rfl)
theorem dX5_changes_22 : decode cX5_changes 22 = .ok (.aload_n 0, 1) := dk_42 (dk_at dksX5_changes_0 22 rfl rfl)
theorem dX5_changes_23 : decode cX5_changes 23 = .ok (.getfield 176, 3) := dk_180 0 176 (dk_at dksX5_changes_1 0 rfl rfl)
theorem dX5_changes_26 : decode cX5_changes 26 = .ok (.bipush 40, 2) := dk_16 40 (dk_at dksX5_changes_1 3 rfl rfl)
theorem dX5_changes_28 : decode cX5_changes 28 = .ok (.if_icmp .ne 93, 3) := dk_160 0 93 (dk_at dksX5_changes_1 5 rfl rfl)
theorem dX5_changes_31 : decode cX5_changes 31 = .ok (.iconst 1, 1) := dk_4 (dk_at dksX5_changes_1 8 rfl rfl)
theorem dX5_changes_32 : decode cX5_changes 32 = .ok (.istore 5, 2) := dk_54 5 (dk_at dksX5_changes_1 9 rfl rfl)
theorem dX5_changes_34 : decode cX5_changes 34 = .ok (.iload 5, 2) := dk_21 5 (dk_at dksX5_changes_1 11 rfl rfl)
theorem dX5_changes_36 : decode cX5_changes 36 = .ok (.bipush 40, 2) := dk_16 40 (dk_at dksX5_changes_1 13 rfl rfl)
theorem dX5_changes_38 : decode cX5_changes 38 = .ok (.if_icmp .ge 73, 3) := dk_162 0 73 (dk_at dksX5_changes_1 15 rfl rfl)
theorem dX5_changes_41 : decode cX5_changes 41 = .ok (.aload_n 0, 1) := dk_42 (dk_at dksX5_changes_1 18 rfl rfl)
theorem dX5_changes_42 : decode cX5_changes 42 = .ok (.getfield 49, 3) := dk_180 0 49 (dk_at dksX5_changes_1 19 rfl rfl)
theorem dX5_changes_45 : decode cX5_changes 45 = .ok (.iload 5, 2) := dk_21 5 (dk_at dksX5_changes_1 22 rfl rfl)
theorem dX5_changes_47 : decode cX5_changes 47 = .ok (.iconst 1, 1) := dk_4 (dk_at dksX5_changes_2 0 rfl rfl)
theorem dX5_changes_48 : decode cX5_changes 48 = .ok (.isub, 1) := dk_100 (dk_at dksX5_changes_2 1 rfl rfl)
theorem dX5_changes_49 : decode cX5_changes 49 = .ok (.aload_n 0, 1) := dk_42 (dk_at dksX5_changes_2 2 rfl rfl)
theorem dX5_changes_50 : decode cX5_changes 50 = .ok (.getfield 49, 3) := dk_180 0 49 (dk_at dksX5_changes_2 3 rfl rfl)
theorem dX5_changes_53 : decode cX5_changes 53 = .ok (.iload 5, 2) := dk_21 5 (dk_at dksX5_changes_2 6 rfl rfl)
theorem dX5_changes_55 : decode cX5_changes 55 = .ok (.iaload, 1) := dk_46 (dk_at dksX5_changes_2 8 rfl rfl)
theorem dX5_changes_56 : decode cX5_changes 56 = .ok (.iastore, 1) := dk_79 (dk_at dksX5_changes_2 9 rfl rfl)
theorem dX5_changes_57 : decode cX5_changes 57 = .ok (.aload_n 0, 1) := dk_42 (dk_at dksX5_changes_2 10 rfl rfl)
theorem dX5_changes_58 : decode cX5_changes 58 = .ok (.getfield 52, 3) := dk_180 0 52 (dk_at dksX5_changes_2 11 rfl rfl)
theorem dX5_changes_61 : decode cX5_changes 61 = .ok (.iload 5, 2) := dk_21 5 (dk_at dksX5_changes_2 14 rfl rfl)
theorem dX5_changes_63 : decode cX5_changes 63 = .ok (.iconst 1, 1) := dk_4 (dk_at dksX5_changes_2 16 rfl rfl)
theorem dX5_changes_64 : decode cX5_changes 64 = .ok (.isub, 1) := dk_100 (dk_at dksX5_changes_2 17 rfl rfl)
theorem dX5_changes_65 : decode cX5_changes 65 = .ok (.aload_n 0, 1) := dk_42 (dk_at dksX5_changes_2 18 rfl rfl)
theorem dX5_changes_66 : decode cX5_changes 66 = .ok (.getfield 52, 3) := dk_180 0 52 (dk_at dksX5_changes_2 19 rfl rfl)
theorem dX5_changes_69 : decode cX5_changes 69 = .ok (.iload 5, 2) := dk_21 5 (dk_at dksX5_changes_2 22 rfl rfl)
theorem dX5_changes_71 : decode cX5_changes 71 = .ok (.iaload, 1) := dk_46 (dk_at dksX5_changes_3 0 rfl rfl)
theorem dX5_changes_72 : decode cX5_changes 72 = .ok (.iastore, 1) := dk_79 (dk_at dksX5_changes_3 1 rfl rfl)
theorem dX5_changes_73 : decode cX5_changes 73 = .ok (.aload_n 0, 1) := dk_42 (dk_at dksX5_changes_3 2 rfl rfl)
theorem dX5_changes_74 : decode cX5_changes 74 = .ok (.getfield 55, 3) := dk_180 0 55 (dk_at dksX5_changes_3 3 rfl rfl)
theorem dX5_changes_77 : decode cX5_changes 77 = .ok (.iload 5, 2) := dk_21 5 (dk_at dksX5_changes_3 6 rfl rfl)
theorem dX5_changes_79 : decode cX5_changes 79 = .ok (.iconst 1, 1) := dk_4 (dk_at dksX5_changes_3 8 rfl rfl)
theorem dX5_changes_80 : decode cX5_changes 80 = .ok (.isub, 1) := dk_100 (dk_at dksX5_changes_3 9 rfl rfl)
theorem dX5_changes_81 : decode cX5_changes 81 = .ok (.aload_n 0, 1) := dk_42 (dk_at dksX5_changes_3 10 rfl rfl)
theorem dX5_changes_82 : decode cX5_changes 82 = .ok (.getfield 55, 3) := dk_180 0 55 (dk_at dksX5_changes_3 11 rfl rfl)
theorem dX5_changes_85 : decode cX5_changes 85 = .ok (.iload 5, 2) := dk_21 5 (dk_at dksX5_changes_3 14 rfl rfl)
theorem dX5_changes_87 : decode cX5_changes 87 = .ok (.iaload, 1) := dk_46 (dk_at dksX5_changes_3 16 rfl rfl)
theorem dX5_changes_88 : decode cX5_changes 88 = .ok (.iastore, 1) := dk_79 (dk_at dksX5_changes_3 17 rfl rfl)
theorem dX5_changes_89 : decode cX5_changes 89 = .ok (.aload_n 0, 1) := dk_42 (dk_at dksX5_changes_3 18 rfl rfl)
theorem dX5_changes_90 : decode cX5_changes 90 = .ok (.getfield 58, 3) := dk_180 0 58 (dk_at dksX5_changes_3 19 rfl rfl)
theorem dX5_changes_93 : decode cX5_changes 93 = .ok (.iload 5, 2) := dk_21 5 (dk_at dksX5_changes_3 22 rfl rfl)
theorem dX5_changes_95 : decode cX5_changes 95 = .ok (.iconst 1, 1) := dk_4 (dk_at dksX5_changes_4 0 rfl rfl)
theorem dX5_changes_96 : decode cX5_changes 96 = .ok (.isub, 1) := dk_100 (dk_at dksX5_changes_4 1 rfl rfl)
theorem dX5_changes_97 : decode cX5_changes 97 = .ok (.aload_n 0, 1) := dk_42 (dk_at dksX5_changes_4 2 rfl rfl)
theorem dX5_changes_98 : decode cX5_changes 98 = .ok (.getfield 58, 3) := dk_180 0 58 (dk_at dksX5_changes_4 3 rfl rfl)
theorem dX5_changes_101 : decode cX5_changes 101 = .ok (.iload 5, 2) := dk_21 5 (dk_at dksX5_changes_4 6 rfl rfl)
theorem dX5_changes_103 : decode cX5_changes 103 = .ok (.iaload, 1) := dk_46 (dk_at dksX5_changes_4 8 rfl rfl)
theorem dX5_changes_104 : decode cX5_changes 104 = .ok (.iastore, 1) := dk_79 (dk_at dksX5_changes_4 9 rfl rfl)
theorem dX5_changes_105 : decode cX5_changes 105 = .ok (.iinc 5 1, 3) := dk_132 5 1 (dk_at dksX5_changes_4 10 rfl rfl)
theorem dX5_changes_108 : decode cX5_changes 108 = .ok (.goto (-74), 3) := dk_167 255 182 (dk_at dksX5_changes_4 13 rfl rfl)
theorem dX5_changes_111 : decode cX5_changes 111 = .ok (.aload_n 0, 1) := dk_42 (dk_at dksX5_changes_4 16 rfl rfl)
theorem dX5_changes_112 : decode cX5_changes 112 = .ok (.dup, 1) := dk_89 (dk_at dksX5_changes_4 17 rfl rfl)
theorem dX5_changes_113 : decode cX5_changes 113 = .ok (.getfield 176, 3) := dk_180 0 176 (dk_at dksX5_changes_4 18 rfl rfl)
theorem dX5_changes_116 : decode cX5_changes 116 = .ok (.iconst 1, 1) := dk_4 (dk_at dksX5_changes_4 21 rfl rfl)
theorem dX5_changes_117 : decode cX5_changes 117 = .ok (.isub, 1) := dk_100 (dk_at dksX5_changes_4 22 rfl rfl)
theorem dX5_changes_118 : decode cX5_changes 118 = .ok (.putfield 176, 3) := dk_181 0 176 (dk_at dksX5_changes_5 0 rfl rfl)
theorem dX5_changes_121 : decode cX5_changes 121 = .ok (.aload_n 0, 1) := dk_42 (dk_at dksX5_changes_5 3 rfl rfl)
theorem dX5_changes_122 : decode cX5_changes 122 = .ok (.getfield 49, 3) := dk_180 0 49 (dk_at dksX5_changes_5 4 rfl rfl)
theorem dX5_changes_125 : decode cX5_changes 125 = .ok (.aload_n 0, 1) := dk_42 (dk_at dksX5_changes_5 7 rfl rfl)
theorem dX5_changes_126 : decode cX5_changes 126 = .ok (.getfield 176, 3) := dk_180 0 176 (dk_at dksX5_changes_5 8 rfl rfl)
theorem dX5_changes_129 : decode cX5_changes 129 = .ok (.iload_n 1, 1) := dk_27 (dk_at dksX5_changes_5 11 rfl rfl)
theorem dX5_changes_130 : decode cX5_changes 130 = .ok (.iastore, 1) := dk_79 (dk_at dksX5_changes_5 12 rfl rfl)
theorem dX5_changes_131 : decode cX5_changes 131 = .ok (.aload_n 0, 1) := dk_42 (dk_at dksX5_changes_5 13 rfl rfl)
theorem dX5_changes_132 : decode cX5_changes 132 = .ok (.getfield 52, 3) := dk_180 0 52 (dk_at dksX5_changes_5 14 rfl rfl)
theorem dX5_changes_135 : decode cX5_changes 135 = .ok (.aload_n 0, 1) := dk_42 (dk_at dksX5_changes_5 17 rfl rfl)
theorem dX5_changes_136 : decode cX5_changes 136 = .ok (.getfield 176, 3) := dk_180 0 176 (dk_at dksX5_changes_5 18 rfl rfl)
theorem dX5_changes_139 : decode cX5_changes 139 = .ok (.iload_n 2, 1) := dk_28 (dk_at dksX5_changes_5 21 rfl rfl)
theorem dX5_changes_140 : decode cX5_changes 140 = .ok (.iastore, 1) := dk_79 (dk_at dksX5_changes_5 22 rfl rfl)
theorem dX5_changes_141 : decode cX5_changes 141 = .ok (.aload_n 0, 1) := dk_42 (dk_at dksX5_changes_5 23 rfl rfl)
theorem dX5_changes_142 : decode cX5_changes 142 = .ok (.getfield 55, 3) := dk_180 0 55 (dk_at dksX5_changes_6 0 rfl rfl)
theorem dX5_changes_145 : decode cX5_changes 145 = .ok (.aload_n 0, 1) := dk_42 (dk_at dksX5_changes_6 3 rfl rfl)
theorem dX5_changes_146 : decode cX5_changes 146 = .ok (.getfield 176, 3) := dk_180 0 176 (dk_at dksX5_changes_6 4 rfl rfl)
theorem dX5_changes_149 : decode cX5_changes 149 = .ok (.iload 4, 2) := dk_21 4 (dk_at dksX5_changes_6 7 rfl rfl)
theorem dX5_changes_151 : decode cX5_changes 151 = .ok (.iastore, 1) := dk_79 (dk_at dksX5_changes_6 9 rfl rfl)
theorem dX5_changes_152 : decode cX5_changes 152 = .ok (.aload_n 0, 1) := dk_42 (dk_at dksX5_changes_6 10 rfl rfl)
theorem dX5_changes_153 : decode cX5_changes 153 = .ok (.getfield 58, 3) := dk_180 0 58 (dk_at dksX5_changes_6 11 rfl rfl)
theorem dX5_changes_156 : decode cX5_changes 156 = .ok (.aload_n 0, 1) := dk_42 (dk_at dksX5_changes_6 14 rfl rfl)
theorem dX5_changes_157 : decode cX5_changes 157 = .ok (.getfield 176, 3) := dk_180 0 176 (dk_at dksX5_changes_6 15 rfl rfl)
theorem dX5_changes_160 : decode cX5_changes 160 = .ok (.iload_n 3, 1) := dk_29 (dk_at dksX5_changes_6 18 rfl rfl)
theorem dX5_changes_161 : decode cX5_changes 161 = .ok (.iastore, 1) := dk_79 (dk_at dksX5_changes_6 19 rfl rfl)
theorem dX5_changes_162 : decode cX5_changes 162 = .ok (.aload_n 0, 1) := dk_42 (dk_at dksX5_changes_6 20 rfl rfl)
theorem dX5_changes_163 : decode cX5_changes 163 = .ok (.dup, 1) := dk_89 (dk_at dksX5_changes_6 21 rfl rfl)
theorem dX5_changes_164 : decode cX5_changes 164 = .ok (.getfield 176, 3) := dk_180 0 176 (dk_at dksX5_changes_7 0 rfl rfl)
theorem dX5_changes_167 : decode cX5_changes 167 = .ok (.iconst 1, 1) := dk_4 (dk_at dksX5_changes_7 3 rfl rfl)
theorem dX5_changes_168 : decode cX5_changes 168 = .ok (.iadd, 1) := dk_96 (dk_at dksX5_changes_7 4 rfl rfl)
theorem dX5_changes_169 : decode cX5_changes 169 = .ok (.putfield 176, 3) := dk_181 0 176 (dk_at dksX5_changes_7 5 rfl rfl)
theorem dX5_changes_172 : decode cX5_changes 172 = .ok (.aload_n 0, 1) := dk_42 (dk_at dksX5_changes_7 8 rfl rfl)
theorem dX5_changes_173 : decode cX5_changes 173 = .ok (.iload_n 1, 1) := dk_27 (dk_at dksX5_changes_7 9 rfl rfl)
theorem dX5_changes_174 : decode cX5_changes 174 = .ok (.iload_n 2, 1) := dk_28 (dk_at dksX5_changes_7 10 rfl rfl)
theorem dX5_changes_175 : decode cX5_changes 175 = .ok (.iload_n 3, 1) := dk_29 (dk_at dksX5_changes_7 11 rfl rfl)
theorem dX5_changes_176 : decode cX5_changes 176 = .ok (.invokevirtual 179, 3) := dk_182 0 179 (dk_at dksX5_changes_7 12 rfl rfl)
theorem dX5_changes_179 : decode cX5_changes 179 = .ok (.iload 4, 2) := dk_21 4 (dk_at dksX5_changes_7 15 rfl rfl)
theorem dX5_changes_181 : decode cX5_changes 181 = .ok (.ireturn, 1) := dk_172 (dk_at dksX5_changes_7 17 rfl rfl)
abbrev cX5_valueAt : ByteArray := prog_25_method_14_code
def yX5_valueAt : MethodName := ⟨RX5, "valueAt", "(II)I"⟩
def dkwX5_valueAt_4 : List UInt8 := [28, 46, 172, 42, 180, 0, 39, 28, 46, 172, 42, 180, 0, 42, 172, 42, 180, 0, 153, 172]
abbrev dktX5_valueAt_4 : List UInt8 := dkwX5_valueAt_4 ++ []
def dkwX5_valueAt_3 : List UInt8 := [180, 0, 27, 28, 46, 172, 42, 180, 0, 30, 28, 46, 172, 42, 180, 0, 33, 28, 46, 172, 42, 180, 0, 36]
abbrev dktX5_valueAt_3 : List UInt8 := dkwX5_valueAt_3 ++ dktX5_valueAt_4
def dkwX5_valueAt_2 : List UInt8 := [42, 180, 0, 9, 28, 46, 172, 42, 180, 0, 15, 28, 46, 172, 42, 180, 0, 24, 28, 46, 172, 42]
abbrev dktX5_valueAt_2 : List UInt8 := dkwX5_valueAt_2 ++ dktX5_valueAt_3
def dkwX5_valueAt_1 : List UInt8 := [170, 0, 0, 0, 0, 0, 112, 0, 0, 0, 0, 0, 0, 0, 8, 0, 0, 0, 51, 0, 0, 0, 58, 0, 0, 0, 65, 0, 0, 0, 72, 0, 0, 0, 79, 0, 0, 0, 86, 0, 0, 0, 93, 0, 0, 0, 100, 0, 0, 0, 107]
abbrev dktX5_valueAt_1 : List UInt8 := dkwX5_valueAt_1 ++ dktX5_valueAt_2
def dkwX5_valueAt_0 : List UInt8 := [27]
abbrev dktX5_valueAt_0 : List UInt8 := dkwX5_valueAt_0 ++ dktX5_valueAt_1
theorem dksX5_valueAt_0 : cX5_valueAt.data.toList.drop 0 = dktX5_valueAt_0 := by decide +kernel
theorem dksX5_valueAt_1 : cX5_valueAt.data.toList.drop 1 = dktX5_valueAt_1 := dk_seg dksX5_valueAt_0 1 rfl rfl
theorem dksX5_valueAt_2 : cX5_valueAt.data.toList.drop 52 = dktX5_valueAt_2 := dk_seg dksX5_valueAt_1 51 rfl rfl
theorem dksX5_valueAt_3 : cX5_valueAt.data.toList.drop 74 = dktX5_valueAt_3 := dk_seg dksX5_valueAt_2 22 rfl rfl
theorem dksX5_valueAt_4 : cX5_valueAt.data.toList.drop 98 = dktX5_valueAt_4 := dk_seg dksX5_valueAt_3 24 rfl rfl
theorem dX5_valueAt_0 : decode cX5_valueAt 0 = .ok (.iload_n 1, 1) := dk_27 (dk_at dksX5_valueAt_0 0 rfl rfl)
theorem dX5_valueAt_1 : decode cX5_valueAt 1 = .ok (.tableswitch 112 0 8 #[51, 58, 65, 72, 79, 86, 93, 100, 107], 51) := by decide +kernel
theorem dX5_valueAt_52 : decode cX5_valueAt 52 = .ok (.aload_n 0, 1) := dk_42 (dk_at dksX5_valueAt_2 0 rfl rfl)
theorem dX5_valueAt_53 : decode cX5_valueAt 53 = .ok (.getfield 9, 3) := dk_180 0 9 (dk_at dksX5_valueAt_2 1 rfl rfl)
theorem dX5_valueAt_56 : decode cX5_valueAt 56 = .ok (.iload_n 2, 1) := dk_28 (dk_at dksX5_valueAt_2 4 rfl rfl)
theorem dX5_valueAt_57 : decode cX5_valueAt 57 = .ok (.iaload, 1) := dk_46 (dk_at dksX5_valueAt_2 5 rfl rfl)
theorem dX5_valueAt_58 : decode cX5_valueAt 58 = .ok (.ireturn, 1) := dk_172 (dk_at dksX5_valueAt_2 6 rfl rfl)
theorem dX5_valueAt_59 : decode cX5_valueAt 59 = .ok (.aload_n 0, 1) := dk_42 (dk_at dksX5_valueAt_2 7 rfl rfl)
theorem dX5_valueAt_60 : decode cX5_valueAt 60 = .ok (.getfield 15, 3) := dk_180 0 15 (dk_at dksX5_valueAt_2 8 rfl rfl)
theorem dX5_valueAt_63 : decode cX5_valueAt 63 = .ok (.iload_n 2, 1) := dk_28 (dk_at dksX5_valueAt_2 11 rfl rfl)
theorem dX5_valueAt_64 : decode cX5_valueAt 64 = .ok (.iaload, 1) := dk_46 (dk_at dksX5_valueAt_2 12 rfl rfl)
theorem dX5_valueAt_65 : decode cX5_valueAt 65 = .ok (.ireturn, 1) := dk_172 (dk_at dksX5_valueAt_2 13 rfl rfl)
theorem dX5_valueAt_66 : decode cX5_valueAt 66 = .ok (.aload_n 0, 1) := dk_42 (dk_at dksX5_valueAt_2 14 rfl rfl)
theorem dX5_valueAt_67 : decode cX5_valueAt 67 = .ok (.getfield 24, 3) := dk_180 0 24 (dk_at dksX5_valueAt_2 15 rfl rfl)
theorem dX5_valueAt_70 : decode cX5_valueAt 70 = .ok (.iload_n 2, 1) := dk_28 (dk_at dksX5_valueAt_2 18 rfl rfl)
theorem dX5_valueAt_71 : decode cX5_valueAt 71 = .ok (.iaload, 1) := dk_46 (dk_at dksX5_valueAt_2 19 rfl rfl)
theorem dX5_valueAt_72 : decode cX5_valueAt 72 = .ok (.ireturn, 1) := dk_172 (dk_at dksX5_valueAt_2 20 rfl rfl)
theorem dX5_valueAt_73 : decode cX5_valueAt 73 = .ok (.aload_n 0, 1) := dk_42 (dk_at dksX5_valueAt_2 21 rfl rfl)
theorem dX5_valueAt_74 : decode cX5_valueAt 74 = .ok (.getfield 27, 3) := dk_180 0 27 (dk_at dksX5_valueAt_3 0 rfl rfl)
theorem dX5_valueAt_77 : decode cX5_valueAt 77 = .ok (.iload_n 2, 1) := dk_28 (dk_at dksX5_valueAt_3 3 rfl rfl)
theorem dX5_valueAt_78 : decode cX5_valueAt 78 = .ok (.iaload, 1) := dk_46 (dk_at dksX5_valueAt_3 4 rfl rfl)
theorem dX5_valueAt_79 : decode cX5_valueAt 79 = .ok (.ireturn, 1) := dk_172 (dk_at dksX5_valueAt_3 5 rfl rfl)
theorem dX5_valueAt_80 : decode cX5_valueAt 80 = .ok (.aload_n 0, 1) := dk_42 (dk_at dksX5_valueAt_3 6 rfl rfl)
theorem dX5_valueAt_81 : decode cX5_valueAt 81 = .ok (.getfield 30, 3) := dk_180 0 30 (dk_at dksX5_valueAt_3 7 rfl rfl)
theorem dX5_valueAt_84 : decode cX5_valueAt 84 = .ok (.iload_n 2, 1) := dk_28 (dk_at dksX5_valueAt_3 10 rfl rfl)
theorem dX5_valueAt_85 : decode cX5_valueAt 85 = .ok (.iaload, 1) := dk_46 (dk_at dksX5_valueAt_3 11 rfl rfl)
theorem dX5_valueAt_86 : decode cX5_valueAt 86 = .ok (.ireturn, 1) := dk_172 (dk_at dksX5_valueAt_3 12 rfl rfl)
theorem dX5_valueAt_87 : decode cX5_valueAt 87 = .ok (.aload_n 0, 1) := dk_42 (dk_at dksX5_valueAt_3 13 rfl rfl)
theorem dX5_valueAt_88 : decode cX5_valueAt 88 = .ok (.getfield 33, 3) := dk_180 0 33 (dk_at dksX5_valueAt_3 14 rfl rfl)
theorem dX5_valueAt_91 : decode cX5_valueAt 91 = .ok (.iload_n 2, 1) := dk_28 (dk_at dksX5_valueAt_3 17 rfl rfl)
theorem dX5_valueAt_92 : decode cX5_valueAt 92 = .ok (.iaload, 1) := dk_46 (dk_at dksX5_valueAt_3 18 rfl rfl)
theorem dX5_valueAt_93 : decode cX5_valueAt 93 = .ok (.ireturn, 1) := dk_172 (dk_at dksX5_valueAt_3 19 rfl rfl)
theorem dX5_valueAt_94 : decode cX5_valueAt 94 = .ok (.aload_n 0, 1) := dk_42 (dk_at dksX5_valueAt_3 20 rfl rfl)
theorem dX5_valueAt_95 : decode cX5_valueAt 95 = .ok (.getfield 36, 3) := dk_180 0 36 (dk_at dksX5_valueAt_3 21 rfl rfl)
theorem dX5_valueAt_98 : decode cX5_valueAt 98 = .ok (.iload_n 2, 1) := dk_28 (dk_at dksX5_valueAt_4 0 rfl rfl)
theorem dX5_valueAt_99 : decode cX5_valueAt 99 = .ok (.iaload, 1) := dk_46 (dk_at dksX5_valueAt_4 1 rfl rfl)
theorem dX5_valueAt_100 : decode cX5_valueAt 100 = .ok (.ireturn, 1) := dk_172 (dk_at dksX5_valueAt_4 2 rfl rfl)
theorem dX5_valueAt_101 : decode cX5_valueAt 101 = .ok (.aload_n 0, 1) := dk_42 (dk_at dksX5_valueAt_4 3 rfl rfl)
theorem dX5_valueAt_102 : decode cX5_valueAt 102 = .ok (.getfield 39, 3) := dk_180 0 39 (dk_at dksX5_valueAt_4 4 rfl rfl)
theorem dX5_valueAt_105 : decode cX5_valueAt 105 = .ok (.iload_n 2, 1) := dk_28 (dk_at dksX5_valueAt_4 7 rfl rfl)
theorem dX5_valueAt_106 : decode cX5_valueAt 106 = .ok (.iaload, 1) := dk_46 (dk_at dksX5_valueAt_4 8 rfl rfl)
theorem dX5_valueAt_107 : decode cX5_valueAt 107 = .ok (.ireturn, 1) := dk_172 (dk_at dksX5_valueAt_4 9 rfl rfl)
theorem dX5_valueAt_108 : decode cX5_valueAt 108 = .ok (.aload_n 0, 1) := dk_42 (dk_at dksX5_valueAt_4 10 rfl rfl)
theorem dX5_valueAt_109 : decode cX5_valueAt 109 = .ok (.getfield 42, 3) := dk_180 0 42 (dk_at dksX5_valueAt_4 11 rfl rfl)
theorem dX5_valueAt_112 : decode cX5_valueAt 112 = .ok (.ireturn, 1) := dk_172 (dk_at dksX5_valueAt_4 14 rfl rfl)
theorem dX5_valueAt_113 : decode cX5_valueAt 113 = .ok (.aload_n 0, 1) := dk_42 (dk_at dksX5_valueAt_4 15 rfl rfl)
theorem dX5_valueAt_114 : decode cX5_valueAt 114 = .ok (.getfield 153, 3) := dk_180 0 153 (dk_at dksX5_valueAt_4 16 rfl rfl)
theorem dX5_valueAt_117 : decode cX5_valueAt 117 = .ok (.ireturn, 1) := dk_172 (dk_at dksX5_valueAt_4 19 rfl rfl)
abbrev cX5_of : ByteArray := prog_25_method_22_code
def yX5_of : MethodName := ⟨RX5, "of", "(II)I"⟩
def dkwX5_of_2 : List UInt8 := [182, 0, 186, 153, 0, 12, 42, 28, 27, 182, 0, 169, 167, 0, 4, 2, 172]
abbrev dktX5_of_2 : List UInt8 := dkwX5_of_2 ++ []
def dkwX5_of_1 : List UInt8 := [16, 10, 160, 0, 12, 42, 180, 0, 18, 27, 46, 167, 0, 9, 42, 180, 0, 21, 27, 46, 172, 42, 27, 28]
abbrev dktX5_of_1 : List UInt8 := dkwX5_of_1 ++ dktX5_of_2
def dkwX5_of_0 : List UInt8 := [28, 16, 10, 16, 11, 184, 0, 136, 153, 0, 37, 42, 27, 182, 0, 183, 154, 0, 7, 2, 167, 0, 24, 28]
abbrev dktX5_of_0 : List UInt8 := dkwX5_of_0 ++ dktX5_of_1
theorem dksX5_of_0 : cX5_of.data.toList.drop 0 = dktX5_of_0 := by decide +kernel
theorem dksX5_of_1 : cX5_of.data.toList.drop 24 = dktX5_of_1 := dk_seg dksX5_of_0 24 rfl rfl
theorem dksX5_of_2 : cX5_of.data.toList.drop 48 = dktX5_of_2 := dk_seg dksX5_of_1 24 rfl rfl
theorem dX5_of_0 : decode cX5_of 0 = .ok (.iload_n 2, 1) := dk_28 (dk_at dksX5_of_0 0 rfl rfl)
theorem dX5_of_1 : decode cX5_of 1 = .ok (.bipush 10, 2) := dk_16 10 (dk_at dksX5_of_0 1 rfl rfl)
theorem dX5_of_3 : decode cX5_of 3 = .ok (.bipush 11, 2) := dk_16 11 (dk_at dksX5_of_0 3 rfl rfl)
theorem dX5_of_5 : decode cX5_of 5 = .ok (.invokestatic 136, 3) := dk_184 0 136 (dk_at dksX5_of_0 5 rfl rfl)
theorem dX5_of_8 : decode cX5_of 8 = .ok (.ifCond .eq 37, 3) := dk_153 0 37 (dk_at dksX5_of_0 8 rfl rfl)
theorem dX5_of_11 : decode cX5_of 11 = .ok (.aload_n 0, 1) := dk_42 (dk_at dksX5_of_0 11 rfl rfl)
theorem dX5_of_12 : decode cX5_of 12 = .ok (.iload_n 1, 1) := dk_27 (dk_at dksX5_of_0 12 rfl rfl)
theorem dX5_of_13 : decode cX5_of 13 = .ok (.invokevirtual 183, 3) := dk_182 0 183 (dk_at dksX5_of_0 13 rfl rfl)
theorem dX5_of_16 : decode cX5_of 16 = .ok (.ifCond .ne 7, 3) := dk_154 0 7 (dk_at dksX5_of_0 16 rfl rfl)
theorem dX5_of_19 : decode cX5_of 19 = .ok (.iconst (-1), 1) := dk_2 (dk_at dksX5_of_0 19 rfl rfl)
theorem dX5_of_20 : decode cX5_of 20 = .ok (.goto 24, 3) := dk_167 0 24 (dk_at dksX5_of_0 20 rfl rfl)
theorem dX5_of_23 : decode cX5_of 23 = .ok (.iload_n 2, 1) := dk_28 (dk_at dksX5_of_0 23 rfl rfl)
theorem dX5_of_24 : decode cX5_of 24 = .ok (.bipush 10, 2) := dk_16 10 (dk_at dksX5_of_1 0 rfl rfl)
theorem dX5_of_26 : decode cX5_of 26 = .ok (.if_icmp .ne 12, 3) := dk_160 0 12 (dk_at dksX5_of_1 2 rfl rfl)
theorem dX5_of_29 : decode cX5_of 29 = .ok (.aload_n 0, 1) := dk_42 (dk_at dksX5_of_1 5 rfl rfl)
theorem dX5_of_30 : decode cX5_of 30 = .ok (.getfield 18, 3) := dk_180 0 18 (dk_at dksX5_of_1 6 rfl rfl)
theorem dX5_of_33 : decode cX5_of 33 = .ok (.iload_n 1, 1) := dk_27 (dk_at dksX5_of_1 9 rfl rfl)
theorem dX5_of_34 : decode cX5_of 34 = .ok (.iaload, 1) := dk_46 (dk_at dksX5_of_1 10 rfl rfl)
theorem dX5_of_35 : decode cX5_of 35 = .ok (.goto 9, 3) := dk_167 0 9 (dk_at dksX5_of_1 11 rfl rfl)
theorem dX5_of_38 : decode cX5_of 38 = .ok (.aload_n 0, 1) := dk_42 (dk_at dksX5_of_1 14 rfl rfl)
theorem dX5_of_39 : decode cX5_of 39 = .ok (.getfield 21, 3) := dk_180 0 21 (dk_at dksX5_of_1 15 rfl rfl)
theorem dX5_of_42 : decode cX5_of 42 = .ok (.iload_n 1, 1) := dk_27 (dk_at dksX5_of_1 18 rfl rfl)
theorem dX5_of_43 : decode cX5_of 43 = .ok (.iaload, 1) := dk_46 (dk_at dksX5_of_1 19 rfl rfl)
theorem dX5_of_44 : decode cX5_of 44 = .ok (.ireturn, 1) := dk_172 (dk_at dksX5_of_1 20 rfl rfl)
theorem dX5_of_45 : decode cX5_of 45 = .ok (.aload_n 0, 1) := dk_42 (dk_at dksX5_of_1 21 rfl rfl)
theorem dX5_of_46 : decode cX5_of 46 = .ok (.iload_n 1, 1) := dk_27 (dk_at dksX5_of_1 22 rfl rfl)
theorem dX5_of_47 : decode cX5_of 47 = .ok (.iload_n 2, 1) := dk_28 (dk_at dksX5_of_1 23 rfl rfl)
theorem dX5_of_48 : decode cX5_of 48 = .ok (.invokevirtual 186, 3) := dk_182 0 186 (dk_at dksX5_of_2 0 rfl rfl)
theorem dX5_of_51 : decode cX5_of 51 = .ok (.ifCond .eq 12, 3) := dk_153 0 12 (dk_at dksX5_of_2 3 rfl rfl)
theorem dX5_of_54 : decode cX5_of 54 = .ok (.aload_n 0, 1) := dk_42 (dk_at dksX5_of_2 6 rfl rfl)
theorem dX5_of_55 : decode cX5_of 55 = .ok (.iload_n 2, 1) := dk_28 (dk_at dksX5_of_2 7 rfl rfl)
theorem dX5_of_56 : decode cX5_of 56 = .ok (.iload_n 1, 1) := dk_27 (dk_at dksX5_of_2 8 rfl rfl)
theorem dX5_of_57 : decode cX5_of 57 = .ok (.invokevirtual 169, 3) := dk_182 0 169 (dk_at dksX5_of_2 9 rfl rfl)
theorem dX5_of_60 : decode cX5_of 60 = .ok (.goto 4, 3) := dk_167 0 4 (dk_at dksX5_of_2 12 rfl rfl)
theorem dX5_of_63 : decode cX5_of 63 = .ok (.iconst (-1), 1) := dk_2 (dk_at dksX5_of_2 15 rfl rfl)
theorem dX5_of_64 : decode cX5_of 64 = .ok (.ireturn, 1) := dk_172 (dk_at dksX5_of_2 16 rfl rfl)
abbrev cX5_feed : ByteArray := prog_25_method_23_code
def yX5_feed : MethodName := ⟨RX5, "feed", "(I)I"⟩
def dkwX5_feed_2 : List UInt8 := [180, 0, 196, 172]
abbrev dktX5_feed_2 : List UInt8 := dkwX5_feed_2 ++ []
def dkwX5_feed_1 : List UInt8 := [172, 42, 180, 0, 61, 42, 180, 0, 196, 27, 145, 84, 42, 89, 180, 0, 196, 4, 96, 181, 0, 196, 42]
abbrev dktX5_feed_1 : List UInt8 := dkwX5_feed_1 ++ dktX5_feed_2
def dkwX5_feed_0 : List UInt8 := [27, 3, 17, 0, 255, 184, 0, 136, 154, 0, 5, 2, 172, 42, 180, 0, 196, 16, 120, 160, 0, 6, 16, 253]
abbrev dktX5_feed_0 : List UInt8 := dkwX5_feed_0 ++ dktX5_feed_1
theorem dksX5_feed_0 : cX5_feed.data.toList.drop 0 = dktX5_feed_0 := by decide +kernel
theorem dksX5_feed_1 : cX5_feed.data.toList.drop 24 = dktX5_feed_1 := dk_seg dksX5_feed_0 24 rfl rfl
theorem dksX5_feed_2 : cX5_feed.data.toList.drop 47 = dktX5_feed_2 := dk_seg dksX5_feed_1 23 rfl rfl
theorem dX5_feed_0 : decode cX5_feed 0 = .ok (.iload_n 1, 1) := dk_27 (dk_at dksX5_feed_0 0 rfl rfl)
theorem dX5_feed_1 : decode cX5_feed 1 = .ok (.iconst 0, 1) := dk_3 (dk_at dksX5_feed_0 1 rfl rfl)
theorem dX5_feed_2 : decode cX5_feed 2 = .ok (.sipush 255, 3) := dk_17 0 255 (dk_at dksX5_feed_0 2 rfl rfl)
theorem dX5_feed_5 : decode cX5_feed 5 = .ok (.invokestatic 136, 3) := dk_184 0 136 (dk_at dksX5_feed_0 5 rfl rfl)
theorem dX5_feed_8 : decode cX5_feed 8 = .ok (.ifCond .ne 5, 3) := dk_154 0 5 (dk_at dksX5_feed_0 8 rfl rfl)
theorem dX5_feed_11 : decode cX5_feed 11 = .ok (.iconst (-1), 1) := dk_2 (dk_at dksX5_feed_0 11 rfl rfl)
theorem dX5_feed_12 : decode cX5_feed 12 = .ok (.ireturn, 1) := dk_172 (dk_at dksX5_feed_0 12 rfl rfl)
theorem dX5_feed_13 : decode cX5_feed 13 = .ok (.aload_n 0, 1) := dk_42 (dk_at dksX5_feed_0 13 rfl rfl)
theorem dX5_feed_14 : decode cX5_feed 14 = .ok (.getfield 196, 3) := dk_180 0 196 (dk_at dksX5_feed_0 14 rfl rfl)
theorem dX5_feed_17 : decode cX5_feed 17 = .ok (.bipush 120, 2) := dk_16 120 (dk_at dksX5_feed_0 17 rfl rfl)
theorem dX5_feed_19 : decode cX5_feed 19 = .ok (.if_icmp .ne 6, 3) := dk_160 0 6 (dk_at dksX5_feed_0 19 rfl rfl)
theorem dX5_feed_22 : decode cX5_feed 22 = .ok (.bipush (-3), 2) := dk_16 253 (dk_at dksX5_feed_0 22 rfl rfl)
theorem dX5_feed_24 : decode cX5_feed 24 = .ok (.ireturn, 1) := dk_172 (dk_at dksX5_feed_1 0 rfl rfl)
theorem dX5_feed_25 : decode cX5_feed 25 = .ok (.aload_n 0, 1) := dk_42 (dk_at dksX5_feed_1 1 rfl rfl)
theorem dX5_feed_26 : decode cX5_feed 26 = .ok (.getfield 61, 3) := dk_180 0 61 (dk_at dksX5_feed_1 2 rfl rfl)
theorem dX5_feed_29 : decode cX5_feed 29 = .ok (.aload_n 0, 1) := dk_42 (dk_at dksX5_feed_1 5 rfl rfl)
theorem dX5_feed_30 : decode cX5_feed 30 = .ok (.getfield 196, 3) := dk_180 0 196 (dk_at dksX5_feed_1 6 rfl rfl)
theorem dX5_feed_33 : decode cX5_feed 33 = .ok (.iload_n 1, 1) := dk_27 (dk_at dksX5_feed_1 9 rfl rfl)
theorem dX5_feed_34 : decode cX5_feed 34 = .ok (.i2b, 1) := dk_145 (dk_at dksX5_feed_1 10 rfl rfl)
theorem dX5_feed_35 : decode cX5_feed 35 = .ok (.bastore, 1) := dk_84 (dk_at dksX5_feed_1 11 rfl rfl)
theorem dX5_feed_36 : decode cX5_feed 36 = .ok (.aload_n 0, 1) := dk_42 (dk_at dksX5_feed_1 12 rfl rfl)
theorem dX5_feed_37 : decode cX5_feed 37 = .ok (.dup, 1) := dk_89 (dk_at dksX5_feed_1 13 rfl rfl)
theorem dX5_feed_38 : decode cX5_feed 38 = .ok (.getfield 196, 3) := dk_180 0 196 (dk_at dksX5_feed_1 14 rfl rfl)
theorem dX5_feed_41 : decode cX5_feed 41 = .ok (.iconst 1, 1) := dk_4 (dk_at dksX5_feed_1 17 rfl rfl)
theorem dX5_feed_42 : decode cX5_feed 42 = .ok (.iadd, 1) := dk_96 (dk_at dksX5_feed_1 18 rfl rfl)
theorem dX5_feed_43 : decode cX5_feed 43 = .ok (.putfield 196, 3) := dk_181 0 196 (dk_at dksX5_feed_1 19 rfl rfl)
theorem dX5_feed_46 : decode cX5_feed 46 = .ok (.aload_n 0, 1) := dk_42 (dk_at dksX5_feed_1 22 rfl rfl)
theorem dX5_feed_47 : decode cX5_feed 47 = .ok (.getfield 196, 3) := dk_180 0 196 (dk_at dksX5_feed_2 0 rfl rfl)
theorem dX5_feed_50 : decode cX5_feed 50 = .ok (.ireturn, 1) := dk_172 (dk_at dksX5_feed_2 3 rfl rfl)
abbrev cX5_law : ByteArray := prog_25_method_41_code
def yX5_law : MethodName := ⟨RX5, "law", "()I"⟩
def dkwX5_law_0 : List UInt8 := [42, 3, 182, 1, 4, 60, 27, 155, 0, 8, 16, 156, 27, 100, 172, 42, 4, 181, 1, 7, 4, 172]
abbrev dktX5_law_0 : List UInt8 := dkwX5_law_0 ++ []
theorem dksX5_law_0 : cX5_law.data.toList.drop 0 = dktX5_law_0 := by decide +kernel
theorem dX5_law_0 : decode cX5_law 0 = .ok (.aload_n 0, 1) := dk_42 (dk_at dksX5_law_0 0 rfl rfl)
theorem dX5_law_1 : decode cX5_law 1 = .ok (.iconst 0, 1) := dk_3 (dk_at dksX5_law_0 1 rfl rfl)
theorem dX5_law_2 : decode cX5_law 2 = .ok (.invokevirtual 260, 3) := dk_182 1 4 (dk_at dksX5_law_0 2 rfl rfl)
theorem dX5_law_5 : decode cX5_law 5 = .ok (.istore_n 1, 1) := dk_60 (dk_at dksX5_law_0 5 rfl rfl)
theorem dX5_law_6 : decode cX5_law 6 = .ok (.iload_n 1, 1) := dk_27 (dk_at dksX5_law_0 6 rfl rfl)
theorem dX5_law_7 : decode cX5_law 7 = .ok (.ifCond .lt 8, 3) := dk_155 0 8 (dk_at dksX5_law_0 7 rfl rfl)
theorem dX5_law_10 : decode cX5_law 10 = .ok (.bipush (-100), 2) := dk_16 156 (dk_at dksX5_law_0 10 rfl rfl)
theorem dX5_law_12 : decode cX5_law 12 = .ok (.iload_n 1, 1) := dk_27 (dk_at dksX5_law_0 12 rfl rfl)
theorem dX5_law_13 : decode cX5_law 13 = .ok (.isub, 1) := dk_100 (dk_at dksX5_law_0 13 rfl rfl)
theorem dX5_law_14 : decode cX5_law 14 = .ok (.ireturn, 1) := dk_172 (dk_at dksX5_law_0 14 rfl rfl)
theorem dX5_law_15 : decode cX5_law 15 = .ok (.aload_n 0, 1) := dk_42 (dk_at dksX5_law_0 15 rfl rfl)
theorem dX5_law_16 : decode cX5_law 16 = .ok (.iconst 1, 1) := dk_4 (dk_at dksX5_law_0 16 rfl rfl)
theorem dX5_law_17 : decode cX5_law 17 = .ok (.putfield 263, 3) := dk_181 1 7 (dk_at dksX5_law_0 17 rfl rfl)
theorem dX5_law_20 : decode cX5_law 20 = .ok (.iconst 1, 1) := dk_4 (dk_at dksX5_law_0 20 rfl rfl)
theorem dX5_law_21 : decode cX5_law 21 = .ok (.ireturn, 1) := dk_172 (dk_at dksX5_law_0 21 rfl rfl)
abbrev cX5_readText : ByteArray := prog_25_method_37_code
def yX5_readText : MethodName := ⟨RX5, "readText", "(I)I"⟩
def dkwX5_readText_9 : List UInt8 := [16, 61, 27, 104, 28, 96, 42, 180, 0, 78, 16, 61, 28, 96, 53, 86, 132, 2, 1, 167, 255, 203, 2, 172]
abbrev dktX5_readText_9 : List UInt8 := dkwX5_readText_9 ++ []
def dkwX5_readText_8 : List UInt8 := [42, 180, 0, 74, 16, 61, 27, 104, 28, 96, 42, 180, 0, 74, 16, 61, 28, 96, 53, 86, 42, 180, 0, 78]
abbrev dktX5_readText_8 : List UInt8 := dkwX5_readText_8 ++ dktX5_readText_9
def dkwX5_readText_7 : List UInt8 := [42, 180, 0, 71, 27, 42, 180, 0, 71, 4, 46, 79, 3, 61, 28, 42, 180, 0, 71, 27, 46, 162, 0, 49]
abbrev dktX5_readText_7 : List UInt8 := dkwX5_readText_7 ++ dktX5_readText_8
def dkwX5_readText_6 : List UInt8 := [17, 0, 130, 27, 104, 28, 96, 42, 180, 0, 68, 17, 0, 130, 28, 96, 46, 79, 132, 2, 1, 167, 255, 201]
abbrev dktX5_readText_6 : List UInt8 := dkwX5_readText_6 ++ dktX5_readText_7
def dkwX5_readText_5 : List UInt8 := [17, 0, 130, 27, 104, 28, 96, 42, 180, 0, 65, 17, 0, 130, 28, 96, 51, 84, 42, 180, 0, 68]
abbrev dktX5_readText_5 : List UInt8 := dkwX5_readText_5 ++ dktX5_readText_6
def dkwX5_readText_4 : List UInt8 := [155, 0, 8, 42, 180, 0, 202, 172, 3, 61, 28, 42, 180, 0, 205, 162, 0, 53, 42, 180, 0, 65]
abbrev dktX5_readText_4 : List UInt8 := dkwX5_readText_4 ++ dktX5_readText_5
def dkwX5_readText_3 : List UInt8 := [180, 0, 199, 42, 180, 0, 196, 162, 0, 7, 42, 182, 0, 211, 42, 3, 181, 0, 196, 42, 180, 0, 202]
abbrev dktX5_readText_3 : List UInt8 := dkwX5_readText_3 ++ dktX5_readText_4
def dkwX5_readText_2 : List UInt8 := [89, 180, 0, 199, 4, 96, 181, 0, 199, 42, 182, 0, 251, 167, 255, 226, 42, 180, 0, 202, 156, 0, 18, 42]
abbrev dktX5_readText_2 : List UInt8 := dkwX5_readText_2 ++ dktX5_readText_3
def dkwX5_readText_1 : List UInt8 := [4, 3, 79, 42, 182, 0, 251, 42, 180, 0, 202, 156, 0, 29, 42, 182, 0, 214, 16, 59, 160, 0, 20, 42]
abbrev dktX5_readText_1 : List UInt8 := dkwX5_readText_1 ++ dktX5_readText_2
def dkwX5_readText_0 : List UInt8 := [42, 3, 181, 0, 199, 42, 2, 181, 0, 202, 42, 3, 181, 0, 208, 42, 3, 181, 0, 205, 42, 180, 0, 71]
abbrev dktX5_readText_0 : List UInt8 := dkwX5_readText_0 ++ dktX5_readText_1
theorem dksX5_readText_0 : cX5_readText.data.toList.drop 0 = dktX5_readText_0 := by decide +kernel
theorem dksX5_readText_1 : cX5_readText.data.toList.drop 24 = dktX5_readText_1 := dk_seg dksX5_readText_0 24 rfl rfl
theorem dksX5_readText_2 : cX5_readText.data.toList.drop 48 = dktX5_readText_2 := dk_seg dksX5_readText_1 24 rfl rfl
theorem dksX5_readText_3 : cX5_readText.data.toList.drop 72 = dktX5_readText_3 := dk_seg dksX5_readText_2 24 rfl rfl
theorem dksX5_readText_4 : cX5_readText.data.toList.drop 95 = dktX5_readText_4 := dk_seg dksX5_readText_3 23 rfl rfl
theorem dksX5_readText_5 : cX5_readText.data.toList.drop 117 = dktX5_readText_5 := dk_seg dksX5_readText_4 22 rfl rfl
theorem dksX5_readText_6 : cX5_readText.data.toList.drop 139 = dktX5_readText_6 := dk_seg dksX5_readText_5 22 rfl rfl
theorem dksX5_readText_7 : cX5_readText.data.toList.drop 163 = dktX5_readText_7 := dk_seg dksX5_readText_6 24 rfl rfl
theorem dksX5_readText_8 : cX5_readText.data.toList.drop 187 = dktX5_readText_8 := dk_seg dksX5_readText_7 24 rfl rfl
theorem dksX5_readText_9 : cX5_readText.data.toList.drop 211 = dktX5_readText_9 := dk_seg dksX5_readText_8 24 rfl rfl
theorem dX5_readText_0 : decode cX5_readText 0 = .ok (.aload_n 0, 1) := dk_42 (dk_at dksX5_readText_0 0 rfl rfl)
theorem dX5_readText_1 : decode cX5_readText 1 = .ok (.iconst 0, 1) := dk_3 (dk_at dksX5_readText_0 1 rfl rfl)
theorem dX5_readText_2 : decode cX5_readText 2 = .ok (.putfield 199, 3) := dk_181 0 199 (dk_at dksX5_readText_0 2 rfl rfl)
theorem dX5_readText_5 : decode cX5_readText 5 = .ok (.aload_n 0, 1) := dk_42 (dk_at dksX5_readText_0 5 rfl rfl)
theorem dX5_readText_6 : decode cX5_readText 6 = .ok (.iconst (-1), 1) := dk_2 (dk_at dksX5_readText_0 6 rfl rfl)
theorem dX5_readText_7 : decode cX5_readText 7 = .ok (.putfield 202, 3) := dk_181 0 202 (dk_at dksX5_readText_0 7 rfl rfl)
theorem dX5_readText_10 : decode cX5_readText 10 = .ok (.aload_n 0, 1) := dk_42 (dk_at dksX5_readText_0 10 rfl rfl)
theorem dX5_readText_11 : decode cX5_readText 11 = .ok (.iconst 0, 1) := dk_3 (dk_at dksX5_readText_0 11 rfl rfl)
theorem dX5_readText_12 : decode cX5_readText 12 = .ok (.putfield 208, 3) := dk_181 0 208 (dk_at dksX5_readText_0 12 rfl rfl)
theorem dX5_readText_15 : decode cX5_readText 15 = .ok (.aload_n 0, 1) := dk_42 (dk_at dksX5_readText_0 15 rfl rfl)
theorem dX5_readText_16 : decode cX5_readText 16 = .ok (.iconst 0, 1) := dk_3 (dk_at dksX5_readText_0 16 rfl rfl)
theorem dX5_readText_17 : decode cX5_readText 17 = .ok (.putfield 205, 3) := dk_181 0 205 (dk_at dksX5_readText_0 17 rfl rfl)
theorem dX5_readText_20 : decode cX5_readText 20 = .ok (.aload_n 0, 1) := dk_42 (dk_at dksX5_readText_0 20 rfl rfl)
theorem dX5_readText_21 : decode cX5_readText 21 = .ok (.getfield 71, 3) := dk_180 0 71 (dk_at dksX5_readText_0 21 rfl rfl)
theorem dX5_readText_24 : decode cX5_readText 24 = .ok (.iconst 1, 1) := dk_4 (dk_at dksX5_readText_1 0 rfl rfl)
theorem dX5_readText_25 : decode cX5_readText 25 = .ok (.iconst 0, 1) := dk_3 (dk_at dksX5_readText_1 1 rfl rfl)
theorem dX5_readText_26 : decode cX5_readText 26 = .ok (.iastore, 1) := dk_79 (dk_at dksX5_readText_1 2 rfl rfl)
theorem dX5_readText_27 : decode cX5_readText 27 = .ok (.aload_n 0, 1) := dk_42 (dk_at dksX5_readText_1 3 rfl rfl)
theorem dX5_readText_28 : decode cX5_readText 28 = .ok (.invokevirtual 251, 3) := dk_182 0 251 (dk_at dksX5_readText_1 4 rfl rfl)
theorem dX5_readText_31 : decode cX5_readText 31 = .ok (.aload_n 0, 1) := dk_42 (dk_at dksX5_readText_1 7 rfl rfl)
theorem dX5_readText_32 : decode cX5_readText 32 = .ok (.getfield 202, 3) := dk_180 0 202 (dk_at dksX5_readText_1 8 rfl rfl)
theorem dX5_readText_35 : decode cX5_readText 35 = .ok (.ifCond .ge 29, 3) := dk_156 0 29 (dk_at dksX5_readText_1 11 rfl rfl)
theorem dX5_readText_38 : decode cX5_readText 38 = .ok (.aload_n 0, 1) := dk_42 (dk_at dksX5_readText_1 14 rfl rfl)
theorem dX5_readText_39 : decode cX5_readText 39 = .ok (.invokevirtual 214, 3) := dk_182 0 214 (dk_at dksX5_readText_1 15 rfl rfl)
theorem dX5_readText_42 : decode cX5_readText 42 = .ok (.bipush 59, 2) := dk_16 59 (dk_at dksX5_readText_1 18 rfl rfl)
theorem dX5_readText_44 : decode cX5_readText 44 = .ok (.if_icmp .ne 20, 3) := dk_160 0 20 (dk_at dksX5_readText_1 20 rfl rfl)
theorem dX5_readText_47 : decode cX5_readText 47 = .ok (.aload_n 0, 1) := dk_42 (dk_at dksX5_readText_1 23 rfl rfl)
theorem dX5_readText_48 : decode cX5_readText 48 = .ok (.dup, 1) := dk_89 (dk_at dksX5_readText_2 0 rfl rfl)
theorem dX5_readText_49 : decode cX5_readText 49 = .ok (.getfield 199, 3) := dk_180 0 199 (dk_at dksX5_readText_2 1 rfl rfl)
theorem dX5_readText_52 : decode cX5_readText 52 = .ok (.iconst 1, 1) := dk_4 (dk_at dksX5_readText_2 4 rfl rfl)
theorem dX5_readText_53 : decode cX5_readText 53 = .ok (.iadd, 1) := dk_96 (dk_at dksX5_readText_2 5 rfl rfl)
theorem dX5_readText_54 : decode cX5_readText 54 = .ok (.putfield 199, 3) := dk_181 0 199 (dk_at dksX5_readText_2 6 rfl rfl)
theorem dX5_readText_57 : decode cX5_readText 57 = .ok (.aload_n 0, 1) := dk_42 (dk_at dksX5_readText_2 9 rfl rfl)
theorem dX5_readText_58 : decode cX5_readText 58 = .ok (.invokevirtual 251, 3) := dk_182 0 251 (dk_at dksX5_readText_2 10 rfl rfl)
theorem dX5_readText_61 : decode cX5_readText 61 = .ok (.goto (-30), 3) := dk_167 255 226 (dk_at dksX5_readText_2 13 rfl rfl)
theorem dX5_readText_64 : decode cX5_readText 64 = .ok (.aload_n 0, 1) := dk_42 (dk_at dksX5_readText_2 16 rfl rfl)
theorem dX5_readText_65 : decode cX5_readText 65 = .ok (.getfield 202, 3) := dk_180 0 202 (dk_at dksX5_readText_2 17 rfl rfl)
theorem dX5_readText_68 : decode cX5_readText 68 = .ok (.ifCond .ge 18, 3) := dk_156 0 18 (dk_at dksX5_readText_2 20 rfl rfl)
theorem dX5_readText_71 : decode cX5_readText 71 = .ok (.aload_n 0, 1) := dk_42 (dk_at dksX5_readText_2 23 rfl rfl)
theorem dX5_readText_72 : decode cX5_readText 72 = .ok (.getfield 199, 3) := dk_180 0 199 (dk_at dksX5_readText_3 0 rfl rfl)
theorem dX5_readText_75 : decode cX5_readText 75 = .ok (.aload_n 0, 1) := dk_42 (dk_at dksX5_readText_3 3 rfl rfl)
theorem dX5_readText_76 : decode cX5_readText 76 = .ok (.getfield 196, 3) := dk_180 0 196 (dk_at dksX5_readText_3 4 rfl rfl)
theorem dX5_readText_79 : decode cX5_readText 79 = .ok (.if_icmp .ge 7, 3) := dk_162 0 7 (dk_at dksX5_readText_3 7 rfl rfl)
theorem dX5_readText_82 : decode cX5_readText 82 = .ok (.aload_n 0, 1) := dk_42 (dk_at dksX5_readText_3 10 rfl rfl)
theorem dX5_readText_83 : decode cX5_readText 83 = .ok (.invokevirtual 211, 3) := dk_182 0 211 (dk_at dksX5_readText_3 11 rfl rfl)
theorem dX5_readText_86 : decode cX5_readText 86 = .ok (.aload_n 0, 1) := dk_42 (dk_at dksX5_readText_3 14 rfl rfl)
theorem dX5_readText_87 : decode cX5_readText 87 = .ok (.iconst 0, 1) := dk_3 (dk_at dksX5_readText_3 15 rfl rfl)
theorem dX5_readText_88 : decode cX5_readText 88 = .ok (.putfield 196, 3) := dk_181 0 196 (dk_at dksX5_readText_3 16 rfl rfl)
theorem dX5_readText_91 : decode cX5_readText 91 = .ok (.aload_n 0, 1) := dk_42 (dk_at dksX5_readText_3 19 rfl rfl)
theorem dX5_readText_92 : decode cX5_readText 92 = .ok (.getfield 202, 3) := dk_180 0 202 (dk_at dksX5_readText_3 20 rfl rfl)
theorem dX5_readText_95 : decode cX5_readText 95 = .ok (.ifCond .lt 8, 3) := dk_155 0 8 (dk_at dksX5_readText_4 0 rfl rfl)
theorem dX5_readText_98 : decode cX5_readText 98 = .ok (.aload_n 0, 1) := dk_42 (dk_at dksX5_readText_4 3 rfl rfl)
theorem dX5_readText_99 : decode cX5_readText 99 = .ok (.getfield 202, 3) := dk_180 0 202 (dk_at dksX5_readText_4 4 rfl rfl)
theorem dX5_readText_102 : decode cX5_readText 102 = .ok (.ireturn, 1) := dk_172 (dk_at dksX5_readText_4 7 rfl rfl)
theorem dX5_readText_103 : decode cX5_readText 103 = .ok (.iconst 0, 1) := dk_3 (dk_at dksX5_readText_4 8 rfl rfl)
theorem dX5_readText_104 : decode cX5_readText 104 = .ok (.istore_n 2, 1) := dk_61 (dk_at dksX5_readText_4 9 rfl rfl)
theorem dX5_readText_105 : decode cX5_readText 105 = .ok (.iload_n 2, 1) := dk_28 (dk_at dksX5_readText_4 10 rfl rfl)
theorem dX5_readText_106 : decode cX5_readText 106 = .ok (.aload_n 0, 1) := dk_42 (dk_at dksX5_readText_4 11 rfl rfl)
theorem dX5_readText_107 : decode cX5_readText 107 = .ok (.getfield 205, 3) := dk_180 0 205 (dk_at dksX5_readText_4 12 rfl rfl)
theorem dX5_readText_110 : decode cX5_readText 110 = .ok (.if_icmp .ge 53, 3) := dk_162 0 53 (dk_at dksX5_readText_4 15 rfl rfl)
theorem dX5_readText_113 : decode cX5_readText 113 = .ok (.aload_n 0, 1) := dk_42 (dk_at dksX5_readText_4 18 rfl rfl)
theorem dX5_readText_114 : decode cX5_readText 114 = .ok (.getfield 65, 3) := dk_180 0 65 (dk_at dksX5_readText_4 19 rfl rfl)
theorem dX5_readText_117 : decode cX5_readText 117 = .ok (.sipush 130, 3) := dk_17 0 130 (dk_at dksX5_readText_5 0 rfl rfl)
theorem dX5_readText_120 : decode cX5_readText 120 = .ok (.iload_n 1, 1) := dk_27 (dk_at dksX5_readText_5 3 rfl rfl)
theorem dX5_readText_121 : decode cX5_readText 121 = .ok (.imul, 1) := dk_104 (dk_at dksX5_readText_5 4 rfl rfl)
theorem dX5_readText_122 : decode cX5_readText 122 = .ok (.iload_n 2, 1) := dk_28 (dk_at dksX5_readText_5 5 rfl rfl)
theorem dX5_readText_123 : decode cX5_readText 123 = .ok (.iadd, 1) := dk_96 (dk_at dksX5_readText_5 6 rfl rfl)
theorem dX5_readText_124 : decode cX5_readText 124 = .ok (.aload_n 0, 1) := dk_42 (dk_at dksX5_readText_5 7 rfl rfl)
theorem dX5_readText_125 : decode cX5_readText 125 = .ok (.getfield 65, 3) := dk_180 0 65 (dk_at dksX5_readText_5 8 rfl rfl)
theorem dX5_readText_128 : decode cX5_readText 128 = .ok (.sipush 130, 3) := dk_17 0 130 (dk_at dksX5_readText_5 11 rfl rfl)
theorem dX5_readText_131 : decode cX5_readText 131 = .ok (.iload_n 2, 1) := dk_28 (dk_at dksX5_readText_5 14 rfl rfl)
theorem dX5_readText_132 : decode cX5_readText 132 = .ok (.iadd, 1) := dk_96 (dk_at dksX5_readText_5 15 rfl rfl)
theorem dX5_readText_133 : decode cX5_readText 133 = .ok (.baload, 1) := dk_51 (dk_at dksX5_readText_5 16 rfl rfl)
theorem dX5_readText_134 : decode cX5_readText 134 = .ok (.bastore, 1) := dk_84 (dk_at dksX5_readText_5 17 rfl rfl)
theorem dX5_readText_135 : decode cX5_readText 135 = .ok (.aload_n 0, 1) := dk_42 (dk_at dksX5_readText_5 18 rfl rfl)
theorem dX5_readText_136 : decode cX5_readText 136 = .ok (.getfield 68, 3) := dk_180 0 68 (dk_at dksX5_readText_5 19 rfl rfl)
theorem dX5_readText_139 : decode cX5_readText 139 = .ok (.sipush 130, 3) := dk_17 0 130 (dk_at dksX5_readText_6 0 rfl rfl)
theorem dX5_readText_142 : decode cX5_readText 142 = .ok (.iload_n 1, 1) := dk_27 (dk_at dksX5_readText_6 3 rfl rfl)
theorem dX5_readText_143 : decode cX5_readText 143 = .ok (.imul, 1) := dk_104 (dk_at dksX5_readText_6 4 rfl rfl)
theorem dX5_readText_144 : decode cX5_readText 144 = .ok (.iload_n 2, 1) := dk_28 (dk_at dksX5_readText_6 5 rfl rfl)
theorem dX5_readText_145 : decode cX5_readText 145 = .ok (.iadd, 1) := dk_96 (dk_at dksX5_readText_6 6 rfl rfl)
theorem dX5_readText_146 : decode cX5_readText 146 = .ok (.aload_n 0, 1) := dk_42 (dk_at dksX5_readText_6 7 rfl rfl)
theorem dX5_readText_147 : decode cX5_readText 147 = .ok (.getfield 68, 3) := dk_180 0 68 (dk_at dksX5_readText_6 8 rfl rfl)
theorem dX5_readText_150 : decode cX5_readText 150 = .ok (.sipush 130, 3) := dk_17 0 130 (dk_at dksX5_readText_6 11 rfl rfl)
theorem dX5_readText_153 : decode cX5_readText 153 = .ok (.iload_n 2, 1) := dk_28 (dk_at dksX5_readText_6 14 rfl rfl)
theorem dX5_readText_154 : decode cX5_readText 154 = .ok (.iadd, 1) := dk_96 (dk_at dksX5_readText_6 15 rfl rfl)
theorem dX5_readText_155 : decode cX5_readText 155 = .ok (.iaload, 1) := dk_46 (dk_at dksX5_readText_6 16 rfl rfl)
theorem dX5_readText_156 : decode cX5_readText 156 = .ok (.iastore, 1) := dk_79 (dk_at dksX5_readText_6 17 rfl rfl)
theorem dX5_readText_157 : decode cX5_readText 157 = .ok (.iinc 2 1, 3) := dk_132 2 1 (dk_at dksX5_readText_6 18 rfl rfl)
theorem dX5_readText_160 : decode cX5_readText 160 = .ok (.goto (-55), 3) := dk_167 255 201 (dk_at dksX5_readText_6 21 rfl rfl)
theorem dX5_readText_163 : decode cX5_readText 163 = .ok (.aload_n 0, 1) := dk_42 (dk_at dksX5_readText_7 0 rfl rfl)
theorem dX5_readText_164 : decode cX5_readText 164 = .ok (.getfield 71, 3) := dk_180 0 71 (dk_at dksX5_readText_7 1 rfl rfl)
theorem dX5_readText_167 : decode cX5_readText 167 = .ok (.iload_n 1, 1) := dk_27 (dk_at dksX5_readText_7 4 rfl rfl)
theorem dX5_readText_168 : decode cX5_readText 168 = .ok (.aload_n 0, 1) := dk_42 (dk_at dksX5_readText_7 5 rfl rfl)
theorem dX5_readText_169 : decode cX5_readText 169 = .ok (.getfield 71, 3) := dk_180 0 71 (dk_at dksX5_readText_7 6 rfl rfl)
theorem dX5_readText_172 : decode cX5_readText 172 = .ok (.iconst 1, 1) := dk_4 (dk_at dksX5_readText_7 9 rfl rfl)
theorem dX5_readText_173 : decode cX5_readText 173 = .ok (.iaload, 1) := dk_46 (dk_at dksX5_readText_7 10 rfl rfl)
theorem dX5_readText_174 : decode cX5_readText 174 = .ok (.iastore, 1) := dk_79 (dk_at dksX5_readText_7 11 rfl rfl)
theorem dX5_readText_175 : decode cX5_readText 175 = .ok (.iconst 0, 1) := dk_3 (dk_at dksX5_readText_7 12 rfl rfl)
theorem dX5_readText_176 : decode cX5_readText 176 = .ok (.istore_n 2, 1) := dk_61 (dk_at dksX5_readText_7 13 rfl rfl)
theorem dX5_readText_177 : decode cX5_readText 177 = .ok (.iload_n 2, 1) := dk_28 (dk_at dksX5_readText_7 14 rfl rfl)
theorem dX5_readText_178 : decode cX5_readText 178 = .ok (.aload_n 0, 1) := dk_42 (dk_at dksX5_readText_7 15 rfl rfl)
theorem dX5_readText_179 : decode cX5_readText 179 = .ok (.getfield 71, 3) := dk_180 0 71 (dk_at dksX5_readText_7 16 rfl rfl)
theorem dX5_readText_182 : decode cX5_readText 182 = .ok (.iload_n 1, 1) := dk_27 (dk_at dksX5_readText_7 19 rfl rfl)
theorem dX5_readText_183 : decode cX5_readText 183 = .ok (.iaload, 1) := dk_46 (dk_at dksX5_readText_7 20 rfl rfl)
theorem dX5_readText_184 : decode cX5_readText 184 = .ok (.if_icmp .ge 49, 3) := dk_162 0 49 (dk_at dksX5_readText_7 21 rfl rfl)
theorem dX5_readText_187 : decode cX5_readText 187 = .ok (.aload_n 0, 1) := dk_42 (dk_at dksX5_readText_8 0 rfl rfl)
theorem dX5_readText_188 : decode cX5_readText 188 = .ok (.getfield 74, 3) := dk_180 0 74 (dk_at dksX5_readText_8 1 rfl rfl)
theorem dX5_readText_191 : decode cX5_readText 191 = .ok (.bipush 61, 2) := dk_16 61 (dk_at dksX5_readText_8 4 rfl rfl)
theorem dX5_readText_193 : decode cX5_readText 193 = .ok (.iload_n 1, 1) := dk_27 (dk_at dksX5_readText_8 6 rfl rfl)
theorem dX5_readText_194 : decode cX5_readText 194 = .ok (.imul, 1) := dk_104 (dk_at dksX5_readText_8 7 rfl rfl)
theorem dX5_readText_195 : decode cX5_readText 195 = .ok (.iload_n 2, 1) := dk_28 (dk_at dksX5_readText_8 8 rfl rfl)
theorem dX5_readText_196 : decode cX5_readText 196 = .ok (.iadd, 1) := dk_96 (dk_at dksX5_readText_8 9 rfl rfl)
theorem dX5_readText_197 : decode cX5_readText 197 = .ok (.aload_n 0, 1) := dk_42 (dk_at dksX5_readText_8 10 rfl rfl)
theorem dX5_readText_198 : decode cX5_readText 198 = .ok (.getfield 74, 3) := dk_180 0 74 (dk_at dksX5_readText_8 11 rfl rfl)
theorem dX5_readText_201 : decode cX5_readText 201 = .ok (.bipush 61, 2) := dk_16 61 (dk_at dksX5_readText_8 14 rfl rfl)
theorem dX5_readText_203 : decode cX5_readText 203 = .ok (.iload_n 2, 1) := dk_28 (dk_at dksX5_readText_8 16 rfl rfl)
theorem dX5_readText_204 : decode cX5_readText 204 = .ok (.iadd, 1) := dk_96 (dk_at dksX5_readText_8 17 rfl rfl)
theorem dX5_readText_205 : decode cX5_readText 205 = .ok (.saload, 1) := dk_53 (dk_at dksX5_readText_8 18 rfl rfl)
theorem dX5_readText_206 : decode cX5_readText 206 = .ok (.sastore, 1) := dk_86 (dk_at dksX5_readText_8 19 rfl rfl)
theorem dX5_readText_207 : decode cX5_readText 207 = .ok (.aload_n 0, 1) := dk_42 (dk_at dksX5_readText_8 20 rfl rfl)
theorem dX5_readText_208 : decode cX5_readText 208 = .ok (.getfield 78, 3) := dk_180 0 78 (dk_at dksX5_readText_8 21 rfl rfl)
theorem dX5_readText_211 : decode cX5_readText 211 = .ok (.bipush 61, 2) := dk_16 61 (dk_at dksX5_readText_9 0 rfl rfl)
theorem dX5_readText_213 : decode cX5_readText 213 = .ok (.iload_n 1, 1) := dk_27 (dk_at dksX5_readText_9 2 rfl rfl)
theorem dX5_readText_214 : decode cX5_readText 214 = .ok (.imul, 1) := dk_104 (dk_at dksX5_readText_9 3 rfl rfl)
theorem dX5_readText_215 : decode cX5_readText 215 = .ok (.iload_n 2, 1) := dk_28 (dk_at dksX5_readText_9 4 rfl rfl)
theorem dX5_readText_216 : decode cX5_readText 216 = .ok (.iadd, 1) := dk_96 (dk_at dksX5_readText_9 5 rfl rfl)
theorem dX5_readText_217 : decode cX5_readText 217 = .ok (.aload_n 0, 1) := dk_42 (dk_at dksX5_readText_9 6 rfl rfl)
theorem dX5_readText_218 : decode cX5_readText 218 = .ok (.getfield 78, 3) := dk_180 0 78 (dk_at dksX5_readText_9 7 rfl rfl)
theorem dX5_readText_221 : decode cX5_readText 221 = .ok (.bipush 61, 2) := dk_16 61 (dk_at dksX5_readText_9 10 rfl rfl)
theorem dX5_readText_223 : decode cX5_readText 223 = .ok (.iload_n 2, 1) := dk_28 (dk_at dksX5_readText_9 12 rfl rfl)
theorem dX5_readText_224 : decode cX5_readText 224 = .ok (.iadd, 1) := dk_96 (dk_at dksX5_readText_9 13 rfl rfl)
theorem dX5_readText_225 : decode cX5_readText 225 = .ok (.saload, 1) := dk_53 (dk_at dksX5_readText_9 14 rfl rfl)
theorem dX5_readText_226 : decode cX5_readText 226 = .ok (.sastore, 1) := dk_86 (dk_at dksX5_readText_9 15 rfl rfl)
theorem dX5_readText_227 : decode cX5_readText 227 = .ok (.iinc 2 1, 3) := dk_132 2 1 (dk_at dksX5_readText_9 16 rfl rfl)
theorem dX5_readText_230 : decode cX5_readText 230 = .ok (.goto (-53), 3) := dk_167 255 203 (dk_at dksX5_readText_9 19 rfl rfl)
theorem dX5_readText_233 : decode cX5_readText 233 = .ok (.iconst (-1), 1) := dk_2 (dk_at dksX5_readText_9 22 rfl rfl)
theorem dX5_readText_234 : decode cX5_readText 234 = .ok (.ireturn, 1) := dk_172 (dk_at dksX5_readText_9 23 rfl rfl)
abbrev cX5_line : ByteArray := prog_25_method_36_code
def yX5_line : MethodName := ⟨RX5, "line", "()V"⟩
def dkwX5_line_3 : List UInt8 := [27, 42, 180, 0, 205, 147, 86, 42, 180, 0, 71, 4, 92, 46, 4, 96, 79, 177]
abbrev dktX5_line_3 : List UInt8 := dkwX5_line_3 ++ []
def dkwX5_line_2 : List UInt8 := [4, 96, 181, 0, 199, 42, 180, 0, 74, 27, 42, 180, 0, 205, 147, 86, 42, 182, 0, 233, 42, 180, 0, 78]
abbrev dktX5_line_2 : List UInt8 := dkwX5_line_2 ++ dktX5_line_3
def dkwX5_line_1 : List UInt8 := [182, 0, 233, 42, 180, 0, 202, 156, 0, 37, 42, 182, 0, 214, 16, 63, 160, 0, 28, 42, 89, 180, 0, 199]
abbrev dktX5_line_1 : List UInt8 := dkwX5_line_1 ++ dktX5_line_2
def dkwX5_line_0 : List UInt8 := [16, 61, 42, 180, 0, 71, 4, 46, 96, 60, 42, 180, 0, 74, 27, 42, 180, 0, 205, 147, 86, 42]
abbrev dktX5_line_0 : List UInt8 := dkwX5_line_0 ++ dktX5_line_1
theorem dksX5_line_0 : cX5_line.data.toList.drop 0 = dktX5_line_0 := by decide +kernel
theorem dksX5_line_1 : cX5_line.data.toList.drop 22 = dktX5_line_1 := dk_seg dksX5_line_0 22 rfl rfl
theorem dksX5_line_2 : cX5_line.data.toList.drop 46 = dktX5_line_2 := dk_seg dksX5_line_1 24 rfl rfl
theorem dksX5_line_3 : cX5_line.data.toList.drop 70 = dktX5_line_3 := dk_seg dksX5_line_2 24 rfl rfl
theorem dX5_line_0 : decode cX5_line 0 = .ok (.bipush 61, 2) := dk_16 61 (dk_at dksX5_line_0 0 rfl rfl)
theorem dX5_line_2 : decode cX5_line 2 = .ok (.aload_n 0, 1) := dk_42 (dk_at dksX5_line_0 2 rfl rfl)
theorem dX5_line_3 : decode cX5_line 3 = .ok (.getfield 71, 3) := dk_180 0 71 (dk_at dksX5_line_0 3 rfl rfl)
theorem dX5_line_6 : decode cX5_line 6 = .ok (.iconst 1, 1) := dk_4 (dk_at dksX5_line_0 6 rfl rfl)
theorem dX5_line_7 : decode cX5_line 7 = .ok (.iaload, 1) := dk_46 (dk_at dksX5_line_0 7 rfl rfl)
theorem dX5_line_8 : decode cX5_line 8 = .ok (.iadd, 1) := dk_96 (dk_at dksX5_line_0 8 rfl rfl)
theorem dX5_line_9 : decode cX5_line 9 = .ok (.istore_n 1, 1) := dk_60 (dk_at dksX5_line_0 9 rfl rfl)
theorem dX5_line_10 : decode cX5_line 10 = .ok (.aload_n 0, 1) := dk_42 (dk_at dksX5_line_0 10 rfl rfl)
theorem dX5_line_11 : decode cX5_line 11 = .ok (.getfield 74, 3) := dk_180 0 74 (dk_at dksX5_line_0 11 rfl rfl)
theorem dX5_line_14 : decode cX5_line 14 = .ok (.iload_n 1, 1) := dk_27 (dk_at dksX5_line_0 14 rfl rfl)
theorem dX5_line_15 : decode cX5_line 15 = .ok (.aload_n 0, 1) := dk_42 (dk_at dksX5_line_0 15 rfl rfl)
theorem dX5_line_16 : decode cX5_line 16 = .ok (.getfield 205, 3) := dk_180 0 205 (dk_at dksX5_line_0 16 rfl rfl)
theorem dX5_line_19 : decode cX5_line 19 = .ok (.i2s, 1) := dk_147 (dk_at dksX5_line_0 19 rfl rfl)
theorem dX5_line_20 : decode cX5_line 20 = .ok (.sastore, 1) := dk_86 (dk_at dksX5_line_0 20 rfl rfl)
theorem dX5_line_21 : decode cX5_line 21 = .ok (.aload_n 0, 1) := dk_42 (dk_at dksX5_line_0 21 rfl rfl)
theorem dX5_line_22 : decode cX5_line 22 = .ok (.invokevirtual 233, 3) := dk_182 0 233 (dk_at dksX5_line_1 0 rfl rfl)
theorem dX5_line_25 : decode cX5_line 25 = .ok (.aload_n 0, 1) := dk_42 (dk_at dksX5_line_1 3 rfl rfl)
theorem dX5_line_26 : decode cX5_line 26 = .ok (.getfield 202, 3) := dk_180 0 202 (dk_at dksX5_line_1 4 rfl rfl)
theorem dX5_line_29 : decode cX5_line 29 = .ok (.ifCond .ge 37, 3) := dk_156 0 37 (dk_at dksX5_line_1 7 rfl rfl)
theorem dX5_line_32 : decode cX5_line 32 = .ok (.aload_n 0, 1) := dk_42 (dk_at dksX5_line_1 10 rfl rfl)
theorem dX5_line_33 : decode cX5_line 33 = .ok (.invokevirtual 214, 3) := dk_182 0 214 (dk_at dksX5_line_1 11 rfl rfl)
theorem dX5_line_36 : decode cX5_line 36 = .ok (.bipush 63, 2) := dk_16 63 (dk_at dksX5_line_1 14 rfl rfl)
theorem dX5_line_38 : decode cX5_line 38 = .ok (.if_icmp .ne 28, 3) := dk_160 0 28 (dk_at dksX5_line_1 16 rfl rfl)
theorem dX5_line_41 : decode cX5_line 41 = .ok (.aload_n 0, 1) := dk_42 (dk_at dksX5_line_1 19 rfl rfl)
theorem dX5_line_42 : decode cX5_line 42 = .ok (.dup, 1) := dk_89 (dk_at dksX5_line_1 20 rfl rfl)
theorem dX5_line_43 : decode cX5_line 43 = .ok (.getfield 199, 3) := dk_180 0 199 (dk_at dksX5_line_1 21 rfl rfl)
theorem dX5_line_46 : decode cX5_line 46 = .ok (.iconst 1, 1) := dk_4 (dk_at dksX5_line_2 0 rfl rfl)
theorem dX5_line_47 : decode cX5_line 47 = .ok (.iadd, 1) := dk_96 (dk_at dksX5_line_2 1 rfl rfl)
theorem dX5_line_48 : decode cX5_line 48 = .ok (.putfield 199, 3) := dk_181 0 199 (dk_at dksX5_line_2 2 rfl rfl)
theorem dX5_line_51 : decode cX5_line 51 = .ok (.aload_n 0, 1) := dk_42 (dk_at dksX5_line_2 5 rfl rfl)
theorem dX5_line_52 : decode cX5_line 52 = .ok (.getfield 74, 3) := dk_180 0 74 (dk_at dksX5_line_2 6 rfl rfl)
theorem dX5_line_55 : decode cX5_line 55 = .ok (.iload_n 1, 1) := dk_27 (dk_at dksX5_line_2 9 rfl rfl)
theorem dX5_line_56 : decode cX5_line 56 = .ok (.aload_n 0, 1) := dk_42 (dk_at dksX5_line_2 10 rfl rfl)
theorem dX5_line_57 : decode cX5_line 57 = .ok (.getfield 205, 3) := dk_180 0 205 (dk_at dksX5_line_2 11 rfl rfl)
theorem dX5_line_60 : decode cX5_line 60 = .ok (.i2s, 1) := dk_147 (dk_at dksX5_line_2 14 rfl rfl)
theorem dX5_line_61 : decode cX5_line 61 = .ok (.sastore, 1) := dk_86 (dk_at dksX5_line_2 15 rfl rfl)
theorem dX5_line_62 : decode cX5_line 62 = .ok (.aload_n 0, 1) := dk_42 (dk_at dksX5_line_2 16 rfl rfl)
theorem dX5_line_63 : decode cX5_line 63 = .ok (.invokevirtual 233, 3) := dk_182 0 233 (dk_at dksX5_line_2 17 rfl rfl)
theorem dX5_line_66 : decode cX5_line 66 = .ok (.aload_n 0, 1) := dk_42 (dk_at dksX5_line_2 20 rfl rfl)
theorem dX5_line_67 : decode cX5_line 67 = .ok (.getfield 78, 3) := dk_180 0 78 (dk_at dksX5_line_2 21 rfl rfl)
theorem dX5_line_70 : decode cX5_line 70 = .ok (.iload_n 1, 1) := dk_27 (dk_at dksX5_line_3 0 rfl rfl)
theorem dX5_line_71 : decode cX5_line 71 = .ok (.aload_n 0, 1) := dk_42 (dk_at dksX5_line_3 1 rfl rfl)
theorem dX5_line_72 : decode cX5_line 72 = .ok (.getfield 205, 3) := dk_180 0 205 (dk_at dksX5_line_3 2 rfl rfl)
theorem dX5_line_75 : decode cX5_line 75 = .ok (.i2s, 1) := dk_147 (dk_at dksX5_line_3 5 rfl rfl)
theorem dX5_line_76 : decode cX5_line 76 = .ok (.sastore, 1) := dk_86 (dk_at dksX5_line_3 6 rfl rfl)
theorem dX5_line_77 : decode cX5_line 77 = .ok (.aload_n 0, 1) := dk_42 (dk_at dksX5_line_3 7 rfl rfl)
theorem dX5_line_78 : decode cX5_line 78 = .ok (.getfield 71, 3) := dk_180 0 71 (dk_at dksX5_line_3 8 rfl rfl)
theorem dX5_line_81 : decode cX5_line 81 = .ok (.iconst 1, 1) := dk_4 (dk_at dksX5_line_3 11 rfl rfl)
theorem dX5_line_82 : decode cX5_line 82 = .ok (.dup2, 1) := dk_92 (dk_at dksX5_line_3 12 rfl rfl)
theorem dX5_line_83 : decode cX5_line 83 = .ok (.iaload, 1) := dk_46 (dk_at dksX5_line_3 13 rfl rfl)
theorem dX5_line_84 : decode cX5_line 84 = .ok (.iconst 1, 1) := dk_4 (dk_at dksX5_line_3 14 rfl rfl)
theorem dX5_line_85 : decode cX5_line 85 = .ok (.iadd, 1) := dk_96 (dk_at dksX5_line_3 15 rfl rfl)
theorem dX5_line_86 : decode cX5_line 86 = .ok (.iastore, 1) := dk_79 (dk_at dksX5_line_3 16 rfl rfl)
theorem dX5_line_87 : decode cX5_line 87 = .ok (.return_, 1) := dk_177 (dk_at dksX5_line_3 17 rfl rfl)
abbrev cX5_either : ByteArray := prog_25_method_35_code
def yX5_either : MethodName := ⟨RX5, "either", "()V"⟩
def dkwX5_either_1 : List UInt8 := [180, 0, 199, 4, 96, 181, 0, 199, 42, 182, 0, 248, 42, 16, 124, 3, 182, 0, 218, 167, 255, 219, 177]
abbrev dktX5_either_1 : List UInt8 := dkwX5_either_1 ++ []
def dkwX5_either_0 : List UInt8 := [42, 182, 0, 248, 42, 180, 0, 202, 156, 0, 36, 42, 182, 0, 214, 16, 124, 160, 0, 27, 42, 89]
abbrev dktX5_either_0 : List UInt8 := dkwX5_either_0 ++ dktX5_either_1
theorem dksX5_either_0 : cX5_either.data.toList.drop 0 = dktX5_either_0 := by decide +kernel
theorem dksX5_either_1 : cX5_either.data.toList.drop 22 = dktX5_either_1 := dk_seg dksX5_either_0 22 rfl rfl
theorem dX5_either_0 : decode cX5_either 0 = .ok (.aload_n 0, 1) := dk_42 (dk_at dksX5_either_0 0 rfl rfl)
theorem dX5_either_1 : decode cX5_either 1 = .ok (.invokevirtual 248, 3) := dk_182 0 248 (dk_at dksX5_either_0 1 rfl rfl)
theorem dX5_either_4 : decode cX5_either 4 = .ok (.aload_n 0, 1) := dk_42 (dk_at dksX5_either_0 4 rfl rfl)
theorem dX5_either_5 : decode cX5_either 5 = .ok (.getfield 202, 3) := dk_180 0 202 (dk_at dksX5_either_0 5 rfl rfl)
theorem dX5_either_8 : decode cX5_either 8 = .ok (.ifCond .ge 36, 3) := dk_156 0 36 (dk_at dksX5_either_0 8 rfl rfl)
theorem dX5_either_11 : decode cX5_either 11 = .ok (.aload_n 0, 1) := dk_42 (dk_at dksX5_either_0 11 rfl rfl)
theorem dX5_either_12 : decode cX5_either 12 = .ok (.invokevirtual 214, 3) := dk_182 0 214 (dk_at dksX5_either_0 12 rfl rfl)
theorem dX5_either_15 : decode cX5_either 15 = .ok (.bipush 124, 2) := dk_16 124 (dk_at dksX5_either_0 15 rfl rfl)
theorem dX5_either_17 : decode cX5_either 17 = .ok (.if_icmp .ne 27, 3) := dk_160 0 27 (dk_at dksX5_either_0 17 rfl rfl)
theorem dX5_either_20 : decode cX5_either 20 = .ok (.aload_n 0, 1) := dk_42 (dk_at dksX5_either_0 20 rfl rfl)
theorem dX5_either_21 : decode cX5_either 21 = .ok (.dup, 1) := dk_89 (dk_at dksX5_either_0 21 rfl rfl)
theorem dX5_either_22 : decode cX5_either 22 = .ok (.getfield 199, 3) := dk_180 0 199 (dk_at dksX5_either_1 0 rfl rfl)
theorem dX5_either_25 : decode cX5_either 25 = .ok (.iconst 1, 1) := dk_4 (dk_at dksX5_either_1 3 rfl rfl)
theorem dX5_either_26 : decode cX5_either 26 = .ok (.iadd, 1) := dk_96 (dk_at dksX5_either_1 4 rfl rfl)
theorem dX5_either_27 : decode cX5_either 27 = .ok (.putfield 199, 3) := dk_181 0 199 (dk_at dksX5_either_1 5 rfl rfl)
theorem dX5_either_30 : decode cX5_either 30 = .ok (.aload_n 0, 1) := dk_42 (dk_at dksX5_either_1 8 rfl rfl)
theorem dX5_either_31 : decode cX5_either 31 = .ok (.invokevirtual 248, 3) := dk_182 0 248 (dk_at dksX5_either_1 9 rfl rfl)
theorem dX5_either_34 : decode cX5_either 34 = .ok (.aload_n 0, 1) := dk_42 (dk_at dksX5_either_1 12 rfl rfl)
theorem dX5_either_35 : decode cX5_either 35 = .ok (.bipush 124, 2) := dk_16 124 (dk_at dksX5_either_1 13 rfl rfl)
theorem dX5_either_37 : decode cX5_either 37 = .ok (.iconst 0, 1) := dk_3 (dk_at dksX5_either_1 15 rfl rfl)
theorem dX5_either_38 : decode cX5_either 38 = .ok (.invokevirtual 218, 3) := dk_182 0 218 (dk_at dksX5_either_1 16 rfl rfl)
theorem dX5_either_41 : decode cX5_either 41 = .ok (.goto (-37), 3) := dk_167 255 219 (dk_at dksX5_either_1 19 rfl rfl)
theorem dX5_either_44 : decode cX5_either 44 = .ok (.return_, 1) := dk_177 (dk_at dksX5_either_1 22 rfl rfl)
abbrev cX5_both : ByteArray := prog_25_method_34_code
def yX5_both : MethodName := ⟨RX5, "both", "()V"⟩
def dkwX5_both_1 : List UInt8 := [180, 0, 199, 4, 96, 181, 0, 199, 42, 182, 0, 245, 42, 16, 38, 3, 182, 0, 218, 167, 255, 219, 177]
abbrev dktX5_both_1 : List UInt8 := dkwX5_both_1 ++ []
def dkwX5_both_0 : List UInt8 := [42, 182, 0, 245, 42, 180, 0, 202, 156, 0, 36, 42, 182, 0, 214, 16, 38, 160, 0, 27, 42, 89]
abbrev dktX5_both_0 : List UInt8 := dkwX5_both_0 ++ dktX5_both_1
theorem dksX5_both_0 : cX5_both.data.toList.drop 0 = dktX5_both_0 := by decide +kernel
theorem dksX5_both_1 : cX5_both.data.toList.drop 22 = dktX5_both_1 := dk_seg dksX5_both_0 22 rfl rfl
theorem dX5_both_0 : decode cX5_both 0 = .ok (.aload_n 0, 1) := dk_42 (dk_at dksX5_both_0 0 rfl rfl)
theorem dX5_both_1 : decode cX5_both 1 = .ok (.invokevirtual 245, 3) := dk_182 0 245 (dk_at dksX5_both_0 1 rfl rfl)
theorem dX5_both_4 : decode cX5_both 4 = .ok (.aload_n 0, 1) := dk_42 (dk_at dksX5_both_0 4 rfl rfl)
theorem dX5_both_5 : decode cX5_both 5 = .ok (.getfield 202, 3) := dk_180 0 202 (dk_at dksX5_both_0 5 rfl rfl)
theorem dX5_both_8 : decode cX5_both 8 = .ok (.ifCond .ge 36, 3) := dk_156 0 36 (dk_at dksX5_both_0 8 rfl rfl)
theorem dX5_both_11 : decode cX5_both 11 = .ok (.aload_n 0, 1) := dk_42 (dk_at dksX5_both_0 11 rfl rfl)
theorem dX5_both_12 : decode cX5_both 12 = .ok (.invokevirtual 214, 3) := dk_182 0 214 (dk_at dksX5_both_0 12 rfl rfl)
theorem dX5_both_15 : decode cX5_both 15 = .ok (.bipush 38, 2) := dk_16 38 (dk_at dksX5_both_0 15 rfl rfl)
theorem dX5_both_17 : decode cX5_both 17 = .ok (.if_icmp .ne 27, 3) := dk_160 0 27 (dk_at dksX5_both_0 17 rfl rfl)
theorem dX5_both_20 : decode cX5_both 20 = .ok (.aload_n 0, 1) := dk_42 (dk_at dksX5_both_0 20 rfl rfl)
theorem dX5_both_21 : decode cX5_both 21 = .ok (.dup, 1) := dk_89 (dk_at dksX5_both_0 21 rfl rfl)
theorem dX5_both_22 : decode cX5_both 22 = .ok (.getfield 199, 3) := dk_180 0 199 (dk_at dksX5_both_1 0 rfl rfl)
theorem dX5_both_25 : decode cX5_both 25 = .ok (.iconst 1, 1) := dk_4 (dk_at dksX5_both_1 3 rfl rfl)
theorem dX5_both_26 : decode cX5_both 26 = .ok (.iadd, 1) := dk_96 (dk_at dksX5_both_1 4 rfl rfl)
theorem dX5_both_27 : decode cX5_both 27 = .ok (.putfield 199, 3) := dk_181 0 199 (dk_at dksX5_both_1 5 rfl rfl)
theorem dX5_both_30 : decode cX5_both 30 = .ok (.aload_n 0, 1) := dk_42 (dk_at dksX5_both_1 8 rfl rfl)
theorem dX5_both_31 : decode cX5_both 31 = .ok (.invokevirtual 245, 3) := dk_182 0 245 (dk_at dksX5_both_1 9 rfl rfl)
theorem dX5_both_34 : decode cX5_both 34 = .ok (.aload_n 0, 1) := dk_42 (dk_at dksX5_both_1 12 rfl rfl)
theorem dX5_both_35 : decode cX5_both 35 = .ok (.bipush 38, 2) := dk_16 38 (dk_at dksX5_both_1 13 rfl rfl)
theorem dX5_both_37 : decode cX5_both 37 = .ok (.iconst 0, 1) := dk_3 (dk_at dksX5_both_1 15 rfl rfl)
theorem dX5_both_38 : decode cX5_both 38 = .ok (.invokevirtual 218, 3) := dk_182 0 218 (dk_at dksX5_both_1 16 rfl rfl)
theorem dX5_both_41 : decode cX5_both 41 = .ok (.goto (-37), 3) := dk_167 255 219 (dk_at dksX5_both_1 19 rfl rfl)
theorem dX5_both_44 : decode cX5_both 44 = .ok (.return_, 1) := dk_177 (dk_at dksX5_both_1 22 rfl rfl)
abbrev cX5_compared : ByteArray := prog_25_method_33_code
def yX5_compared : MethodName := ⟨RX5, "compared", "()V"⟩
def dkwX5_compared_2 : List UInt8 := [182, 0, 242, 42, 27, 3, 182, 0, 218, 177]
abbrev dktX5_compared_2 : List UInt8 := dkwX5_compared_2 ++ []
def dkwX5_compared_1 : List UInt8 := [16, 61, 159, 0, 10, 27, 16, 62, 159, 0, 4, 177, 42, 89, 180, 0, 199, 4, 96, 181, 0, 199, 42]
abbrev dktX5_compared_1 : List UInt8 := dkwX5_compared_1 ++ dktX5_compared_2
def dkwX5_compared_0 : List UInt8 := [42, 182, 0, 242, 42, 182, 0, 214, 60, 42, 180, 0, 202, 156, 0, 21, 27, 16, 60, 159, 0, 16, 27]
abbrev dktX5_compared_0 : List UInt8 := dkwX5_compared_0 ++ dktX5_compared_1
theorem dksX5_compared_0 : cX5_compared.data.toList.drop 0 = dktX5_compared_0 := by decide +kernel
theorem dksX5_compared_1 : cX5_compared.data.toList.drop 23 = dktX5_compared_1 := dk_seg dksX5_compared_0 23 rfl rfl
theorem dksX5_compared_2 : cX5_compared.data.toList.drop 46 = dktX5_compared_2 := dk_seg dksX5_compared_1 23 rfl rfl
theorem dX5_compared_0 : decode cX5_compared 0 = .ok (.aload_n 0, 1) := dk_42 (dk_at dksX5_compared_0 0 rfl rfl)
theorem dX5_compared_1 : decode cX5_compared 1 = .ok (.invokevirtual 242, 3) := dk_182 0 242 (dk_at dksX5_compared_0 1 rfl rfl)
theorem dX5_compared_4 : decode cX5_compared 4 = .ok (.aload_n 0, 1) := dk_42 (dk_at dksX5_compared_0 4 rfl rfl)
theorem dX5_compared_5 : decode cX5_compared 5 = .ok (.invokevirtual 214, 3) := dk_182 0 214 (dk_at dksX5_compared_0 5 rfl rfl)
theorem dX5_compared_8 : decode cX5_compared 8 = .ok (.istore_n 1, 1) := dk_60 (dk_at dksX5_compared_0 8 rfl rfl)
theorem dX5_compared_9 : decode cX5_compared 9 = .ok (.aload_n 0, 1) := dk_42 (dk_at dksX5_compared_0 9 rfl rfl)
theorem dX5_compared_10 : decode cX5_compared 10 = .ok (.getfield 202, 3) := dk_180 0 202 (dk_at dksX5_compared_0 10 rfl rfl)
theorem dX5_compared_13 : decode cX5_compared 13 = .ok (.ifCond .ge 21, 3) := dk_156 0 21 (dk_at dksX5_compared_0 13 rfl rfl)
theorem dX5_compared_16 : decode cX5_compared 16 = .ok (.iload_n 1, 1) := dk_27 (dk_at dksX5_compared_0 16 rfl rfl)
theorem dX5_compared_17 : decode cX5_compared 17 = .ok (.bipush 60, 2) := dk_16 60 (dk_at dksX5_compared_0 17 rfl rfl)
theorem dX5_compared_19 : decode cX5_compared 19 = .ok (.if_icmp .eq 16, 3) := dk_159 0 16 (dk_at dksX5_compared_0 19 rfl rfl)
theorem dX5_compared_22 : decode cX5_compared 22 = .ok (.iload_n 1, 1) := dk_27 (dk_at dksX5_compared_0 22 rfl rfl)
theorem dX5_compared_23 : decode cX5_compared 23 = .ok (.bipush 61, 2) := dk_16 61 (dk_at dksX5_compared_1 0 rfl rfl)
theorem dX5_compared_25 : decode cX5_compared 25 = .ok (.if_icmp .eq 10, 3) := dk_159 0 10 (dk_at dksX5_compared_1 2 rfl rfl)
theorem dX5_compared_28 : decode cX5_compared 28 = .ok (.iload_n 1, 1) := dk_27 (dk_at dksX5_compared_1 5 rfl rfl)
theorem dX5_compared_29 : decode cX5_compared 29 = .ok (.bipush 62, 2) := dk_16 62 (dk_at dksX5_compared_1 6 rfl rfl)
theorem dX5_compared_31 : decode cX5_compared 31 = .ok (.if_icmp .eq 4, 3) := dk_159 0 4 (dk_at dksX5_compared_1 8 rfl rfl)
theorem dX5_compared_34 : decode cX5_compared 34 = .ok (.return_, 1) := dk_177 (dk_at dksX5_compared_1 11 rfl rfl)
theorem dX5_compared_35 : decode cX5_compared 35 = .ok (.aload_n 0, 1) := dk_42 (dk_at dksX5_compared_1 12 rfl rfl)
theorem dX5_compared_36 : decode cX5_compared 36 = .ok (.dup, 1) := dk_89 (dk_at dksX5_compared_1 13 rfl rfl)
theorem dX5_compared_37 : decode cX5_compared 37 = .ok (.getfield 199, 3) := dk_180 0 199 (dk_at dksX5_compared_1 14 rfl rfl)
theorem dX5_compared_40 : decode cX5_compared 40 = .ok (.iconst 1, 1) := dk_4 (dk_at dksX5_compared_1 17 rfl rfl)
theorem dX5_compared_41 : decode cX5_compared 41 = .ok (.iadd, 1) := dk_96 (dk_at dksX5_compared_1 18 rfl rfl)
theorem dX5_compared_42 : decode cX5_compared 42 = .ok (.putfield 199, 3) := dk_181 0 199 (dk_at dksX5_compared_1 19 rfl rfl)
theorem dX5_compared_45 : decode cX5_compared 45 = .ok (.aload_n 0, 1) := dk_42 (dk_at dksX5_compared_1 22 rfl rfl)
theorem dX5_compared_46 : decode cX5_compared 46 = .ok (.invokevirtual 242, 3) := dk_182 0 242 (dk_at dksX5_compared_2 0 rfl rfl)
theorem dX5_compared_49 : decode cX5_compared 49 = .ok (.aload_n 0, 1) := dk_42 (dk_at dksX5_compared_2 3 rfl rfl)
theorem dX5_compared_50 : decode cX5_compared 50 = .ok (.iload_n 1, 1) := dk_27 (dk_at dksX5_compared_2 4 rfl rfl)
theorem dX5_compared_51 : decode cX5_compared 51 = .ok (.iconst 0, 1) := dk_3 (dk_at dksX5_compared_2 5 rfl rfl)
theorem dX5_compared_52 : decode cX5_compared 52 = .ok (.invokevirtual 218, 3) := dk_182 0 218 (dk_at dksX5_compared_2 6 rfl rfl)
theorem dX5_compared_55 : decode cX5_compared 55 = .ok (.return_, 1) := dk_177 (dk_at dksX5_compared_2 9 rfl rfl)
abbrev cX5_sum : ByteArray := prog_25_method_32_code
def yX5_sum : MethodName := ⟨RX5, "sum", "()V"⟩
def dkwX5_sum_2 : List UInt8 := [42, 27, 3, 182, 0, 218, 167, 255, 206, 177]
abbrev dktX5_sum_2 : List UInt8 := dkwX5_sum_2 ++ []
def dkwX5_sum_1 : List UInt8 := [16, 45, 160, 0, 31, 42, 182, 0, 214, 60, 42, 89, 180, 0, 199, 4, 96, 181, 0, 199, 42, 182, 0, 239]
abbrev dktX5_sum_1 : List UInt8 := dkwX5_sum_1 ++ dktX5_sum_2
def dkwX5_sum_0 : List UInt8 := [42, 182, 0, 239, 42, 180, 0, 202, 156, 0, 49, 42, 182, 0, 214, 16, 43, 159, 0, 12, 42, 182, 0, 214]
abbrev dktX5_sum_0 : List UInt8 := dkwX5_sum_0 ++ dktX5_sum_1
theorem dksX5_sum_0 : cX5_sum.data.toList.drop 0 = dktX5_sum_0 := by decide +kernel
theorem dksX5_sum_1 : cX5_sum.data.toList.drop 24 = dktX5_sum_1 := dk_seg dksX5_sum_0 24 rfl rfl
theorem dksX5_sum_2 : cX5_sum.data.toList.drop 48 = dktX5_sum_2 := dk_seg dksX5_sum_1 24 rfl rfl
theorem dX5_sum_0 : decode cX5_sum 0 = .ok (.aload_n 0, 1) := dk_42 (dk_at dksX5_sum_0 0 rfl rfl)
theorem dX5_sum_1 : decode cX5_sum 1 = .ok (.invokevirtual 239, 3) := dk_182 0 239 (dk_at dksX5_sum_0 1 rfl rfl)
theorem dX5_sum_4 : decode cX5_sum 4 = .ok (.aload_n 0, 1) := dk_42 (dk_at dksX5_sum_0 4 rfl rfl)
theorem dX5_sum_5 : decode cX5_sum 5 = .ok (.getfield 202, 3) := dk_180 0 202 (dk_at dksX5_sum_0 5 rfl rfl)
theorem dX5_sum_8 : decode cX5_sum 8 = .ok (.ifCond .ge 49, 3) := dk_156 0 49 (dk_at dksX5_sum_0 8 rfl rfl)
theorem dX5_sum_11 : decode cX5_sum 11 = .ok (.aload_n 0, 1) := dk_42 (dk_at dksX5_sum_0 11 rfl rfl)
theorem dX5_sum_12 : decode cX5_sum 12 = .ok (.invokevirtual 214, 3) := dk_182 0 214 (dk_at dksX5_sum_0 12 rfl rfl)
theorem dX5_sum_15 : decode cX5_sum 15 = .ok (.bipush 43, 2) := dk_16 43 (dk_at dksX5_sum_0 15 rfl rfl)
theorem dX5_sum_17 : decode cX5_sum 17 = .ok (.if_icmp .eq 12, 3) := dk_159 0 12 (dk_at dksX5_sum_0 17 rfl rfl)
theorem dX5_sum_20 : decode cX5_sum 20 = .ok (.aload_n 0, 1) := dk_42 (dk_at dksX5_sum_0 20 rfl rfl)
theorem dX5_sum_21 : decode cX5_sum 21 = .ok (.invokevirtual 214, 3) := dk_182 0 214 (dk_at dksX5_sum_0 21 rfl rfl)
theorem dX5_sum_24 : decode cX5_sum 24 = .ok (.bipush 45, 2) := dk_16 45 (dk_at dksX5_sum_1 0 rfl rfl)
theorem dX5_sum_26 : decode cX5_sum 26 = .ok (.if_icmp .ne 31, 3) := dk_160 0 31 (dk_at dksX5_sum_1 2 rfl rfl)
theorem dX5_sum_29 : decode cX5_sum 29 = .ok (.aload_n 0, 1) := dk_42 (dk_at dksX5_sum_1 5 rfl rfl)
theorem dX5_sum_30 : decode cX5_sum 30 = .ok (.invokevirtual 214, 3) := dk_182 0 214 (dk_at dksX5_sum_1 6 rfl rfl)
theorem dX5_sum_33 : decode cX5_sum 33 = .ok (.istore_n 1, 1) := dk_60 (dk_at dksX5_sum_1 9 rfl rfl)
theorem dX5_sum_34 : decode cX5_sum 34 = .ok (.aload_n 0, 1) := dk_42 (dk_at dksX5_sum_1 10 rfl rfl)
theorem dX5_sum_35 : decode cX5_sum 35 = .ok (.dup, 1) := dk_89 (dk_at dksX5_sum_1 11 rfl rfl)
theorem dX5_sum_36 : decode cX5_sum 36 = .ok (.getfield 199, 3) := dk_180 0 199 (dk_at dksX5_sum_1 12 rfl rfl)
theorem dX5_sum_39 : decode cX5_sum 39 = .ok (.iconst 1, 1) := dk_4 (dk_at dksX5_sum_1 15 rfl rfl)
theorem dX5_sum_40 : decode cX5_sum 40 = .ok (.iadd, 1) := dk_96 (dk_at dksX5_sum_1 16 rfl rfl)
theorem dX5_sum_41 : decode cX5_sum 41 = .ok (.putfield 199, 3) := dk_181 0 199 (dk_at dksX5_sum_1 17 rfl rfl)
theorem dX5_sum_44 : decode cX5_sum 44 = .ok (.aload_n 0, 1) := dk_42 (dk_at dksX5_sum_1 20 rfl rfl)
theorem dX5_sum_45 : decode cX5_sum 45 = .ok (.invokevirtual 239, 3) := dk_182 0 239 (dk_at dksX5_sum_1 21 rfl rfl)
theorem dX5_sum_48 : decode cX5_sum 48 = .ok (.aload_n 0, 1) := dk_42 (dk_at dksX5_sum_2 0 rfl rfl)
theorem dX5_sum_49 : decode cX5_sum 49 = .ok (.iload_n 1, 1) := dk_27 (dk_at dksX5_sum_2 1 rfl rfl)
theorem dX5_sum_50 : decode cX5_sum 50 = .ok (.iconst 0, 1) := dk_3 (dk_at dksX5_sum_2 2 rfl rfl)
theorem dX5_sum_51 : decode cX5_sum 51 = .ok (.invokevirtual 218, 3) := dk_182 0 218 (dk_at dksX5_sum_2 3 rfl rfl)
theorem dX5_sum_54 : decode cX5_sum 54 = .ok (.goto (-50), 3) := dk_167 255 206 (dk_at dksX5_sum_2 6 rfl rfl)
theorem dX5_sum_57 : decode cX5_sum 57 = .ok (.return_, 1) := dk_177 (dk_at dksX5_sum_2 9 rfl rfl)
abbrev cX5_product : ByteArray := prog_25_method_31_code
def yX5_product : MethodName := ⟨RX5, "product", "()V"⟩
def dkwX5_product_2 : List UInt8 := [4, 96, 181, 0, 199, 42, 182, 0, 230, 42, 27, 3, 182, 0, 218, 167, 255, 197, 177]
abbrev dktX5_product_2 : List UInt8 := dkwX5_product_2 ++ []
def dkwX5_product_1 : List UInt8 := [16, 47, 159, 0, 12, 42, 182, 0, 214, 16, 37, 160, 0, 31, 42, 182, 0, 214, 60, 42, 89, 180, 0, 199]
abbrev dktX5_product_1 : List UInt8 := dkwX5_product_1 ++ dktX5_product_2
def dkwX5_product_0 : List UInt8 := [42, 182, 0, 230, 42, 180, 0, 202, 156, 0, 58, 42, 182, 0, 214, 16, 42, 159, 0, 21, 42, 182, 0, 214]
abbrev dktX5_product_0 : List UInt8 := dkwX5_product_0 ++ dktX5_product_1
theorem dksX5_product_0 : cX5_product.data.toList.drop 0 = dktX5_product_0 := by decide +kernel
theorem dksX5_product_1 : cX5_product.data.toList.drop 24 = dktX5_product_1 := dk_seg dksX5_product_0 24 rfl rfl
theorem dksX5_product_2 : cX5_product.data.toList.drop 48 = dktX5_product_2 := dk_seg dksX5_product_1 24 rfl rfl
theorem dX5_product_0 : decode cX5_product 0 = .ok (.aload_n 0, 1) := dk_42 (dk_at dksX5_product_0 0 rfl rfl)
theorem dX5_product_1 : decode cX5_product 1 = .ok (.invokevirtual 230, 3) := dk_182 0 230 (dk_at dksX5_product_0 1 rfl rfl)
theorem dX5_product_4 : decode cX5_product 4 = .ok (.aload_n 0, 1) := dk_42 (dk_at dksX5_product_0 4 rfl rfl)
theorem dX5_product_5 : decode cX5_product 5 = .ok (.getfield 202, 3) := dk_180 0 202 (dk_at dksX5_product_0 5 rfl rfl)
theorem dX5_product_8 : decode cX5_product 8 = .ok (.ifCond .ge 58, 3) := dk_156 0 58 (dk_at dksX5_product_0 8 rfl rfl)
theorem dX5_product_11 : decode cX5_product 11 = .ok (.aload_n 0, 1) := dk_42 (dk_at dksX5_product_0 11 rfl rfl)
theorem dX5_product_12 : decode cX5_product 12 = .ok (.invokevirtual 214, 3) := dk_182 0 214 (dk_at dksX5_product_0 12 rfl rfl)
theorem dX5_product_15 : decode cX5_product 15 = .ok (.bipush 42, 2) := dk_16 42 (dk_at dksX5_product_0 15 rfl rfl)
theorem dX5_product_17 : decode cX5_product 17 = .ok (.if_icmp .eq 21, 3) := dk_159 0 21 (dk_at dksX5_product_0 17 rfl rfl)
theorem dX5_product_20 : decode cX5_product 20 = .ok (.aload_n 0, 1) := dk_42 (dk_at dksX5_product_0 20 rfl rfl)
theorem dX5_product_21 : decode cX5_product 21 = .ok (.invokevirtual 214, 3) := dk_182 0 214 (dk_at dksX5_product_0 21 rfl rfl)
theorem dX5_product_24 : decode cX5_product 24 = .ok (.bipush 47, 2) := dk_16 47 (dk_at dksX5_product_1 0 rfl rfl)
theorem dX5_product_26 : decode cX5_product 26 = .ok (.if_icmp .eq 12, 3) := dk_159 0 12 (dk_at dksX5_product_1 2 rfl rfl)
theorem dX5_product_29 : decode cX5_product 29 = .ok (.aload_n 0, 1) := dk_42 (dk_at dksX5_product_1 5 rfl rfl)
theorem dX5_product_30 : decode cX5_product 30 = .ok (.invokevirtual 214, 3) := dk_182 0 214 (dk_at dksX5_product_1 6 rfl rfl)
theorem dX5_product_33 : decode cX5_product 33 = .ok (.bipush 37, 2) := dk_16 37 (dk_at dksX5_product_1 9 rfl rfl)
theorem dX5_product_35 : decode cX5_product 35 = .ok (.if_icmp .ne 31, 3) := dk_160 0 31 (dk_at dksX5_product_1 11 rfl rfl)
theorem dX5_product_38 : decode cX5_product 38 = .ok (.aload_n 0, 1) := dk_42 (dk_at dksX5_product_1 14 rfl rfl)
theorem dX5_product_39 : decode cX5_product 39 = .ok (.invokevirtual 214, 3) := dk_182 0 214 (dk_at dksX5_product_1 15 rfl rfl)
theorem dX5_product_42 : decode cX5_product 42 = .ok (.istore_n 1, 1) := dk_60 (dk_at dksX5_product_1 18 rfl rfl)
theorem dX5_product_43 : decode cX5_product 43 = .ok (.aload_n 0, 1) := dk_42 (dk_at dksX5_product_1 19 rfl rfl)
theorem dX5_product_44 : decode cX5_product 44 = .ok (.dup, 1) := dk_89 (dk_at dksX5_product_1 20 rfl rfl)
theorem dX5_product_45 : decode cX5_product 45 = .ok (.getfield 199, 3) := dk_180 0 199 (dk_at dksX5_product_1 21 rfl rfl)
theorem dX5_product_48 : decode cX5_product 48 = .ok (.iconst 1, 1) := dk_4 (dk_at dksX5_product_2 0 rfl rfl)
theorem dX5_product_49 : decode cX5_product 49 = .ok (.iadd, 1) := dk_96 (dk_at dksX5_product_2 1 rfl rfl)
theorem dX5_product_50 : decode cX5_product 50 = .ok (.putfield 199, 3) := dk_181 0 199 (dk_at dksX5_product_2 2 rfl rfl)
theorem dX5_product_53 : decode cX5_product 53 = .ok (.aload_n 0, 1) := dk_42 (dk_at dksX5_product_2 5 rfl rfl)
theorem dX5_product_54 : decode cX5_product 54 = .ok (.invokevirtual 230, 3) := dk_182 0 230 (dk_at dksX5_product_2 6 rfl rfl)
theorem dX5_product_57 : decode cX5_product 57 = .ok (.aload_n 0, 1) := dk_42 (dk_at dksX5_product_2 9 rfl rfl)
theorem dX5_product_58 : decode cX5_product 58 = .ok (.iload_n 1, 1) := dk_27 (dk_at dksX5_product_2 10 rfl rfl)
theorem dX5_product_59 : decode cX5_product 59 = .ok (.iconst 0, 1) := dk_3 (dk_at dksX5_product_2 11 rfl rfl)
theorem dX5_product_60 : decode cX5_product 60 = .ok (.invokevirtual 218, 3) := dk_182 0 218 (dk_at dksX5_product_2 12 rfl rfl)
theorem dX5_product_63 : decode cX5_product 63 = .ok (.goto (-59), 3) := dk_167 255 197 (dk_at dksX5_product_2 15 rfl rfl)
theorem dX5_product_66 : decode cX5_product 66 = .ok (.return_, 1) := dk_177 (dk_at dksX5_product_2 18 rfl rfl)
abbrev cX5_operand : ByteArray := prog_25_method_30_code
def yX5_operand : MethodName := ⟨RX5, "operand", "()V"⟩
def dkwX5_operand_6 : List UInt8 := [180, 0, 208, 4, 100, 181, 0, 208, 167, 0, 7, 42, 182, 0, 236, 177]
abbrev dktX5_operand_6 : List UInt8 := dkwX5_operand_6 ++ []
def dkwX5_operand_5 : List UInt8 := [16, 41, 159, 0, 8, 42, 182, 0, 211, 177, 42, 89, 180, 0, 199, 4, 96, 181, 0, 199, 42, 89]
abbrev dktX5_operand_5 : List UInt8 := dkwX5_operand_5 ++ dktX5_operand_6
def dkwX5_operand_4 : List UInt8 := [182, 0, 226, 154, 0, 4, 177, 42, 182, 0, 233, 42, 180, 0, 202, 155, 0, 4, 177, 42, 182, 0, 214]
abbrev dktX5_operand_4 : List UInt8 := dkwX5_operand_4 ++ dktX5_operand_5
def dkwX5_operand_3 : List UInt8 := [16, 33, 160, 0, 7, 6, 167, 0, 4, 7, 3, 182, 0, 218, 167, 0, 70, 27, 16, 40, 160, 0, 60, 42]
abbrev dktX5_operand_3 : List UInt8 := dkwX5_operand_3 ++ dktX5_operand_4
def dkwX5_operand_2 : List UInt8 := [182, 0, 226, 154, 0, 4, 177, 42, 182, 0, 230, 42, 89, 180, 0, 208, 4, 100, 181, 0, 208, 42, 27]
abbrev dktX5_operand_2 : List UInt8 := dkwX5_operand_2 ++ dktX5_operand_3
def dkwX5_operand_1 : List UInt8 := [180, 0, 199, 4, 96, 181, 0, 199, 167, 0, 123, 27, 16, 33, 159, 0, 9, 27, 16, 45, 160, 0, 44, 42]
abbrev dktX5_operand_1 : List UInt8 := dkwX5_operand_1 ++ dktX5_operand_2
def dkwX5_operand_0 : List UInt8 := [42, 182, 0, 214, 60, 27, 184, 0, 222, 155, 0, 25, 42, 5, 27, 184, 0, 222, 182, 0, 218, 42, 89]
abbrev dktX5_operand_0 : List UInt8 := dkwX5_operand_0 ++ dktX5_operand_1
theorem dksX5_operand_0 : cX5_operand.data.toList.drop 0 = dktX5_operand_0 := by decide +kernel
theorem dksX5_operand_1 : cX5_operand.data.toList.drop 23 = dktX5_operand_1 := dk_seg dksX5_operand_0 23 rfl rfl
theorem dksX5_operand_2 : cX5_operand.data.toList.drop 47 = dktX5_operand_2 := dk_seg dksX5_operand_1 24 rfl rfl
theorem dksX5_operand_3 : cX5_operand.data.toList.drop 70 = dktX5_operand_3 := dk_seg dksX5_operand_2 23 rfl rfl
theorem dksX5_operand_4 : cX5_operand.data.toList.drop 94 = dktX5_operand_4 := dk_seg dksX5_operand_3 24 rfl rfl
theorem dksX5_operand_5 : cX5_operand.data.toList.drop 117 = dktX5_operand_5 := dk_seg dksX5_operand_4 23 rfl rfl
theorem dksX5_operand_6 : cX5_operand.data.toList.drop 139 = dktX5_operand_6 := dk_seg dksX5_operand_5 22 rfl rfl
theorem dX5_operand_0 : decode cX5_operand 0 = .ok (.aload_n 0, 1) := dk_42 (dk_at dksX5_operand_0 0 rfl rfl)
theorem dX5_operand_1 : decode cX5_operand 1 = .ok (.invokevirtual 214, 3) := dk_182 0 214 (dk_at dksX5_operand_0 1 rfl rfl)
theorem dX5_operand_4 : decode cX5_operand 4 = .ok (.istore_n 1, 1) := dk_60 (dk_at dksX5_operand_0 4 rfl rfl)
theorem dX5_operand_5 : decode cX5_operand 5 = .ok (.iload_n 1, 1) := dk_27 (dk_at dksX5_operand_0 5 rfl rfl)
theorem dX5_operand_6 : decode cX5_operand 6 = .ok (.invokestatic 222, 3) := dk_184 0 222 (dk_at dksX5_operand_0 6 rfl rfl)
theorem dX5_operand_9 : decode cX5_operand 9 = .ok (.ifCond .lt 25, 3) := dk_155 0 25 (dk_at dksX5_operand_0 9 rfl rfl)
theorem dX5_operand_12 : decode cX5_operand 12 = .ok (.aload_n 0, 1) := dk_42 (dk_at dksX5_operand_0 12 rfl rfl)
theorem dX5_operand_13 : decode cX5_operand 13 = .ok (.iconst 2, 1) := dk_5 (dk_at dksX5_operand_0 13 rfl rfl)
theorem dX5_operand_14 : decode cX5_operand 14 = .ok (.iload_n 1, 1) := dk_27 (dk_at dksX5_operand_0 14 rfl rfl)
theorem dX5_operand_15 : decode cX5_operand 15 = .ok (.invokestatic 222, 3) := dk_184 0 222 (dk_at dksX5_operand_0 15 rfl rfl)
theorem dX5_operand_18 : decode cX5_operand 18 = .ok (.invokevirtual 218, 3) := dk_182 0 218 (dk_at dksX5_operand_0 18 rfl rfl)
theorem dX5_operand_21 : decode cX5_operand 21 = .ok (.aload_n 0, 1) := dk_42 (dk_at dksX5_operand_0 21 rfl rfl)
theorem dX5_operand_22 : decode cX5_operand 22 = .ok (.dup, 1) := dk_89 (dk_at dksX5_operand_0 22 rfl rfl)
theorem dX5_operand_23 : decode cX5_operand 23 = .ok (.getfield 199, 3) := dk_180 0 199 (dk_at dksX5_operand_1 0 rfl rfl)
theorem dX5_operand_26 : decode cX5_operand 26 = .ok (.iconst 1, 1) := dk_4 (dk_at dksX5_operand_1 3 rfl rfl)
theorem dX5_operand_27 : decode cX5_operand 27 = .ok (.iadd, 1) := dk_96 (dk_at dksX5_operand_1 4 rfl rfl)
theorem dX5_operand_28 : decode cX5_operand 28 = .ok (.putfield 199, 3) := dk_181 0 199 (dk_at dksX5_operand_1 5 rfl rfl)
theorem dX5_operand_31 : decode cX5_operand 31 = .ok (.goto 123, 3) := dk_167 0 123 (dk_at dksX5_operand_1 8 rfl rfl)
theorem dX5_operand_34 : decode cX5_operand 34 = .ok (.iload_n 1, 1) := dk_27 (dk_at dksX5_operand_1 11 rfl rfl)
theorem dX5_operand_35 : decode cX5_operand 35 = .ok (.bipush 33, 2) := dk_16 33 (dk_at dksX5_operand_1 12 rfl rfl)
theorem dX5_operand_37 : decode cX5_operand 37 = .ok (.if_icmp .eq 9, 3) := dk_159 0 9 (dk_at dksX5_operand_1 14 rfl rfl)
theorem dX5_operand_40 : decode cX5_operand 40 = .ok (.iload_n 1, 1) := dk_27 (dk_at dksX5_operand_1 17 rfl rfl)
theorem dX5_operand_41 : decode cX5_operand 41 = .ok (.bipush 45, 2) := dk_16 45 (dk_at dksX5_operand_1 18 rfl rfl)
theorem dX5_operand_43 : decode cX5_operand 43 = .ok (.if_icmp .ne 44, 3) := dk_160 0 44 (dk_at dksX5_operand_1 20 rfl rfl)
theorem dX5_operand_46 : decode cX5_operand 46 = .ok (.aload_n 0, 1) := dk_42 (dk_at dksX5_operand_1 23 rfl rfl)
theorem dX5_operand_47 : decode cX5_operand 47 = .ok (.invokevirtual 226, 3) := dk_182 0 226 (dk_at dksX5_operand_2 0 rfl rfl)
theorem dX5_operand_50 : decode cX5_operand 50 = .ok (.ifCond .ne 4, 3) := dk_154 0 4 (dk_at dksX5_operand_2 3 rfl rfl)
theorem dX5_operand_53 : decode cX5_operand 53 = .ok (.return_, 1) := dk_177 (dk_at dksX5_operand_2 6 rfl rfl)
theorem dX5_operand_54 : decode cX5_operand 54 = .ok (.aload_n 0, 1) := dk_42 (dk_at dksX5_operand_2 7 rfl rfl)
theorem dX5_operand_55 : decode cX5_operand 55 = .ok (.invokevirtual 230, 3) := dk_182 0 230 (dk_at dksX5_operand_2 8 rfl rfl)
theorem dX5_operand_58 : decode cX5_operand 58 = .ok (.aload_n 0, 1) := dk_42 (dk_at dksX5_operand_2 11 rfl rfl)
theorem dX5_operand_59 : decode cX5_operand 59 = .ok (.dup, 1) := dk_89 (dk_at dksX5_operand_2 12 rfl rfl)
theorem dX5_operand_60 : decode cX5_operand 60 = .ok (.getfield 208, 3) := dk_180 0 208 (dk_at dksX5_operand_2 13 rfl rfl)
theorem dX5_operand_63 : decode cX5_operand 63 = .ok (.iconst 1, 1) := dk_4 (dk_at dksX5_operand_2 16 rfl rfl)
theorem dX5_operand_64 : decode cX5_operand 64 = .ok (.isub, 1) := dk_100 (dk_at dksX5_operand_2 17 rfl rfl)
theorem dX5_operand_65 : decode cX5_operand 65 = .ok (.putfield 208, 3) := dk_181 0 208 (dk_at dksX5_operand_2 18 rfl rfl)
theorem dX5_operand_68 : decode cX5_operand 68 = .ok (.aload_n 0, 1) := dk_42 (dk_at dksX5_operand_2 21 rfl rfl)
theorem dX5_operand_69 : decode cX5_operand 69 = .ok (.iload_n 1, 1) := dk_27 (dk_at dksX5_operand_2 22 rfl rfl)
theorem dX5_operand_70 : decode cX5_operand 70 = .ok (.bipush 33, 2) := dk_16 33 (dk_at dksX5_operand_3 0 rfl rfl)
theorem dX5_operand_72 : decode cX5_operand 72 = .ok (.if_icmp .ne 7, 3) := dk_160 0 7 (dk_at dksX5_operand_3 2 rfl rfl)
theorem dX5_operand_75 : decode cX5_operand 75 = .ok (.iconst 3, 1) := dk_6 (dk_at dksX5_operand_3 5 rfl rfl)
theorem dX5_operand_76 : decode cX5_operand 76 = .ok (.goto 4, 3) := dk_167 0 4 (dk_at dksX5_operand_3 6 rfl rfl)
theorem dX5_operand_79 : decode cX5_operand 79 = .ok (.iconst 4, 1) := dk_7 (dk_at dksX5_operand_3 9 rfl rfl)
theorem dX5_operand_80 : decode cX5_operand 80 = .ok (.iconst 0, 1) := dk_3 (dk_at dksX5_operand_3 10 rfl rfl)
theorem dX5_operand_81 : decode cX5_operand 81 = .ok (.invokevirtual 218, 3) := dk_182 0 218 (dk_at dksX5_operand_3 11 rfl rfl)
theorem dX5_operand_84 : decode cX5_operand 84 = .ok (.goto 70, 3) := dk_167 0 70 (dk_at dksX5_operand_3 14 rfl rfl)
theorem dX5_operand_87 : decode cX5_operand 87 = .ok (.iload_n 1, 1) := dk_27 (dk_at dksX5_operand_3 17 rfl rfl)
theorem dX5_operand_88 : decode cX5_operand 88 = .ok (.bipush 40, 2) := dk_16 40 (dk_at dksX5_operand_3 18 rfl rfl)
theorem dX5_operand_90 : decode cX5_operand 90 = .ok (.if_icmp .ne 60, 3) := dk_160 0 60 (dk_at dksX5_operand_3 20 rfl rfl)
theorem dX5_operand_93 : decode cX5_operand 93 = .ok (.aload_n 0, 1) := dk_42 (dk_at dksX5_operand_3 23 rfl rfl)
theorem dX5_operand_94 : decode cX5_operand 94 = .ok (.invokevirtual 226, 3) := dk_182 0 226 (dk_at dksX5_operand_4 0 rfl rfl)
theorem dX5_operand_97 : decode cX5_operand 97 = .ok (.ifCond .ne 4, 3) := dk_154 0 4 (dk_at dksX5_operand_4 3 rfl rfl)
theorem dX5_operand_100 : decode cX5_operand 100 = .ok (.return_, 1) := dk_177 (dk_at dksX5_operand_4 6 rfl rfl)
theorem dX5_operand_101 : decode cX5_operand 101 = .ok (.aload_n 0, 1) := dk_42 (dk_at dksX5_operand_4 7 rfl rfl)
theorem dX5_operand_102 : decode cX5_operand 102 = .ok (.invokevirtual 233, 3) := dk_182 0 233 (dk_at dksX5_operand_4 8 rfl rfl)
theorem dX5_operand_105 : decode cX5_operand 105 = .ok (.aload_n 0, 1) := dk_42 (dk_at dksX5_operand_4 11 rfl rfl)
theorem dX5_operand_106 : decode cX5_operand 106 = .ok (.getfield 202, 3) := dk_180 0 202 (dk_at dksX5_operand_4 12 rfl rfl)
theorem dX5_operand_109 : decode cX5_operand 109 = .ok (.ifCond .lt 4, 3) := dk_155 0 4 (dk_at dksX5_operand_4 15 rfl rfl)
theorem dX5_operand_112 : decode cX5_operand 112 = .ok (.return_, 1) := dk_177 (dk_at dksX5_operand_4 18 rfl rfl)
theorem dX5_operand_113 : decode cX5_operand 113 = .ok (.aload_n 0, 1) := dk_42 (dk_at dksX5_operand_4 19 rfl rfl)
theorem dX5_operand_114 : decode cX5_operand 114 = .ok (.invokevirtual 214, 3) := dk_182 0 214 (dk_at dksX5_operand_4 20 rfl rfl)
theorem dX5_operand_117 : decode cX5_operand 117 = .ok (.bipush 41, 2) := dk_16 41 (dk_at dksX5_operand_5 0 rfl rfl)
theorem dX5_operand_119 : decode cX5_operand 119 = .ok (.if_icmp .eq 8, 3) := dk_159 0 8 (dk_at dksX5_operand_5 2 rfl rfl)
theorem dX5_operand_122 : decode cX5_operand 122 = .ok (.aload_n 0, 1) := dk_42 (dk_at dksX5_operand_5 5 rfl rfl)
theorem dX5_operand_123 : decode cX5_operand 123 = .ok (.invokevirtual 211, 3) := dk_182 0 211 (dk_at dksX5_operand_5 6 rfl rfl)
theorem dX5_operand_126 : decode cX5_operand 126 = .ok (.return_, 1) := dk_177 (dk_at dksX5_operand_5 9 rfl rfl)
theorem dX5_operand_127 : decode cX5_operand 127 = .ok (.aload_n 0, 1) := dk_42 (dk_at dksX5_operand_5 10 rfl rfl)
theorem dX5_operand_128 : decode cX5_operand 128 = .ok (.dup, 1) := dk_89 (dk_at dksX5_operand_5 11 rfl rfl)
theorem dX5_operand_129 : decode cX5_operand 129 = .ok (.getfield 199, 3) := dk_180 0 199 (dk_at dksX5_operand_5 12 rfl rfl)
theorem dX5_operand_132 : decode cX5_operand 132 = .ok (.iconst 1, 1) := dk_4 (dk_at dksX5_operand_5 15 rfl rfl)
theorem dX5_operand_133 : decode cX5_operand 133 = .ok (.iadd, 1) := dk_96 (dk_at dksX5_operand_5 16 rfl rfl)
theorem dX5_operand_134 : decode cX5_operand 134 = .ok (.putfield 199, 3) := dk_181 0 199 (dk_at dksX5_operand_5 17 rfl rfl)
theorem dX5_operand_137 : decode cX5_operand 137 = .ok (.aload_n 0, 1) := dk_42 (dk_at dksX5_operand_5 20 rfl rfl)
theorem dX5_operand_138 : decode cX5_operand 138 = .ok (.dup, 1) := dk_89 (dk_at dksX5_operand_5 21 rfl rfl)
theorem dX5_operand_139 : decode cX5_operand 139 = .ok (.getfield 208, 3) := dk_180 0 208 (dk_at dksX5_operand_6 0 rfl rfl)
theorem dX5_operand_142 : decode cX5_operand 142 = .ok (.iconst 1, 1) := dk_4 (dk_at dksX5_operand_6 3 rfl rfl)
theorem dX5_operand_143 : decode cX5_operand 143 = .ok (.isub, 1) := dk_100 (dk_at dksX5_operand_6 4 rfl rfl)
theorem dX5_operand_144 : decode cX5_operand 144 = .ok (.putfield 208, 3) := dk_181 0 208 (dk_at dksX5_operand_6 5 rfl rfl)
theorem dX5_operand_147 : decode cX5_operand 147 = .ok (.goto 7, 3) := dk_167 0 7 (dk_at dksX5_operand_6 8 rfl rfl)
theorem dX5_operand_150 : decode cX5_operand 150 = .ok (.aload_n 0, 1) := dk_42 (dk_at dksX5_operand_6 11 rfl rfl)
theorem dX5_operand_151 : decode cX5_operand 151 = .ok (.invokevirtual 236, 3) := dk_182 0 236 (dk_at dksX5_operand_6 12 rfl rfl)
theorem dX5_operand_154 : decode cX5_operand 154 = .ok (.return_, 1) := dk_177 (dk_at dksX5_operand_6 15 rfl rfl)
abbrev cX5_look : ByteArray := prog_25_method_24_code
def yX5_look : MethodName := ⟨RX5, "look", "()I"⟩
def dkwX5_look_1 : List UInt8 := [172]
abbrev dktX5_look_1 : List UInt8 := dkwX5_look_1 ++ []
def dkwX5_look_0 : List UInt8 := [42, 180, 0, 199, 42, 180, 0, 196, 162, 0, 15, 42, 180, 0, 61, 42, 180, 0, 199, 51, 167, 0, 4, 2]
abbrev dktX5_look_0 : List UInt8 := dkwX5_look_0 ++ dktX5_look_1
theorem dksX5_look_0 : cX5_look.data.toList.drop 0 = dktX5_look_0 := by decide +kernel
theorem dksX5_look_1 : cX5_look.data.toList.drop 24 = dktX5_look_1 := dk_seg dksX5_look_0 24 rfl rfl
theorem dX5_look_0 : decode cX5_look 0 = .ok (.aload_n 0, 1) := dk_42 (dk_at dksX5_look_0 0 rfl rfl)
theorem dX5_look_1 : decode cX5_look 1 = .ok (.getfield 199, 3) := dk_180 0 199 (dk_at dksX5_look_0 1 rfl rfl)
theorem dX5_look_4 : decode cX5_look 4 = .ok (.aload_n 0, 1) := dk_42 (dk_at dksX5_look_0 4 rfl rfl)
theorem dX5_look_5 : decode cX5_look 5 = .ok (.getfield 196, 3) := dk_180 0 196 (dk_at dksX5_look_0 5 rfl rfl)
theorem dX5_look_8 : decode cX5_look 8 = .ok (.if_icmp .ge 15, 3) := dk_162 0 15 (dk_at dksX5_look_0 8 rfl rfl)
theorem dX5_look_11 : decode cX5_look 11 = .ok (.aload_n 0, 1) := dk_42 (dk_at dksX5_look_0 11 rfl rfl)
theorem dX5_look_12 : decode cX5_look 12 = .ok (.getfield 61, 3) := dk_180 0 61 (dk_at dksX5_look_0 12 rfl rfl)
theorem dX5_look_15 : decode cX5_look 15 = .ok (.aload_n 0, 1) := dk_42 (dk_at dksX5_look_0 15 rfl rfl)
theorem dX5_look_16 : decode cX5_look 16 = .ok (.getfield 199, 3) := dk_180 0 199 (dk_at dksX5_look_0 16 rfl rfl)
theorem dX5_look_19 : decode cX5_look 19 = .ok (.baload, 1) := dk_51 (dk_at dksX5_look_0 19 rfl rfl)
theorem dX5_look_20 : decode cX5_look 20 = .ok (.goto 4, 3) := dk_167 0 4 (dk_at dksX5_look_0 20 rfl rfl)
theorem dX5_look_23 : decode cX5_look 23 = .ok (.iconst (-1), 1) := dk_2 (dk_at dksX5_look_0 23 rfl rfl)
theorem dX5_look_24 : decode cX5_look 24 = .ok (.ireturn, 1) := dk_172 (dk_at dksX5_look_1 0 rfl rfl)
abbrev cX5_nameOf : ByteArray := prog_25_method_27_code
def yX5_nameOf : MethodName := ⟨RX5, "nameOf", "(I)I"⟩
def dkwX5_nameOf_2 : List UInt8 := [3, 172, 4, 172, 5, 172, 6, 172, 7, 172, 8, 172, 2, 172]
abbrev dktX5_nameOf_2 : List UInt8 := dkwX5_nameOf_2 ++ []
def dkwX5_nameOf_1 : List UInt8 := [171, 0, 0, 0, 0, 0, 71, 0, 0, 0, 6, 0, 0, 0, 98, 0, 0, 0, 63, 0, 0, 0, 100, 0, 0, 0, 61, 0, 0, 0, 102, 0, 0, 0, 67, 0, 0, 0, 111, 0, 0, 0, 65, 0, 0, 0, 119, 0, 0, 0, 59, 0, 0, 0, 121, 0, 0, 0, 69]
abbrev dktX5_nameOf_1 : List UInt8 := dkwX5_nameOf_1 ++ dktX5_nameOf_2
def dkwX5_nameOf_0 : List UInt8 := [26]
abbrev dktX5_nameOf_0 : List UInt8 := dkwX5_nameOf_0 ++ dktX5_nameOf_1
theorem dksX5_nameOf_0 : cX5_nameOf.data.toList.drop 0 = dktX5_nameOf_0 := by decide +kernel
theorem dksX5_nameOf_1 : cX5_nameOf.data.toList.drop 1 = dktX5_nameOf_1 := dk_seg dksX5_nameOf_0 1 rfl rfl
theorem dksX5_nameOf_2 : cX5_nameOf.data.toList.drop 60 = dktX5_nameOf_2 := dk_seg dksX5_nameOf_1 59 rfl rfl
theorem dX5_nameOf_0 : decode cX5_nameOf 0 = .ok (.iload_n 0, 1) := dk_26 (dk_at dksX5_nameOf_0 0 rfl rfl)
theorem dX5_nameOf_1 : decode cX5_nameOf 1 = .ok (.lookupswitch 71 #[(98, 63), (100, 61), (102, 67), (111, 65), (119, 59), (121, 69)], 59) := by decide +kernel
theorem dX5_nameOf_60 : decode cX5_nameOf 60 = .ok (.iconst 0, 1) := dk_3 (dk_at dksX5_nameOf_2 0 rfl rfl)
theorem dX5_nameOf_61 : decode cX5_nameOf 61 = .ok (.ireturn, 1) := dk_172 (dk_at dksX5_nameOf_2 1 rfl rfl)
theorem dX5_nameOf_62 : decode cX5_nameOf 62 = .ok (.iconst 1, 1) := dk_4 (dk_at dksX5_nameOf_2 2 rfl rfl)
theorem dX5_nameOf_63 : decode cX5_nameOf 63 = .ok (.ireturn, 1) := dk_172 (dk_at dksX5_nameOf_2 3 rfl rfl)
theorem dX5_nameOf_64 : decode cX5_nameOf 64 = .ok (.iconst 2, 1) := dk_5 (dk_at dksX5_nameOf_2 4 rfl rfl)
theorem dX5_nameOf_65 : decode cX5_nameOf 65 = .ok (.ireturn, 1) := dk_172 (dk_at dksX5_nameOf_2 5 rfl rfl)
theorem dX5_nameOf_66 : decode cX5_nameOf 66 = .ok (.iconst 3, 1) := dk_6 (dk_at dksX5_nameOf_2 6 rfl rfl)
theorem dX5_nameOf_67 : decode cX5_nameOf 67 = .ok (.ireturn, 1) := dk_172 (dk_at dksX5_nameOf_2 7 rfl rfl)
theorem dX5_nameOf_68 : decode cX5_nameOf 68 = .ok (.iconst 4, 1) := dk_7 (dk_at dksX5_nameOf_2 8 rfl rfl)
theorem dX5_nameOf_69 : decode cX5_nameOf 69 = .ok (.ireturn, 1) := dk_172 (dk_at dksX5_nameOf_2 9 rfl rfl)
theorem dX5_nameOf_70 : decode cX5_nameOf 70 = .ok (.iconst 5, 1) := dk_8 (dk_at dksX5_nameOf_2 10 rfl rfl)
theorem dX5_nameOf_71 : decode cX5_nameOf 71 = .ok (.ireturn, 1) := dk_172 (dk_at dksX5_nameOf_2 11 rfl rfl)
theorem dX5_nameOf_72 : decode cX5_nameOf 72 = .ok (.iconst (-1), 1) := dk_2 (dk_at dksX5_nameOf_2 12 rfl rfl)
theorem dX5_nameOf_73 : decode cX5_nameOf 73 = .ok (.ireturn, 1) := dk_172 (dk_at dksX5_nameOf_2 13 rfl rfl)
abbrev cX5_addStep : ByteArray := prog_25_method_26_code
def yX5_addStep : MethodName := ⟨RX5, "addStep", "(II)V"⟩
def dkwX5_addStep_1 : List UInt8 := [180, 0, 205, 96, 28, 79, 42, 89, 180, 0, 205, 4, 96, 181, 0, 205, 177]
abbrev dktX5_addStep_1 : List UInt8 := dkwX5_addStep_1 ++ []
def dkwX5_addStep_0 : List UInt8 := [42, 180, 0, 65, 17, 0, 130, 42, 180, 0, 205, 96, 27, 145, 84, 42, 180, 0, 68, 17, 0, 130, 42]
abbrev dktX5_addStep_0 : List UInt8 := dkwX5_addStep_0 ++ dktX5_addStep_1
theorem dksX5_addStep_0 : cX5_addStep.data.toList.drop 0 = dktX5_addStep_0 := by decide +kernel
theorem dksX5_addStep_1 : cX5_addStep.data.toList.drop 23 = dktX5_addStep_1 := dk_seg dksX5_addStep_0 23 rfl rfl
theorem dX5_addStep_0 : decode cX5_addStep 0 = .ok (.aload_n 0, 1) := dk_42 (dk_at dksX5_addStep_0 0 rfl rfl)
theorem dX5_addStep_1 : decode cX5_addStep 1 = .ok (.getfield 65, 3) := dk_180 0 65 (dk_at dksX5_addStep_0 1 rfl rfl)
theorem dX5_addStep_4 : decode cX5_addStep 4 = .ok (.sipush 130, 3) := dk_17 0 130 (dk_at dksX5_addStep_0 4 rfl rfl)
theorem dX5_addStep_7 : decode cX5_addStep 7 = .ok (.aload_n 0, 1) := dk_42 (dk_at dksX5_addStep_0 7 rfl rfl)
theorem dX5_addStep_8 : decode cX5_addStep 8 = .ok (.getfield 205, 3) := dk_180 0 205 (dk_at dksX5_addStep_0 8 rfl rfl)
theorem dX5_addStep_11 : decode cX5_addStep 11 = .ok (.iadd, 1) := dk_96 (dk_at dksX5_addStep_0 11 rfl rfl)
theorem dX5_addStep_12 : decode cX5_addStep 12 = .ok (.iload_n 1, 1) := dk_27 (dk_at dksX5_addStep_0 12 rfl rfl)
theorem dX5_addStep_13 : decode cX5_addStep 13 = .ok (.i2b, 1) := dk_145 (dk_at dksX5_addStep_0 13 rfl rfl)
theorem dX5_addStep_14 : decode cX5_addStep 14 = .ok (.bastore, 1) := dk_84 (dk_at dksX5_addStep_0 14 rfl rfl)
theorem dX5_addStep_15 : decode cX5_addStep 15 = .ok (.aload_n 0, 1) := dk_42 (dk_at dksX5_addStep_0 15 rfl rfl)
theorem dX5_addStep_16 : decode cX5_addStep 16 = .ok (.getfield 68, 3) := dk_180 0 68 (dk_at dksX5_addStep_0 16 rfl rfl)
theorem dX5_addStep_19 : decode cX5_addStep 19 = .ok (.sipush 130, 3) := dk_17 0 130 (dk_at dksX5_addStep_0 19 rfl rfl)
theorem dX5_addStep_22 : decode cX5_addStep 22 = .ok (.aload_n 0, 1) := dk_42 (dk_at dksX5_addStep_0 22 rfl rfl)
theorem dX5_addStep_23 : decode cX5_addStep 23 = .ok (.getfield 205, 3) := dk_180 0 205 (dk_at dksX5_addStep_1 0 rfl rfl)
theorem dX5_addStep_26 : decode cX5_addStep 26 = .ok (.iadd, 1) := dk_96 (dk_at dksX5_addStep_1 3 rfl rfl)
theorem dX5_addStep_27 : decode cX5_addStep 27 = .ok (.iload_n 2, 1) := dk_28 (dk_at dksX5_addStep_1 4 rfl rfl)
theorem dX5_addStep_28 : decode cX5_addStep 28 = .ok (.iastore, 1) := dk_79 (dk_at dksX5_addStep_1 5 rfl rfl)
theorem dX5_addStep_29 : decode cX5_addStep 29 = .ok (.aload_n 0, 1) := dk_42 (dk_at dksX5_addStep_1 6 rfl rfl)
theorem dX5_addStep_30 : decode cX5_addStep 30 = .ok (.dup, 1) := dk_89 (dk_at dksX5_addStep_1 7 rfl rfl)
theorem dX5_addStep_31 : decode cX5_addStep 31 = .ok (.getfield 205, 3) := dk_180 0 205 (dk_at dksX5_addStep_1 8 rfl rfl)
theorem dX5_addStep_34 : decode cX5_addStep 34 = .ok (.iconst 1, 1) := dk_4 (dk_at dksX5_addStep_1 11 rfl rfl)
theorem dX5_addStep_35 : decode cX5_addStep 35 = .ok (.iadd, 1) := dk_96 (dk_at dksX5_addStep_1 12 rfl rfl)
theorem dX5_addStep_36 : decode cX5_addStep 36 = .ok (.putfield 205, 3) := dk_181 0 205 (dk_at dksX5_addStep_1 13 rfl rfl)
theorem dX5_addStep_39 : decode cX5_addStep 39 = .ok (.return_, 1) := dk_177 (dk_at dksX5_addStep_1 16 rfl rfl)
abbrev cX5_opens : ByteArray := prog_25_method_28_code
def yX5_opens : MethodName := ⟨RX5, "opens", "()Z"⟩
def dkwX5_opens_1 : List UInt8 := [181, 0, 208, 42, 89, 180, 0, 199, 4, 96, 181, 0, 199, 4, 172]
abbrev dktX5_opens_1 : List UInt8 := dkwX5_opens_1 ++ []
def dkwX5_opens_0 : List UInt8 := [42, 180, 0, 208, 16, 6, 160, 0, 9, 42, 182, 0, 211, 3, 172, 42, 89, 180, 0, 208, 4, 96]
abbrev dktX5_opens_0 : List UInt8 := dkwX5_opens_0 ++ dktX5_opens_1
theorem dksX5_opens_0 : cX5_opens.data.toList.drop 0 = dktX5_opens_0 := by decide +kernel
theorem dksX5_opens_1 : cX5_opens.data.toList.drop 22 = dktX5_opens_1 := dk_seg dksX5_opens_0 22 rfl rfl
theorem dX5_opens_0 : decode cX5_opens 0 = .ok (.aload_n 0, 1) := dk_42 (dk_at dksX5_opens_0 0 rfl rfl)
theorem dX5_opens_1 : decode cX5_opens 1 = .ok (.getfield 208, 3) := dk_180 0 208 (dk_at dksX5_opens_0 1 rfl rfl)
theorem dX5_opens_4 : decode cX5_opens 4 = .ok (.bipush 6, 2) := dk_16 6 (dk_at dksX5_opens_0 4 rfl rfl)
theorem dX5_opens_6 : decode cX5_opens 6 = .ok (.if_icmp .ne 9, 3) := dk_160 0 9 (dk_at dksX5_opens_0 6 rfl rfl)
theorem dX5_opens_9 : decode cX5_opens 9 = .ok (.aload_n 0, 1) := dk_42 (dk_at dksX5_opens_0 9 rfl rfl)
theorem dX5_opens_10 : decode cX5_opens 10 = .ok (.invokevirtual 211, 3) := dk_182 0 211 (dk_at dksX5_opens_0 10 rfl rfl)
theorem dX5_opens_13 : decode cX5_opens 13 = .ok (.iconst 0, 1) := dk_3 (dk_at dksX5_opens_0 13 rfl rfl)
theorem dX5_opens_14 : decode cX5_opens 14 = .ok (.ireturn, 1) := dk_172 (dk_at dksX5_opens_0 14 rfl rfl)
theorem dX5_opens_15 : decode cX5_opens 15 = .ok (.aload_n 0, 1) := dk_42 (dk_at dksX5_opens_0 15 rfl rfl)
theorem dX5_opens_16 : decode cX5_opens 16 = .ok (.dup, 1) := dk_89 (dk_at dksX5_opens_0 16 rfl rfl)
theorem dX5_opens_17 : decode cX5_opens 17 = .ok (.getfield 208, 3) := dk_180 0 208 (dk_at dksX5_opens_0 17 rfl rfl)
theorem dX5_opens_20 : decode cX5_opens 20 = .ok (.iconst 1, 1) := dk_4 (dk_at dksX5_opens_0 20 rfl rfl)
theorem dX5_opens_21 : decode cX5_opens 21 = .ok (.iadd, 1) := dk_96 (dk_at dksX5_opens_0 21 rfl rfl)
theorem dX5_opens_22 : decode cX5_opens 22 = .ok (.putfield 208, 3) := dk_181 0 208 (dk_at dksX5_opens_1 0 rfl rfl)
theorem dX5_opens_25 : decode cX5_opens 25 = .ok (.aload_n 0, 1) := dk_42 (dk_at dksX5_opens_1 3 rfl rfl)
theorem dX5_opens_26 : decode cX5_opens 26 = .ok (.dup, 1) := dk_89 (dk_at dksX5_opens_1 4 rfl rfl)
theorem dX5_opens_27 : decode cX5_opens 27 = .ok (.getfield 199, 3) := dk_180 0 199 (dk_at dksX5_opens_1 5 rfl rfl)
theorem dX5_opens_30 : decode cX5_opens 30 = .ok (.iconst 1, 1) := dk_4 (dk_at dksX5_opens_1 8 rfl rfl)
theorem dX5_opens_31 : decode cX5_opens 31 = .ok (.iadd, 1) := dk_96 (dk_at dksX5_opens_1 9 rfl rfl)
theorem dX5_opens_32 : decode cX5_opens 32 = .ok (.putfield 199, 3) := dk_181 0 199 (dk_at dksX5_opens_1 10 rfl rfl)
theorem dX5_opens_35 : decode cX5_opens 35 = .ok (.iconst 1, 1) := dk_4 (dk_at dksX5_opens_1 13 rfl rfl)
theorem dX5_opens_36 : decode cX5_opens 36 = .ok (.ireturn, 1) := dk_172 (dk_at dksX5_opens_1 14 rfl rfl)
abbrev cX5_wrong : ByteArray := prog_25_method_25_code
def yX5_wrong : MethodName := ⟨RX5, "wrong", "()V"⟩
def dkwX5_wrong_0 : List UInt8 := [42, 180, 0, 202, 156, 0, 11, 42, 42, 180, 0, 199, 181, 0, 202, 177]
abbrev dktX5_wrong_0 : List UInt8 := dkwX5_wrong_0 ++ []
theorem dksX5_wrong_0 : cX5_wrong.data.toList.drop 0 = dktX5_wrong_0 := by decide +kernel
theorem dX5_wrong_0 : decode cX5_wrong 0 = .ok (.aload_n 0, 1) := dk_42 (dk_at dksX5_wrong_0 0 rfl rfl)
theorem dX5_wrong_1 : decode cX5_wrong 1 = .ok (.getfield 202, 3) := dk_180 0 202 (dk_at dksX5_wrong_0 1 rfl rfl)
theorem dX5_wrong_4 : decode cX5_wrong 4 = .ok (.ifCond .ge 11, 3) := dk_156 0 11 (dk_at dksX5_wrong_0 4 rfl rfl)
theorem dX5_wrong_7 : decode cX5_wrong 7 = .ok (.aload_n 0, 1) := dk_42 (dk_at dksX5_wrong_0 7 rfl rfl)
theorem dX5_wrong_8 : decode cX5_wrong 8 = .ok (.aload_n 0, 1) := dk_42 (dk_at dksX5_wrong_0 8 rfl rfl)
theorem dX5_wrong_9 : decode cX5_wrong 9 = .ok (.getfield 199, 3) := dk_180 0 199 (dk_at dksX5_wrong_0 9 rfl rfl)
theorem dX5_wrong_12 : decode cX5_wrong 12 = .ok (.putfield 202, 3) := dk_181 0 202 (dk_at dksX5_wrong_0 12 rfl rfl)
theorem dX5_wrong_15 : decode cX5_wrong 15 = .ok (.return_, 1) := dk_177 (dk_at dksX5_wrong_0 15 rfl rfl)
abbrev cX5_figure : ByteArray := prog_25_method_29_code
def yX5_figure : MethodName := ⟨RX5, "figure", "()V"⟩
def dkwX5_figure_3 : List UInt8 := [42, 182, 0, 211, 42, 4, 27, 182, 0, 218, 177]
abbrev dktX5_figure_3 : List UInt8 := dkwX5_figure_3 ++ []
def dkwX5_figure_2 : List UInt8 := [181, 0, 199, 167, 255, 211, 28, 153, 0, 17, 42, 182, 0, 214, 16, 48, 16, 57, 184, 0, 136, 153, 0, 7]
abbrev dktX5_figure_2 : List UInt8 := dkwX5_figure_2 ++ dktX5_figure_3
def dkwX5_figure_1 : List UInt8 := [16, 10, 27, 104, 42, 182, 0, 214, 96, 16, 48, 100, 60, 132, 2, 1, 42, 89, 180, 0, 199, 4, 96]
abbrev dktX5_figure_1 : List UInt8 := dkwX5_figure_1 ++ dktX5_figure_2
def dkwX5_figure_0 : List UInt8 := [3, 60, 3, 61, 28, 7, 162, 0, 46, 42, 182, 0, 214, 16, 48, 16, 57, 184, 0, 136, 153, 0, 32]
abbrev dktX5_figure_0 : List UInt8 := dkwX5_figure_0 ++ dktX5_figure_1
theorem dksX5_figure_0 : cX5_figure.data.toList.drop 0 = dktX5_figure_0 := by decide +kernel
theorem dksX5_figure_1 : cX5_figure.data.toList.drop 23 = dktX5_figure_1 := dk_seg dksX5_figure_0 23 rfl rfl
theorem dksX5_figure_2 : cX5_figure.data.toList.drop 46 = dktX5_figure_2 := dk_seg dksX5_figure_1 23 rfl rfl
theorem dksX5_figure_3 : cX5_figure.data.toList.drop 70 = dktX5_figure_3 := dk_seg dksX5_figure_2 24 rfl rfl
theorem dX5_figure_0 : decode cX5_figure 0 = .ok (.iconst 0, 1) := dk_3 (dk_at dksX5_figure_0 0 rfl rfl)
theorem dX5_figure_1 : decode cX5_figure 1 = .ok (.istore_n 1, 1) := dk_60 (dk_at dksX5_figure_0 1 rfl rfl)
theorem dX5_figure_2 : decode cX5_figure 2 = .ok (.iconst 0, 1) := dk_3 (dk_at dksX5_figure_0 2 rfl rfl)
theorem dX5_figure_3 : decode cX5_figure 3 = .ok (.istore_n 2, 1) := dk_61 (dk_at dksX5_figure_0 3 rfl rfl)
theorem dX5_figure_4 : decode cX5_figure 4 = .ok (.iload_n 2, 1) := dk_28 (dk_at dksX5_figure_0 4 rfl rfl)
theorem dX5_figure_5 : decode cX5_figure 5 = .ok (.iconst 4, 1) := dk_7 (dk_at dksX5_figure_0 5 rfl rfl)
theorem dX5_figure_6 : decode cX5_figure 6 = .ok (.if_icmp .ge 46, 3) := dk_162 0 46 (dk_at dksX5_figure_0 6 rfl rfl)
theorem dX5_figure_9 : decode cX5_figure 9 = .ok (.aload_n 0, 1) := dk_42 (dk_at dksX5_figure_0 9 rfl rfl)
theorem dX5_figure_10 : decode cX5_figure 10 = .ok (.invokevirtual 214, 3) := dk_182 0 214 (dk_at dksX5_figure_0 10 rfl rfl)
theorem dX5_figure_13 : decode cX5_figure 13 = .ok (.bipush 48, 2) := dk_16 48 (dk_at dksX5_figure_0 13 rfl rfl)
theorem dX5_figure_15 : decode cX5_figure 15 = .ok (.bipush 57, 2) := dk_16 57 (dk_at dksX5_figure_0 15 rfl rfl)
theorem dX5_figure_17 : decode cX5_figure 17 = .ok (.invokestatic 136, 3) := dk_184 0 136 (dk_at dksX5_figure_0 17 rfl rfl)
theorem dX5_figure_20 : decode cX5_figure 20 = .ok (.ifCond .eq 32, 3) := dk_153 0 32 (dk_at dksX5_figure_0 20 rfl rfl)
theorem dX5_figure_23 : decode cX5_figure 23 = .ok (.bipush 10, 2) := dk_16 10 (dk_at dksX5_figure_1 0 rfl rfl)
theorem dX5_figure_25 : decode cX5_figure 25 = .ok (.iload_n 1, 1) := dk_27 (dk_at dksX5_figure_1 2 rfl rfl)
theorem dX5_figure_26 : decode cX5_figure 26 = .ok (.imul, 1) := dk_104 (dk_at dksX5_figure_1 3 rfl rfl)
theorem dX5_figure_27 : decode cX5_figure 27 = .ok (.aload_n 0, 1) := dk_42 (dk_at dksX5_figure_1 4 rfl rfl)
theorem dX5_figure_28 : decode cX5_figure 28 = .ok (.invokevirtual 214, 3) := dk_182 0 214 (dk_at dksX5_figure_1 5 rfl rfl)
theorem dX5_figure_31 : decode cX5_figure 31 = .ok (.iadd, 1) := dk_96 (dk_at dksX5_figure_1 8 rfl rfl)
theorem dX5_figure_32 : decode cX5_figure 32 = .ok (.bipush 48, 2) := dk_16 48 (dk_at dksX5_figure_1 9 rfl rfl)
theorem dX5_figure_34 : decode cX5_figure 34 = .ok (.isub, 1) := dk_100 (dk_at dksX5_figure_1 11 rfl rfl)
theorem dX5_figure_35 : decode cX5_figure 35 = .ok (.istore_n 1, 1) := dk_60 (dk_at dksX5_figure_1 12 rfl rfl)
theorem dX5_figure_36 : decode cX5_figure 36 = .ok (.iinc 2 1, 3) := dk_132 2 1 (dk_at dksX5_figure_1 13 rfl rfl)
theorem dX5_figure_39 : decode cX5_figure 39 = .ok (.aload_n 0, 1) := dk_42 (dk_at dksX5_figure_1 16 rfl rfl)
theorem dX5_figure_40 : decode cX5_figure 40 = .ok (.dup, 1) := dk_89 (dk_at dksX5_figure_1 17 rfl rfl)
theorem dX5_figure_41 : decode cX5_figure 41 = .ok (.getfield 199, 3) := dk_180 0 199 (dk_at dksX5_figure_1 18 rfl rfl)
theorem dX5_figure_44 : decode cX5_figure 44 = .ok (.iconst 1, 1) := dk_4 (dk_at dksX5_figure_1 21 rfl rfl)
theorem dX5_figure_45 : decode cX5_figure 45 = .ok (.iadd, 1) := dk_96 (dk_at dksX5_figure_1 22 rfl rfl)
theorem dX5_figure_46 : decode cX5_figure 46 = .ok (.putfield 199, 3) := dk_181 0 199 (dk_at dksX5_figure_2 0 rfl rfl)
theorem dX5_figure_49 : decode cX5_figure 49 = .ok (.goto (-45), 3) := dk_167 255 211 (dk_at dksX5_figure_2 3 rfl rfl)
theorem dX5_figure_52 : decode cX5_figure 52 = .ok (.iload_n 2, 1) := dk_28 (dk_at dksX5_figure_2 6 rfl rfl)
theorem dX5_figure_53 : decode cX5_figure 53 = .ok (.ifCond .eq 17, 3) := dk_153 0 17 (dk_at dksX5_figure_2 7 rfl rfl)
theorem dX5_figure_56 : decode cX5_figure 56 = .ok (.aload_n 0, 1) := dk_42 (dk_at dksX5_figure_2 10 rfl rfl)
theorem dX5_figure_57 : decode cX5_figure 57 = .ok (.invokevirtual 214, 3) := dk_182 0 214 (dk_at dksX5_figure_2 11 rfl rfl)
theorem dX5_figure_60 : decode cX5_figure 60 = .ok (.bipush 48, 2) := dk_16 48 (dk_at dksX5_figure_2 14 rfl rfl)
theorem dX5_figure_62 : decode cX5_figure 62 = .ok (.bipush 57, 2) := dk_16 57 (dk_at dksX5_figure_2 16 rfl rfl)
theorem dX5_figure_64 : decode cX5_figure 64 = .ok (.invokestatic 136, 3) := dk_184 0 136 (dk_at dksX5_figure_2 18 rfl rfl)
theorem dX5_figure_67 : decode cX5_figure 67 = .ok (.ifCond .eq 7, 3) := dk_153 0 7 (dk_at dksX5_figure_2 21 rfl rfl)
theorem dX5_figure_70 : decode cX5_figure 70 = .ok (.aload_n 0, 1) := dk_42 (dk_at dksX5_figure_3 0 rfl rfl)
theorem dX5_figure_71 : decode cX5_figure 71 = .ok (.invokevirtual 211, 3) := dk_182 0 211 (dk_at dksX5_figure_3 1 rfl rfl)
theorem dX5_figure_74 : decode cX5_figure 74 = .ok (.aload_n 0, 1) := dk_42 (dk_at dksX5_figure_3 4 rfl rfl)
theorem dX5_figure_75 : decode cX5_figure 75 = .ok (.iconst 1, 1) := dk_4 (dk_at dksX5_figure_3 5 rfl rfl)
theorem dX5_figure_76 : decode cX5_figure 76 = .ok (.iload_n 1, 1) := dk_27 (dk_at dksX5_figure_3 6 rfl rfl)
theorem dX5_figure_77 : decode cX5_figure 77 = .ok (.invokevirtual 218, 3) := dk_182 0 218 (dk_at dksX5_figure_3 7 rfl rfl)
theorem dX5_figure_80 : decode cX5_figure 80 = .ok (.return_, 1) := dk_177 (dk_at dksX5_figure_3 10 rfl rfl)
abbrev cX5_hard : ByteArray := prog_25_method_45_code
def yX5_hard : MethodName := ⟨RX5, "hard", "(I)I"⟩
def dkwX5_hard_0 : List UInt8 := [42, 27, 182, 0, 183, 153, 0, 15, 42, 27, 42, 180, 0, 153, 182, 1, 20, 167, 0, 4, 2, 172]
abbrev dktX5_hard_0 : List UInt8 := dkwX5_hard_0 ++ []
theorem dksX5_hard_0 : cX5_hard.data.toList.drop 0 = dktX5_hard_0 := by decide +kernel
theorem dX5_hard_0 : decode cX5_hard 0 = .ok (.aload_n 0, 1) := dk_42 (dk_at dksX5_hard_0 0 rfl rfl)
theorem dX5_hard_1 : decode cX5_hard 1 = .ok (.iload_n 1, 1) := dk_27 (dk_at dksX5_hard_0 1 rfl rfl)
theorem dX5_hard_2 : decode cX5_hard 2 = .ok (.invokevirtual 183, 3) := dk_182 0 183 (dk_at dksX5_hard_0 2 rfl rfl)
theorem dX5_hard_5 : decode cX5_hard 5 = .ok (.ifCond .eq 15, 3) := dk_153 0 15 (dk_at dksX5_hard_0 5 rfl rfl)
theorem dX5_hard_8 : decode cX5_hard 8 = .ok (.aload_n 0, 1) := dk_42 (dk_at dksX5_hard_0 8 rfl rfl)
theorem dX5_hard_9 : decode cX5_hard 9 = .ok (.iload_n 1, 1) := dk_27 (dk_at dksX5_hard_0 9 rfl rfl)
theorem dX5_hard_10 : decode cX5_hard 10 = .ok (.aload_n 0, 1) := dk_42 (dk_at dksX5_hard_0 10 rfl rfl)
theorem dX5_hard_11 : decode cX5_hard 11 = .ok (.getfield 153, 3) := dk_180 0 153 (dk_at dksX5_hard_0 11 rfl rfl)
theorem dX5_hard_14 : decode cX5_hard 14 = .ok (.invokevirtual 276, 3) := dk_182 1 20 (dk_at dksX5_hard_0 14 rfl rfl)
theorem dX5_hard_17 : decode cX5_hard 17 = .ok (.goto 4, 3) := dk_167 0 4 (dk_at dksX5_hard_0 17 rfl rfl)
theorem dX5_hard_20 : decode cX5_hard 20 = .ok (.iconst (-1), 1) := dk_2 (dk_at dksX5_hard_0 20 rfl rfl)
theorem dX5_hard_21 : decode cX5_hard 21 = .ok (.ireturn, 1) := dk_172 (dk_at dksX5_hard_0 21 rfl rfl)
abbrev cX5_hardOn : ByteArray := prog_25_method_44_code
def yX5_hardOn : MethodName := ⟨RX5, "hardOn", "(II)I"⟩
def dkwX5_hardOn_6 : List UInt8 := [21, 4, 16, 9, 164, 0, 8, 16, 9, 167, 0, 5, 21, 4, 172]
abbrev dktX5_hardOn_6 : List UInt8 := dkwX5_hardOn_6 ++ []
def dkwX5_hardOn_5 : List UInt8 := [42, 180, 0, 81, 8, 28, 79, 42, 3, 182, 1, 17, 54, 4, 21, 4, 156, 0, 7, 3, 167, 0, 17]
abbrev dktX5_hardOn_5 : List UInt8 := dkwX5_hardOn_5 ++ dktX5_hardOn_6
def dkwX5_hardOn_4 : List UInt8 := [42, 180, 0, 81, 6, 42, 27, 28, 182, 1, 14, 79, 42, 180, 0, 81, 7, 42, 180, 0, 36, 27, 46, 79]
abbrev dktX5_hardOn_4 : List UInt8 := dkwX5_hardOn_4 ++ dktX5_hardOn_5
def dkwX5_hardOn_3 : List UInt8 := [42, 180, 0, 81, 4, 29, 79, 42, 180, 0, 81, 5, 42, 180, 0, 15, 42, 180, 0, 18, 27, 46, 46, 79]
abbrev dktX5_hardOn_3 : List UInt8 := dkwX5_hardOn_3 ++ dktX5_hardOn_4
def dkwX5_hardOn_2 : List UInt8 := [46, 104, 100, 54, 4, 42, 180, 1, 7, 153, 0, 77, 42, 180, 0, 81, 3, 42, 180, 0, 27, 27, 46, 79]
abbrev dktX5_hardOn_2 : List UInt8 := dkwX5_hardOn_2 ++ dktX5_hardOn_3
def dkwX5_hardOn_1 : List UInt8 := [180, 0, 27, 27, 46, 5, 108, 29, 6, 162, 0, 7, 4, 167, 0, 4, 3, 96, 6, 42, 180, 0, 36, 27]
abbrev dktX5_hardOn_1 : List UInt8 := dkwX5_hardOn_1 ++ dktX5_hardOn_2
def dkwX5_hardOn_0 : List UInt8 := [42, 180, 0, 33, 27, 46, 28, 164, 0, 14, 42, 180, 0, 33, 27, 46, 28, 100, 167, 0, 4, 3, 62, 42]
abbrev dktX5_hardOn_0 : List UInt8 := dkwX5_hardOn_0 ++ dktX5_hardOn_1
theorem dksX5_hardOn_0 : cX5_hardOn.data.toList.drop 0 = dktX5_hardOn_0 := by decide +kernel
theorem dksX5_hardOn_1 : cX5_hardOn.data.toList.drop 24 = dktX5_hardOn_1 := dk_seg dksX5_hardOn_0 24 rfl rfl
theorem dksX5_hardOn_2 : cX5_hardOn.data.toList.drop 48 = dktX5_hardOn_2 := dk_seg dksX5_hardOn_1 24 rfl rfl
theorem dksX5_hardOn_3 : cX5_hardOn.data.toList.drop 72 = dktX5_hardOn_3 := dk_seg dksX5_hardOn_2 24 rfl rfl
theorem dksX5_hardOn_4 : cX5_hardOn.data.toList.drop 96 = dktX5_hardOn_4 := dk_seg dksX5_hardOn_3 24 rfl rfl
theorem dksX5_hardOn_5 : cX5_hardOn.data.toList.drop 120 = dktX5_hardOn_5 := dk_seg dksX5_hardOn_4 24 rfl rfl
theorem dksX5_hardOn_6 : cX5_hardOn.data.toList.drop 143 = dktX5_hardOn_6 := dk_seg dksX5_hardOn_5 23 rfl rfl
theorem dX5_hardOn_0 : decode cX5_hardOn 0 = .ok (.aload_n 0, 1) := dk_42 (dk_at dksX5_hardOn_0 0 rfl rfl)
theorem dX5_hardOn_1 : decode cX5_hardOn 1 = .ok (.getfield 33, 3) := dk_180 0 33 (dk_at dksX5_hardOn_0 1 rfl rfl)
theorem dX5_hardOn_4 : decode cX5_hardOn 4 = .ok (.iload_n 1, 1) := dk_27 (dk_at dksX5_hardOn_0 4 rfl rfl)
theorem dX5_hardOn_5 : decode cX5_hardOn 5 = .ok (.iaload, 1) := dk_46 (dk_at dksX5_hardOn_0 5 rfl rfl)
theorem dX5_hardOn_6 : decode cX5_hardOn 6 = .ok (.iload_n 2, 1) := dk_28 (dk_at dksX5_hardOn_0 6 rfl rfl)
theorem dX5_hardOn_7 : decode cX5_hardOn 7 = .ok (.if_icmp .le 14, 3) := dk_164 0 14 (dk_at dksX5_hardOn_0 7 rfl rfl)
theorem dX5_hardOn_10 : decode cX5_hardOn 10 = .ok (.aload_n 0, 1) := dk_42 (dk_at dksX5_hardOn_0 10 rfl rfl)
theorem dX5_hardOn_11 : decode cX5_hardOn 11 = .ok (.getfield 33, 3) := dk_180 0 33 (dk_at dksX5_hardOn_0 11 rfl rfl)
theorem dX5_hardOn_14 : decode cX5_hardOn 14 = .ok (.iload_n 1, 1) := dk_27 (dk_at dksX5_hardOn_0 14 rfl rfl)
theorem dX5_hardOn_15 : decode cX5_hardOn 15 = .ok (.iaload, 1) := dk_46 (dk_at dksX5_hardOn_0 15 rfl rfl)
theorem dX5_hardOn_16 : decode cX5_hardOn 16 = .ok (.iload_n 2, 1) := dk_28 (dk_at dksX5_hardOn_0 16 rfl rfl)
theorem dX5_hardOn_17 : decode cX5_hardOn 17 = .ok (.isub, 1) := dk_100 (dk_at dksX5_hardOn_0 17 rfl rfl)
theorem dX5_hardOn_18 : decode cX5_hardOn 18 = .ok (.goto 4, 3) := dk_167 0 4 (dk_at dksX5_hardOn_0 18 rfl rfl)
theorem dX5_hardOn_21 : decode cX5_hardOn 21 = .ok (.iconst 0, 1) := dk_3 (dk_at dksX5_hardOn_0 21 rfl rfl)
theorem dX5_hardOn_22 : decode cX5_hardOn 22 = .ok (.istore_n 3, 1) := dk_62 (dk_at dksX5_hardOn_0 22 rfl rfl)
theorem dX5_hardOn_23 : decode cX5_hardOn 23 = .ok (.aload_n 0, 1) := dk_42 (dk_at dksX5_hardOn_0 23 rfl rfl)
theorem dX5_hardOn_24 : decode cX5_hardOn 24 = .ok (.getfield 27, 3) := dk_180 0 27 (dk_at dksX5_hardOn_1 0 rfl rfl)
theorem dX5_hardOn_27 : decode cX5_hardOn 27 = .ok (.iload_n 1, 1) := dk_27 (dk_at dksX5_hardOn_1 3 rfl rfl)
theorem dX5_hardOn_28 : decode cX5_hardOn 28 = .ok (.iaload, 1) := dk_46 (dk_at dksX5_hardOn_1 4 rfl rfl)
theorem dX5_hardOn_29 : decode cX5_hardOn 29 = .ok (.iconst 2, 1) := dk_5 (dk_at dksX5_hardOn_1 5 rfl rfl)
theorem dX5_hardOn_30 : decode cX5_hardOn 30 = .ok (.idiv, 1) := dk_108 (dk_at dksX5_hardOn_1 6 rfl rfl)
theorem dX5_hardOn_31 : decode cX5_hardOn 31 = .ok (.iload_n 3, 1) := dk_29 (dk_at dksX5_hardOn_1 7 rfl rfl)
theorem dX5_hardOn_32 : decode cX5_hardOn 32 = .ok (.iconst 3, 1) := dk_6 (dk_at dksX5_hardOn_1 8 rfl rfl)
theorem dX5_hardOn_33 : decode cX5_hardOn 33 = .ok (.if_icmp .ge 7, 3) := dk_162 0 7 (dk_at dksX5_hardOn_1 9 rfl rfl)
theorem dX5_hardOn_36 : decode cX5_hardOn 36 = .ok (.iconst 1, 1) := dk_4 (dk_at dksX5_hardOn_1 12 rfl rfl)
theorem dX5_hardOn_37 : decode cX5_hardOn 37 = .ok (.goto 4, 3) := dk_167 0 4 (dk_at dksX5_hardOn_1 13 rfl rfl)
theorem dX5_hardOn_40 : decode cX5_hardOn 40 = .ok (.iconst 0, 1) := dk_3 (dk_at dksX5_hardOn_1 16 rfl rfl)
theorem dX5_hardOn_41 : decode cX5_hardOn 41 = .ok (.iadd, 1) := dk_96 (dk_at dksX5_hardOn_1 17 rfl rfl)
theorem dX5_hardOn_42 : decode cX5_hardOn 42 = .ok (.iconst 3, 1) := dk_6 (dk_at dksX5_hardOn_1 18 rfl rfl)
theorem dX5_hardOn_43 : decode cX5_hardOn 43 = .ok (.aload_n 0, 1) := dk_42 (dk_at dksX5_hardOn_1 19 rfl rfl)
theorem dX5_hardOn_44 : decode cX5_hardOn 44 = .ok (.getfield 36, 3) := dk_180 0 36 (dk_at dksX5_hardOn_1 20 rfl rfl)
theorem dX5_hardOn_47 : decode cX5_hardOn 47 = .ok (.iload_n 1, 1) := dk_27 (dk_at dksX5_hardOn_1 23 rfl rfl)
theorem dX5_hardOn_48 : decode cX5_hardOn 48 = .ok (.iaload, 1) := dk_46 (dk_at dksX5_hardOn_2 0 rfl rfl)
theorem dX5_hardOn_49 : decode cX5_hardOn 49 = .ok (.imul, 1) := dk_104 (dk_at dksX5_hardOn_2 1 rfl rfl)
theorem dX5_hardOn_50 : decode cX5_hardOn 50 = .ok (.isub, 1) := dk_100 (dk_at dksX5_hardOn_2 2 rfl rfl)
theorem dX5_hardOn_51 : decode cX5_hardOn 51 = .ok (.istore 4, 2) := dk_54 4 (dk_at dksX5_hardOn_2 3 rfl rfl)
theorem dX5_hardOn_53 : decode cX5_hardOn 53 = .ok (.aload_n 0, 1) := dk_42 (dk_at dksX5_hardOn_2 5 rfl rfl)
theorem dX5_hardOn_54 : decode cX5_hardOn 54 = .ok (.getfield 263, 3) := dk_180 1 7 (dk_at dksX5_hardOn_2 6 rfl rfl)
theorem dX5_hardOn_57 : decode cX5_hardOn 57 = .ok (.ifCond .eq 77, 3) := dk_153 0 77 (dk_at dksX5_hardOn_2 9 rfl rfl)
theorem dX5_hardOn_60 : decode cX5_hardOn 60 = .ok (.aload_n 0, 1) := dk_42 (dk_at dksX5_hardOn_2 12 rfl rfl)
theorem dX5_hardOn_61 : decode cX5_hardOn 61 = .ok (.getfield 81, 3) := dk_180 0 81 (dk_at dksX5_hardOn_2 13 rfl rfl)
theorem dX5_hardOn_64 : decode cX5_hardOn 64 = .ok (.iconst 0, 1) := dk_3 (dk_at dksX5_hardOn_2 16 rfl rfl)
theorem dX5_hardOn_65 : decode cX5_hardOn 65 = .ok (.aload_n 0, 1) := dk_42 (dk_at dksX5_hardOn_2 17 rfl rfl)
theorem dX5_hardOn_66 : decode cX5_hardOn 66 = .ok (.getfield 27, 3) := dk_180 0 27 (dk_at dksX5_hardOn_2 18 rfl rfl)
theorem dX5_hardOn_69 : decode cX5_hardOn 69 = .ok (.iload_n 1, 1) := dk_27 (dk_at dksX5_hardOn_2 21 rfl rfl)
theorem dX5_hardOn_70 : decode cX5_hardOn 70 = .ok (.iaload, 1) := dk_46 (dk_at dksX5_hardOn_2 22 rfl rfl)
theorem dX5_hardOn_71 : decode cX5_hardOn 71 = .ok (.iastore, 1) := dk_79 (dk_at dksX5_hardOn_2 23 rfl rfl)
theorem dX5_hardOn_72 : decode cX5_hardOn 72 = .ok (.aload_n 0, 1) := dk_42 (dk_at dksX5_hardOn_3 0 rfl rfl)
theorem dX5_hardOn_73 : decode cX5_hardOn 73 = .ok (.getfield 81, 3) := dk_180 0 81 (dk_at dksX5_hardOn_3 1 rfl rfl)
theorem dX5_hardOn_76 : decode cX5_hardOn 76 = .ok (.iconst 1, 1) := dk_4 (dk_at dksX5_hardOn_3 4 rfl rfl)
theorem dX5_hardOn_77 : decode cX5_hardOn 77 = .ok (.iload_n 3, 1) := dk_29 (dk_at dksX5_hardOn_3 5 rfl rfl)
theorem dX5_hardOn_78 : decode cX5_hardOn 78 = .ok (.iastore, 1) := dk_79 (dk_at dksX5_hardOn_3 6 rfl rfl)
theorem dX5_hardOn_79 : decode cX5_hardOn 79 = .ok (.aload_n 0, 1) := dk_42 (dk_at dksX5_hardOn_3 7 rfl rfl)
theorem dX5_hardOn_80 : decode cX5_hardOn 80 = .ok (.getfield 81, 3) := dk_180 0 81 (dk_at dksX5_hardOn_3 8 rfl rfl)
theorem dX5_hardOn_83 : decode cX5_hardOn 83 = .ok (.iconst 2, 1) := dk_5 (dk_at dksX5_hardOn_3 11 rfl rfl)
theorem dX5_hardOn_84 : decode cX5_hardOn 84 = .ok (.aload_n 0, 1) := dk_42 (dk_at dksX5_hardOn_3 12 rfl rfl)
theorem dX5_hardOn_85 : decode cX5_hardOn 85 = .ok (.getfield 15, 3) := dk_180 0 15 (dk_at dksX5_hardOn_3 13 rfl rfl)
theorem dX5_hardOn_88 : decode cX5_hardOn 88 = .ok (.aload_n 0, 1) := dk_42 (dk_at dksX5_hardOn_3 16 rfl rfl)
theorem dX5_hardOn_89 : decode cX5_hardOn 89 = .ok (.getfield 18, 3) := dk_180 0 18 (dk_at dksX5_hardOn_3 17 rfl rfl)
theorem dX5_hardOn_92 : decode cX5_hardOn 92 = .ok (.iload_n 1, 1) := dk_27 (dk_at dksX5_hardOn_3 20 rfl rfl)
theorem dX5_hardOn_93 : decode cX5_hardOn 93 = .ok (.iaload, 1) := dk_46 (dk_at dksX5_hardOn_3 21 rfl rfl)
theorem dX5_hardOn_94 : decode cX5_hardOn 94 = .ok (.iaload, 1) := dk_46 (dk_at dksX5_hardOn_3 22 rfl rfl)
theorem dX5_hardOn_95 : decode cX5_hardOn 95 = .ok (.iastore, 1) := dk_79 (dk_at dksX5_hardOn_3 23 rfl rfl)
theorem dX5_hardOn_96 : decode cX5_hardOn 96 = .ok (.aload_n 0, 1) := dk_42 (dk_at dksX5_hardOn_4 0 rfl rfl)
theorem dX5_hardOn_97 : decode cX5_hardOn 97 = .ok (.getfield 81, 3) := dk_180 0 81 (dk_at dksX5_hardOn_4 1 rfl rfl)
theorem dX5_hardOn_100 : decode cX5_hardOn 100 = .ok (.iconst 3, 1) := dk_6 (dk_at dksX5_hardOn_4 4 rfl rfl)
theorem dX5_hardOn_101 : decode cX5_hardOn 101 = .ok (.aload_n 0, 1) := dk_42 (dk_at dksX5_hardOn_4 5 rfl rfl)
theorem dX5_hardOn_102 : decode cX5_hardOn 102 = .ok (.iload_n 1, 1) := dk_27 (dk_at dksX5_hardOn_4 6 rfl rfl)
theorem dX5_hardOn_103 : decode cX5_hardOn 103 = .ok (.iload_n 2, 1) := dk_28 (dk_at dksX5_hardOn_4 7 rfl rfl)
theorem dX5_hardOn_104 : decode cX5_hardOn 104 = .ok (.invokevirtual 270, 3) := dk_182 1 14 (dk_at dksX5_hardOn_4 8 rfl rfl)
theorem dX5_hardOn_107 : decode cX5_hardOn 107 = .ok (.iastore, 1) := dk_79 (dk_at dksX5_hardOn_4 11 rfl rfl)
theorem dX5_hardOn_108 : decode cX5_hardOn 108 = .ok (.aload_n 0, 1) := dk_42 (dk_at dksX5_hardOn_4 12 rfl rfl)
theorem dX5_hardOn_109 : decode cX5_hardOn 109 = .ok (.getfield 81, 3) := dk_180 0 81 (dk_at dksX5_hardOn_4 13 rfl rfl)
theorem dX5_hardOn_112 : decode cX5_hardOn 112 = .ok (.iconst 4, 1) := dk_7 (dk_at dksX5_hardOn_4 16 rfl rfl)
theorem dX5_hardOn_113 : decode cX5_hardOn 113 = .ok (.aload_n 0, 1) := dk_42 (dk_at dksX5_hardOn_4 17 rfl rfl)
theorem dX5_hardOn_114 : decode cX5_hardOn 114 = .ok (.getfield 36, 3) := dk_180 0 36 (dk_at dksX5_hardOn_4 18 rfl rfl)
theorem dX5_hardOn_117 : decode cX5_hardOn 117 = .ok (.iload_n 1, 1) := dk_27 (dk_at dksX5_hardOn_4 21 rfl rfl)
theorem dX5_hardOn_118 : decode cX5_hardOn 118 = .ok (.iaload, 1) := dk_46 (dk_at dksX5_hardOn_4 22 rfl rfl)
theorem dX5_hardOn_119 : decode cX5_hardOn 119 = .ok (.iastore, 1) := dk_79 (dk_at dksX5_hardOn_4 23 rfl rfl)
theorem dX5_hardOn_120 : decode cX5_hardOn 120 = .ok (.aload_n 0, 1) := dk_42 (dk_at dksX5_hardOn_5 0 rfl rfl)
theorem dX5_hardOn_121 : decode cX5_hardOn 121 = .ok (.getfield 81, 3) := dk_180 0 81 (dk_at dksX5_hardOn_5 1 rfl rfl)
theorem dX5_hardOn_124 : decode cX5_hardOn 124 = .ok (.iconst 5, 1) := dk_8 (dk_at dksX5_hardOn_5 4 rfl rfl)
theorem dX5_hardOn_125 : decode cX5_hardOn 125 = .ok (.iload_n 2, 1) := dk_28 (dk_at dksX5_hardOn_5 5 rfl rfl)
theorem dX5_hardOn_126 : decode cX5_hardOn 126 = .ok (.iastore, 1) := dk_79 (dk_at dksX5_hardOn_5 6 rfl rfl)
theorem dX5_hardOn_127 : decode cX5_hardOn 127 = .ok (.aload_n 0, 1) := dk_42 (dk_at dksX5_hardOn_5 7 rfl rfl)
theorem dX5_hardOn_128 : decode cX5_hardOn 128 = .ok (.iconst 0, 1) := dk_3 (dk_at dksX5_hardOn_5 8 rfl rfl)
theorem dX5_hardOn_129 : decode cX5_hardOn 129 = .ok (.invokevirtual 273, 3) := dk_182 1 17 (dk_at dksX5_hardOn_5 9 rfl rfl)
theorem dX5_hardOn_132 : decode cX5_hardOn 132 = .ok (.istore 4, 2) := dk_54 4 (dk_at dksX5_hardOn_5 12 rfl rfl)
theorem dX5_hardOn_134 : decode cX5_hardOn 134 = .ok (.iload 4, 2) := dk_21 4 (dk_at dksX5_hardOn_5 14 rfl rfl)
theorem dX5_hardOn_136 : decode cX5_hardOn 136 = .ok (.ifCond .ge 7, 3) := dk_156 0 7 (dk_at dksX5_hardOn_5 16 rfl rfl)
theorem dX5_hardOn_139 : decode cX5_hardOn 139 = .ok (.iconst 0, 1) := dk_3 (dk_at dksX5_hardOn_5 19 rfl rfl)
theorem dX5_hardOn_140 : decode cX5_hardOn 140 = .ok (.goto 17, 3) := dk_167 0 17 (dk_at dksX5_hardOn_5 20 rfl rfl)
theorem dX5_hardOn_143 : decode cX5_hardOn 143 = .ok (.iload 4, 2) := dk_21 4 (dk_at dksX5_hardOn_6 0 rfl rfl)
theorem dX5_hardOn_145 : decode cX5_hardOn 145 = .ok (.bipush 9, 2) := dk_16 9 (dk_at dksX5_hardOn_6 2 rfl rfl)
theorem dX5_hardOn_147 : decode cX5_hardOn 147 = .ok (.if_icmp .le 8, 3) := dk_164 0 8 (dk_at dksX5_hardOn_6 4 rfl rfl)
theorem dX5_hardOn_150 : decode cX5_hardOn 150 = .ok (.bipush 9, 2) := dk_16 9 (dk_at dksX5_hardOn_6 7 rfl rfl)
theorem dX5_hardOn_152 : decode cX5_hardOn 152 = .ok (.goto 5, 3) := dk_167 0 5 (dk_at dksX5_hardOn_6 9 rfl rfl)
theorem dX5_hardOn_155 : decode cX5_hardOn 155 = .ok (.iload 4, 2) := dk_21 4 (dk_at dksX5_hardOn_6 12 rfl rfl)
theorem dX5_hardOn_157 : decode cX5_hardOn 157 = .ok (.ireturn, 1) := dk_172 (dk_at dksX5_hardOn_6 14 rfl rfl)
abbrev cX5_othersWith : ByteArray := prog_25_method_43_code
def yX5_othersWith : MethodName := ⟨RX5, "othersWith", "(II)I"⟩
def dkwX5_othersWith_3 : List UInt8 := [172]
abbrev dktX5_othersWith_3 : List UInt8 := dkwX5_othersWith_3 ++ []
def dkwX5_othersWith_2 : List UInt8 := [46, 160, 0, 16, 42, 21, 4, 28, 182, 1, 11, 153, 0, 6, 132, 3, 1, 132, 4, 1, 167, 255, 193, 29]
abbrev dktX5_othersWith_2 : List UInt8 := dkwX5_othersWith_2 ++ dktX5_othersWith_3
def dkwX5_othersWith_1 : List UInt8 := [21, 4, 46, 42, 180, 0, 18, 27, 46, 160, 0, 32, 42, 180, 0, 24, 21, 4, 46, 42, 180, 0, 24, 27]
abbrev dktX5_othersWith_1 : List UInt8 := dkwX5_othersWith_1 ++ dktX5_othersWith_2
def dkwX5_othersWith_0 : List UInt8 := [3, 62, 3, 54, 4, 21, 4, 42, 180, 0, 143, 162, 0, 60, 21, 4, 27, 159, 0, 48, 42, 180, 0, 18]
abbrev dktX5_othersWith_0 : List UInt8 := dkwX5_othersWith_0 ++ dktX5_othersWith_1
theorem dksX5_othersWith_0 : cX5_othersWith.data.toList.drop 0 = dktX5_othersWith_0 := by decide +kernel
theorem dksX5_othersWith_1 : cX5_othersWith.data.toList.drop 24 = dktX5_othersWith_1 := dk_seg dksX5_othersWith_0 24 rfl rfl
theorem dksX5_othersWith_2 : cX5_othersWith.data.toList.drop 48 = dktX5_othersWith_2 := dk_seg dksX5_othersWith_1 24 rfl rfl
theorem dksX5_othersWith_3 : cX5_othersWith.data.toList.drop 72 = dktX5_othersWith_3 := dk_seg dksX5_othersWith_2 24 rfl rfl
theorem dX5_othersWith_0 : decode cX5_othersWith 0 = .ok (.iconst 0, 1) := dk_3 (dk_at dksX5_othersWith_0 0 rfl rfl)
theorem dX5_othersWith_1 : decode cX5_othersWith 1 = .ok (.istore_n 3, 1) := dk_62 (dk_at dksX5_othersWith_0 1 rfl rfl)
theorem dX5_othersWith_2 : decode cX5_othersWith 2 = .ok (.iconst 0, 1) := dk_3 (dk_at dksX5_othersWith_0 2 rfl rfl)
theorem dX5_othersWith_3 : decode cX5_othersWith 3 = .ok (.istore 4, 2) := dk_54 4 (dk_at dksX5_othersWith_0 3 rfl rfl)
theorem dX5_othersWith_5 : decode cX5_othersWith 5 = .ok (.iload 4, 2) := dk_21 4 (dk_at dksX5_othersWith_0 5 rfl rfl)
theorem dX5_othersWith_7 : decode cX5_othersWith 7 = .ok (.aload_n 0, 1) := dk_42 (dk_at dksX5_othersWith_0 7 rfl rfl)
theorem dX5_othersWith_8 : decode cX5_othersWith 8 = .ok (.getfield 143, 3) := dk_180 0 143 (dk_at dksX5_othersWith_0 8 rfl rfl)
theorem dX5_othersWith_11 : decode cX5_othersWith 11 = .ok (.if_icmp .ge 60, 3) := dk_162 0 60 (dk_at dksX5_othersWith_0 11 rfl rfl)
theorem dX5_othersWith_14 : decode cX5_othersWith 14 = .ok (.iload 4, 2) := dk_21 4 (dk_at dksX5_othersWith_0 14 rfl rfl)
theorem dX5_othersWith_16 : decode cX5_othersWith 16 = .ok (.iload_n 1, 1) := dk_27 (dk_at dksX5_othersWith_0 16 rfl rfl)
theorem dX5_othersWith_17 : decode cX5_othersWith 17 = .ok (.if_icmp .eq 48, 3) := dk_159 0 48 (dk_at dksX5_othersWith_0 17 rfl rfl)
theorem dX5_othersWith_20 : decode cX5_othersWith 20 = .ok (.aload_n 0, 1) := dk_42 (dk_at dksX5_othersWith_0 20 rfl rfl)
theorem dX5_othersWith_21 : decode cX5_othersWith 21 = .ok (.getfield 18, 3) := dk_180 0 18 (dk_at dksX5_othersWith_0 21 rfl rfl)
theorem dX5_othersWith_24 : decode cX5_othersWith 24 = .ok (.iload 4, 2) := dk_21 4 (dk_at dksX5_othersWith_1 0 rfl rfl)
theorem dX5_othersWith_26 : decode cX5_othersWith 26 = .ok (.iaload, 1) := dk_46 (dk_at dksX5_othersWith_1 2 rfl rfl)
theorem dX5_othersWith_27 : decode cX5_othersWith 27 = .ok (.aload_n 0, 1) := dk_42 (dk_at dksX5_othersWith_1 3 rfl rfl)
theorem dX5_othersWith_28 : decode cX5_othersWith 28 = .ok (.getfield 18, 3) := dk_180 0 18 (dk_at dksX5_othersWith_1 4 rfl rfl)
theorem dX5_othersWith_31 : decode cX5_othersWith 31 = .ok (.iload_n 1, 1) := dk_27 (dk_at dksX5_othersWith_1 7 rfl rfl)
theorem dX5_othersWith_32 : decode cX5_othersWith 32 = .ok (.iaload, 1) := dk_46 (dk_at dksX5_othersWith_1 8 rfl rfl)
theorem dX5_othersWith_33 : decode cX5_othersWith 33 = .ok (.if_icmp .ne 32, 3) := dk_160 0 32 (dk_at dksX5_othersWith_1 9 rfl rfl)
theorem dX5_othersWith_36 : decode cX5_othersWith 36 = .ok (.aload_n 0, 1) := dk_42 (dk_at dksX5_othersWith_1 12 rfl rfl)
theorem dX5_othersWith_37 : decode cX5_othersWith 37 = .ok (.getfield 24, 3) := dk_180 0 24 (dk_at dksX5_othersWith_1 13 rfl rfl)
theorem dX5_othersWith_40 : decode cX5_othersWith 40 = .ok (.iload 4, 2) := dk_21 4 (dk_at dksX5_othersWith_1 16 rfl rfl)
theorem dX5_othersWith_42 : decode cX5_othersWith 42 = .ok (.iaload, 1) := dk_46 (dk_at dksX5_othersWith_1 18 rfl rfl)
theorem dX5_othersWith_43 : decode cX5_othersWith 43 = .ok (.aload_n 0, 1) := dk_42 (dk_at dksX5_othersWith_1 19 rfl rfl)
theorem dX5_othersWith_44 : decode cX5_othersWith 44 = .ok (.getfield 24, 3) := dk_180 0 24 (dk_at dksX5_othersWith_1 20 rfl rfl)
theorem dX5_othersWith_47 : decode cX5_othersWith 47 = .ok (.iload_n 1, 1) := dk_27 (dk_at dksX5_othersWith_1 23 rfl rfl)
theorem dX5_othersWith_48 : decode cX5_othersWith 48 = .ok (.iaload, 1) := dk_46 (dk_at dksX5_othersWith_2 0 rfl rfl)
theorem dX5_othersWith_49 : decode cX5_othersWith 49 = .ok (.if_icmp .ne 16, 3) := dk_160 0 16 (dk_at dksX5_othersWith_2 1 rfl rfl)
theorem dX5_othersWith_52 : decode cX5_othersWith 52 = .ok (.aload_n 0, 1) := dk_42 (dk_at dksX5_othersWith_2 4 rfl rfl)
theorem dX5_othersWith_53 : decode cX5_othersWith 53 = .ok (.iload 4, 2) := dk_21 4 (dk_at dksX5_othersWith_2 5 rfl rfl)
theorem dX5_othersWith_55 : decode cX5_othersWith 55 = .ok (.iload_n 2, 1) := dk_28 (dk_at dksX5_othersWith_2 7 rfl rfl)
theorem dX5_othersWith_56 : decode cX5_othersWith 56 = .ok (.invokevirtual 267, 3) := dk_182 1 11 (dk_at dksX5_othersWith_2 8 rfl rfl)
theorem dX5_othersWith_59 : decode cX5_othersWith 59 = .ok (.ifCond .eq 6, 3) := dk_153 0 6 (dk_at dksX5_othersWith_2 11 rfl rfl)
theorem dX5_othersWith_62 : decode cX5_othersWith 62 = .ok (.iinc 3 1, 3) := dk_132 3 1 (dk_at dksX5_othersWith_2 14 rfl rfl)
theorem dX5_othersWith_65 : decode cX5_othersWith 65 = .ok (.iinc 4 1, 3) := dk_132 4 1 (dk_at dksX5_othersWith_2 17 rfl rfl)
theorem dX5_othersWith_68 : decode cX5_othersWith 68 = .ok (.goto (-63), 3) := dk_167 255 193 (dk_at dksX5_othersWith_2 20 rfl rfl)
theorem dX5_othersWith_71 : decode cX5_othersWith 71 = .ok (.iload_n 3, 1) := dk_29 (dk_at dksX5_othersWith_2 23 rfl rfl)
theorem dX5_othersWith_72 : decode cX5_othersWith 72 = .ok (.ireturn, 1) := dk_172 (dk_at dksX5_othersWith_3 0 rfl rfl)
abbrev cX5_isOn : ByteArray := prog_25_method_42_code
def yX5_isOn : MethodName := ⟨RX5, "isOn", "(II)Z"⟩
def dkwX5_isOn_1 : List UInt8 := [184, 0, 136, 153, 0, 7, 4, 167, 0, 4, 3, 172]
abbrev dktX5_isOn_1 : List UInt8 := dkwX5_isOn_1 ++ []
def dkwX5_isOn_0 : List UInt8 := [42, 180, 0, 39, 27, 46, 154, 0, 26, 28, 42, 180, 0, 30, 27, 46, 42, 180, 0, 33, 27, 46]
abbrev dktX5_isOn_0 : List UInt8 := dkwX5_isOn_0 ++ dktX5_isOn_1
theorem dksX5_isOn_0 : cX5_isOn.data.toList.drop 0 = dktX5_isOn_0 := by decide +kernel
theorem dksX5_isOn_1 : cX5_isOn.data.toList.drop 22 = dktX5_isOn_1 := dk_seg dksX5_isOn_0 22 rfl rfl
theorem dX5_isOn_0 : decode cX5_isOn 0 = .ok (.aload_n 0, 1) := dk_42 (dk_at dksX5_isOn_0 0 rfl rfl)
theorem dX5_isOn_1 : decode cX5_isOn 1 = .ok (.getfield 39, 3) := dk_180 0 39 (dk_at dksX5_isOn_0 1 rfl rfl)
theorem dX5_isOn_4 : decode cX5_isOn 4 = .ok (.iload_n 1, 1) := dk_27 (dk_at dksX5_isOn_0 4 rfl rfl)
theorem dX5_isOn_5 : decode cX5_isOn 5 = .ok (.iaload, 1) := dk_46 (dk_at dksX5_isOn_0 5 rfl rfl)
theorem dX5_isOn_6 : decode cX5_isOn 6 = .ok (.ifCond .ne 26, 3) := dk_154 0 26 (dk_at dksX5_isOn_0 6 rfl rfl)
theorem dX5_isOn_9 : decode cX5_isOn 9 = .ok (.iload_n 2, 1) := dk_28 (dk_at dksX5_isOn_0 9 rfl rfl)
theorem dX5_isOn_10 : decode cX5_isOn 10 = .ok (.aload_n 0, 1) := dk_42 (dk_at dksX5_isOn_0 10 rfl rfl)
theorem dX5_isOn_11 : decode cX5_isOn 11 = .ok (.getfield 30, 3) := dk_180 0 30 (dk_at dksX5_isOn_0 11 rfl rfl)
theorem dX5_isOn_14 : decode cX5_isOn 14 = .ok (.iload_n 1, 1) := dk_27 (dk_at dksX5_isOn_0 14 rfl rfl)
theorem dX5_isOn_15 : decode cX5_isOn 15 = .ok (.iaload, 1) := dk_46 (dk_at dksX5_isOn_0 15 rfl rfl)
theorem dX5_isOn_16 : decode cX5_isOn 16 = .ok (.aload_n 0, 1) := dk_42 (dk_at dksX5_isOn_0 16 rfl rfl)
theorem dX5_isOn_17 : decode cX5_isOn 17 = .ok (.getfield 33, 3) := dk_180 0 33 (dk_at dksX5_isOn_0 17 rfl rfl)
theorem dX5_isOn_20 : decode cX5_isOn 20 = .ok (.iload_n 1, 1) := dk_27 (dk_at dksX5_isOn_0 20 rfl rfl)
theorem dX5_isOn_21 : decode cX5_isOn 21 = .ok (.iaload, 1) := dk_46 (dk_at dksX5_isOn_0 21 rfl rfl)
theorem dX5_isOn_22 : decode cX5_isOn 22 = .ok (.invokestatic 136, 3) := dk_184 0 136 (dk_at dksX5_isOn_1 0 rfl rfl)
theorem dX5_isOn_25 : decode cX5_isOn 25 = .ok (.ifCond .eq 7, 3) := dk_153 0 7 (dk_at dksX5_isOn_1 3 rfl rfl)
theorem dX5_isOn_28 : decode cX5_isOn 28 = .ok (.iconst 1, 1) := dk_4 (dk_at dksX5_isOn_1 6 rfl rfl)
theorem dX5_isOn_29 : decode cX5_isOn 29 = .ok (.goto 4, 3) := dk_167 0 4 (dk_at dksX5_isOn_1 7 rfl rfl)
theorem dX5_isOn_32 : decode cX5_isOn 32 = .ok (.iconst 0, 1) := dk_3 (dk_at dksX5_isOn_1 10 rfl rfl)
theorem dX5_isOn_33 : decode cX5_isOn 33 = .ok (.ireturn, 1) := dk_172 (dk_at dksX5_isOn_1 11 rfl rfl)
abbrev cX5_gives : ByteArray := prog_25_method_40_code
def yX5_gives : MethodName := ⟨RX5, "gives", "(I)I"⟩
def dkwX5_gives_3 : List UInt8 := [61, 132, 3, 1, 167, 255, 188, 3, 172]
abbrev dktX5_gives_3 : List UInt8 := dkwX5_gives_3 ++ []
def dkwX5_gives_2 : List UInt8 := [42, 27, 42, 180, 0, 74, 29, 53, 42, 180, 0, 78, 29, 53, 182, 1, 1, 172, 42, 180, 0, 78, 29, 53]
abbrev dktX5_gives_2 : List UInt8 := dkwX5_gives_2 ++ dktX5_gives_3
def dkwX5_gives_1 : List UInt8 := [180, 0, 74, 29, 53, 28, 159, 0, 18, 42, 27, 28, 42, 180, 0, 74, 29, 53, 182, 1, 1, 153, 0, 21]
abbrev dktX5_gives_1 : List UInt8 := dkwX5_gives_1 ++ dktX5_gives_2
def dkwX5_gives_0 : List UInt8 := [3, 61, 16, 61, 27, 104, 62, 29, 16, 61, 27, 104, 42, 180, 0, 71, 27, 46, 96, 162, 0, 59, 42]
abbrev dktX5_gives_0 : List UInt8 := dkwX5_gives_0 ++ dktX5_gives_1
theorem dksX5_gives_0 : cX5_gives.data.toList.drop 0 = dktX5_gives_0 := by decide +kernel
theorem dksX5_gives_1 : cX5_gives.data.toList.drop 23 = dktX5_gives_1 := dk_seg dksX5_gives_0 23 rfl rfl
theorem dksX5_gives_2 : cX5_gives.data.toList.drop 47 = dktX5_gives_2 := dk_seg dksX5_gives_1 24 rfl rfl
theorem dksX5_gives_3 : cX5_gives.data.toList.drop 71 = dktX5_gives_3 := dk_seg dksX5_gives_2 24 rfl rfl
theorem dX5_gives_0 : decode cX5_gives 0 = .ok (.iconst 0, 1) := dk_3 (dk_at dksX5_gives_0 0 rfl rfl)
theorem dX5_gives_1 : decode cX5_gives 1 = .ok (.istore_n 2, 1) := dk_61 (dk_at dksX5_gives_0 1 rfl rfl)
theorem dX5_gives_2 : decode cX5_gives 2 = .ok (.bipush 61, 2) := dk_16 61 (dk_at dksX5_gives_0 2 rfl rfl)
theorem dX5_gives_4 : decode cX5_gives 4 = .ok (.iload_n 1, 1) := dk_27 (dk_at dksX5_gives_0 4 rfl rfl)
theorem dX5_gives_5 : decode cX5_gives 5 = .ok (.imul, 1) := dk_104 (dk_at dksX5_gives_0 5 rfl rfl)
theorem dX5_gives_6 : decode cX5_gives 6 = .ok (.istore_n 3, 1) := dk_62 (dk_at dksX5_gives_0 6 rfl rfl)
theorem dX5_gives_7 : decode cX5_gives 7 = .ok (.iload_n 3, 1) := dk_29 (dk_at dksX5_gives_0 7 rfl rfl)
theorem dX5_gives_8 : decode cX5_gives 8 = .ok (.bipush 61, 2) := dk_16 61 (dk_at dksX5_gives_0 8 rfl rfl)
theorem dX5_gives_10 : decode cX5_gives 10 = .ok (.iload_n 1, 1) := dk_27 (dk_at dksX5_gives_0 10 rfl rfl)
theorem dX5_gives_11 : decode cX5_gives 11 = .ok (.imul, 1) := dk_104 (dk_at dksX5_gives_0 11 rfl rfl)
theorem dX5_gives_12 : decode cX5_gives 12 = .ok (.aload_n 0, 1) := dk_42 (dk_at dksX5_gives_0 12 rfl rfl)
theorem dX5_gives_13 : decode cX5_gives 13 = .ok (.getfield 71, 3) := dk_180 0 71 (dk_at dksX5_gives_0 13 rfl rfl)
theorem dX5_gives_16 : decode cX5_gives 16 = .ok (.iload_n 1, 1) := dk_27 (dk_at dksX5_gives_0 16 rfl rfl)
theorem dX5_gives_17 : decode cX5_gives 17 = .ok (.iaload, 1) := dk_46 (dk_at dksX5_gives_0 17 rfl rfl)
theorem dX5_gives_18 : decode cX5_gives 18 = .ok (.iadd, 1) := dk_96 (dk_at dksX5_gives_0 18 rfl rfl)
theorem dX5_gives_19 : decode cX5_gives 19 = .ok (.if_icmp .ge 59, 3) := dk_162 0 59 (dk_at dksX5_gives_0 19 rfl rfl)
theorem dX5_gives_22 : decode cX5_gives 22 = .ok (.aload_n 0, 1) := dk_42 (dk_at dksX5_gives_0 22 rfl rfl)
theorem dX5_gives_23 : decode cX5_gives 23 = .ok (.getfield 74, 3) := dk_180 0 74 (dk_at dksX5_gives_1 0 rfl rfl)
theorem dX5_gives_26 : decode cX5_gives 26 = .ok (.iload_n 3, 1) := dk_29 (dk_at dksX5_gives_1 3 rfl rfl)
theorem dX5_gives_27 : decode cX5_gives 27 = .ok (.saload, 1) := dk_53 (dk_at dksX5_gives_1 4 rfl rfl)
theorem dX5_gives_28 : decode cX5_gives 28 = .ok (.iload_n 2, 1) := dk_28 (dk_at dksX5_gives_1 5 rfl rfl)
theorem dX5_gives_29 : decode cX5_gives 29 = .ok (.if_icmp .eq 18, 3) := dk_159 0 18 (dk_at dksX5_gives_1 6 rfl rfl)
theorem dX5_gives_32 : decode cX5_gives 32 = .ok (.aload_n 0, 1) := dk_42 (dk_at dksX5_gives_1 9 rfl rfl)
theorem dX5_gives_33 : decode cX5_gives 33 = .ok (.iload_n 1, 1) := dk_27 (dk_at dksX5_gives_1 10 rfl rfl)
theorem dX5_gives_34 : decode cX5_gives 34 = .ok (.iload_n 2, 1) := dk_28 (dk_at dksX5_gives_1 11 rfl rfl)
theorem dX5_gives_35 : decode cX5_gives 35 = .ok (.aload_n 0, 1) := dk_42 (dk_at dksX5_gives_1 12 rfl rfl)
theorem dX5_gives_36 : decode cX5_gives 36 = .ok (.getfield 74, 3) := dk_180 0 74 (dk_at dksX5_gives_1 13 rfl rfl)
theorem dX5_gives_39 : decode cX5_gives 39 = .ok (.iload_n 3, 1) := dk_29 (dk_at dksX5_gives_1 16 rfl rfl)
theorem dX5_gives_40 : decode cX5_gives 40 = .ok (.saload, 1) := dk_53 (dk_at dksX5_gives_1 17 rfl rfl)
theorem dX5_gives_41 : decode cX5_gives 41 = .ok (.invokevirtual 257, 3) := dk_182 1 1 (dk_at dksX5_gives_1 18 rfl rfl)
theorem dX5_gives_44 : decode cX5_gives 44 = .ok (.ifCond .eq 21, 3) := dk_153 0 21 (dk_at dksX5_gives_1 21 rfl rfl)
theorem dX5_gives_47 : decode cX5_gives 47 = .ok (.aload_n 0, 1) := dk_42 (dk_at dksX5_gives_2 0 rfl rfl)
theorem dX5_gives_48 : decode cX5_gives 48 = .ok (.iload_n 1, 1) := dk_27 (dk_at dksX5_gives_2 1 rfl rfl)
theorem dX5_gives_49 : decode cX5_gives 49 = .ok (.aload_n 0, 1) := dk_42 (dk_at dksX5_gives_2 2 rfl rfl)
theorem dX5_gives_50 : decode cX5_gives 50 = .ok (.getfield 74, 3) := dk_180 0 74 (dk_at dksX5_gives_2 3 rfl rfl)
theorem dX5_gives_53 : decode cX5_gives 53 = .ok (.iload_n 3, 1) := dk_29 (dk_at dksX5_gives_2 6 rfl rfl)
theorem dX5_gives_54 : decode cX5_gives 54 = .ok (.saload, 1) := dk_53 (dk_at dksX5_gives_2 7 rfl rfl)
theorem dX5_gives_55 : decode cX5_gives 55 = .ok (.aload_n 0, 1) := dk_42 (dk_at dksX5_gives_2 8 rfl rfl)
theorem dX5_gives_56 : decode cX5_gives 56 = .ok (.getfield 78, 3) := dk_180 0 78 (dk_at dksX5_gives_2 9 rfl rfl)
theorem dX5_gives_59 : decode cX5_gives 59 = .ok (.iload_n 3, 1) := dk_29 (dk_at dksX5_gives_2 12 rfl rfl)
theorem dX5_gives_60 : decode cX5_gives 60 = .ok (.saload, 1) := dk_53 (dk_at dksX5_gives_2 13 rfl rfl)
theorem dX5_gives_61 : decode cX5_gives 61 = .ok (.invokevirtual 257, 3) := dk_182 1 1 (dk_at dksX5_gives_2 14 rfl rfl)
theorem dX5_gives_64 : decode cX5_gives 64 = .ok (.ireturn, 1) := dk_172 (dk_at dksX5_gives_2 17 rfl rfl)
theorem dX5_gives_65 : decode cX5_gives 65 = .ok (.aload_n 0, 1) := dk_42 (dk_at dksX5_gives_2 18 rfl rfl)
theorem dX5_gives_66 : decode cX5_gives 66 = .ok (.getfield 78, 3) := dk_180 0 78 (dk_at dksX5_gives_2 19 rfl rfl)
theorem dX5_gives_69 : decode cX5_gives 69 = .ok (.iload_n 3, 1) := dk_29 (dk_at dksX5_gives_2 22 rfl rfl)
theorem dX5_gives_70 : decode cX5_gives 70 = .ok (.saload, 1) := dk_53 (dk_at dksX5_gives_2 23 rfl rfl)
theorem dX5_gives_71 : decode cX5_gives 71 = .ok (.istore_n 2, 1) := dk_61 (dk_at dksX5_gives_3 0 rfl rfl)
theorem dX5_gives_72 : decode cX5_gives 72 = .ok (.iinc 3 1, 3) := dk_132 3 1 (dk_at dksX5_gives_3 1 rfl rfl)
theorem dX5_gives_75 : decode cX5_gives 75 = .ok (.goto (-68), 3) := dk_167 255 188 (dk_at dksX5_gives_3 4 rfl rfl)
theorem dX5_gives_78 : decode cX5_gives 78 = .ok (.iconst 0, 1) := dk_3 (dk_at dksX5_gives_3 7 rfl rfl)
theorem dX5_gives_79 : decode cX5_gives 79 = .ok (.ireturn, 1) := dk_172 (dk_at dksX5_gives_3 8 rfl rfl)
abbrev cX5_worked : ByteArray := prog_25_method_39_code
def yX5_worked : MethodName := ⟨RX5, "worked", "(III)I"⟩
def dkwX5_worked_8 : List UInt8 := [167, 255, 83, 42, 180, 0, 84, 3, 46, 172]
abbrev dktX5_worked_8 : List UInt8 := dkwX5_worked_8 ++ []
def dkwX5_worked_7 : List UInt8 := [180, 0, 84, 21, 4, 4, 100, 46, 42, 180, 0, 84, 21, 4, 46, 184, 0, 254, 79, 132, 5, 1]
abbrev dktX5_worked_7 : List UInt8 := dkwX5_worked_7 ++ dktX5_worked_8
def dkwX5_worked_6 : List UInt8 := [21, 4, 4, 100, 46, 116, 79, 167, 0, 36, 132, 4, 255, 42, 180, 0, 84, 21, 4, 4, 100, 21, 6, 42]
abbrev dktX5_worked_6 : List UInt8 := dkwX5_worked_6 ++ dktX5_worked_7
def dkwX5_worked_5 : List UInt8 := [3, 79, 167, 0, 64, 21, 6, 7, 160, 0, 25, 42, 180, 0, 84, 21, 4, 4, 100, 42, 180, 0, 84]
abbrev dktX5_worked_5 : List UInt8 := dkwX5_worked_5 ++ dktX5_worked_6
def dkwX5_worked_4 : List UInt8 := [42, 180, 0, 84, 21, 4, 4, 100, 42, 180, 0, 84, 21, 4, 4, 100, 46, 154, 0, 7, 4, 167, 0, 4]
abbrev dktX5_worked_4 : List UInt8 := dkwX5_worked_4 ++ dktX5_worked_5
def dkwX5_worked_3 : List UInt8 := [180, 0, 81, 42, 180, 0, 68, 21, 5, 46, 46, 79, 132, 4, 1, 167, 0, 99, 21, 6, 6, 160, 0, 32]
abbrev dktX5_worked_3 : List UInt8 := dkwX5_worked_3 ++ dktX5_worked_4
def dkwX5_worked_2 : List UInt8 := [180, 0, 84, 21, 4, 21, 6, 4, 160, 0, 13, 42, 180, 0, 68, 21, 5, 46, 167, 0, 15, 42]
abbrev dktX5_worked_2 : List UInt8 := dkwX5_worked_2 ++ dktX5_worked_3
def dkwX5_worked_1 : List UInt8 := [42, 180, 0, 65, 21, 5, 51, 54, 6, 21, 6, 4, 159, 0, 9, 21, 6, 5, 160, 0, 44, 42]
abbrev dktX5_worked_1 : List UInt8 := dkwX5_worked_1 ++ dktX5_worked_2
def dkwX5_worked_0 : List UInt8 := [3, 54, 4, 17, 0, 130, 27, 104, 28, 96, 54, 5, 21, 5, 17, 0, 130, 27, 104, 29, 96, 162, 0, 167]
abbrev dktX5_worked_0 : List UInt8 := dkwX5_worked_0 ++ dktX5_worked_1
theorem dksX5_worked_0 : cX5_worked.data.toList.drop 0 = dktX5_worked_0 := by decide +kernel
theorem dksX5_worked_1 : cX5_worked.data.toList.drop 24 = dktX5_worked_1 := dk_seg dksX5_worked_0 24 rfl rfl
theorem dksX5_worked_2 : cX5_worked.data.toList.drop 46 = dktX5_worked_2 := dk_seg dksX5_worked_1 22 rfl rfl
theorem dksX5_worked_3 : cX5_worked.data.toList.drop 68 = dktX5_worked_3 := dk_seg dksX5_worked_2 22 rfl rfl
theorem dksX5_worked_4 : cX5_worked.data.toList.drop 92 = dktX5_worked_4 := dk_seg dksX5_worked_3 24 rfl rfl
theorem dksX5_worked_5 : cX5_worked.data.toList.drop 116 = dktX5_worked_5 := dk_seg dksX5_worked_4 24 rfl rfl
theorem dksX5_worked_6 : cX5_worked.data.toList.drop 139 = dktX5_worked_6 := dk_seg dksX5_worked_5 23 rfl rfl
theorem dksX5_worked_7 : cX5_worked.data.toList.drop 163 = dktX5_worked_7 := dk_seg dksX5_worked_6 24 rfl rfl
theorem dksX5_worked_8 : cX5_worked.data.toList.drop 185 = dktX5_worked_8 := dk_seg dksX5_worked_7 22 rfl rfl
theorem dX5_worked_0 : decode cX5_worked 0 = .ok (.iconst 0, 1) := dk_3 (dk_at dksX5_worked_0 0 rfl rfl)
theorem dX5_worked_1 : decode cX5_worked 1 = .ok (.istore 4, 2) := dk_54 4 (dk_at dksX5_worked_0 1 rfl rfl)
theorem dX5_worked_3 : decode cX5_worked 3 = .ok (.sipush 130, 3) := dk_17 0 130 (dk_at dksX5_worked_0 3 rfl rfl)
theorem dX5_worked_6 : decode cX5_worked 6 = .ok (.iload_n 1, 1) := dk_27 (dk_at dksX5_worked_0 6 rfl rfl)
theorem dX5_worked_7 : decode cX5_worked 7 = .ok (.imul, 1) := dk_104 (dk_at dksX5_worked_0 7 rfl rfl)
theorem dX5_worked_8 : decode cX5_worked 8 = .ok (.iload_n 2, 1) := dk_28 (dk_at dksX5_worked_0 8 rfl rfl)
theorem dX5_worked_9 : decode cX5_worked 9 = .ok (.iadd, 1) := dk_96 (dk_at dksX5_worked_0 9 rfl rfl)
theorem dX5_worked_10 : decode cX5_worked 10 = .ok (.istore 5, 2) := dk_54 5 (dk_at dksX5_worked_0 10 rfl rfl)
theorem dX5_worked_12 : decode cX5_worked 12 = .ok (.iload 5, 2) := dk_21 5 (dk_at dksX5_worked_0 12 rfl rfl)
theorem dX5_worked_14 : decode cX5_worked 14 = .ok (.sipush 130, 3) := dk_17 0 130 (dk_at dksX5_worked_0 14 rfl rfl)
theorem dX5_worked_17 : decode cX5_worked 17 = .ok (.iload_n 1, 1) := dk_27 (dk_at dksX5_worked_0 17 rfl rfl)
theorem dX5_worked_18 : decode cX5_worked 18 = .ok (.imul, 1) := dk_104 (dk_at dksX5_worked_0 18 rfl rfl)
theorem dX5_worked_19 : decode cX5_worked 19 = .ok (.iload_n 3, 1) := dk_29 (dk_at dksX5_worked_0 19 rfl rfl)
theorem dX5_worked_20 : decode cX5_worked 20 = .ok (.iadd, 1) := dk_96 (dk_at dksX5_worked_0 20 rfl rfl)
theorem dX5_worked_21 : decode cX5_worked 21 = .ok (.if_icmp .ge 167, 3) := dk_162 0 167 (dk_at dksX5_worked_0 21 rfl rfl)
theorem dX5_worked_24 : decode cX5_worked 24 = .ok (.aload_n 0, 1) := dk_42 (dk_at dksX5_worked_1 0 rfl rfl)
theorem dX5_worked_25 : decode cX5_worked 25 = .ok (.getfield 65, 3) := dk_180 0 65 (dk_at dksX5_worked_1 1 rfl rfl)
theorem dX5_worked_28 : decode cX5_worked 28 = .ok (.iload 5, 2) := dk_21 5 (dk_at dksX5_worked_1 4 rfl rfl)
theorem dX5_worked_30 : decode cX5_worked 30 = .ok (.baload, 1) := dk_51 (dk_at dksX5_worked_1 6 rfl rfl)
theorem dX5_worked_31 : decode cX5_worked 31 = .ok (.istore 6, 2) := dk_54 6 (dk_at dksX5_worked_1 7 rfl rfl)
theorem dX5_worked_33 : decode cX5_worked 33 = .ok (.iload 6, 2) := dk_21 6 (dk_at dksX5_worked_1 9 rfl rfl)
theorem dX5_worked_35 : decode cX5_worked 35 = .ok (.iconst 1, 1) := dk_4 (dk_at dksX5_worked_1 11 rfl rfl)
theorem dX5_worked_36 : decode cX5_worked 36 = .ok (.if_icmp .eq 9, 3) := dk_159 0 9 (dk_at dksX5_worked_1 12 rfl rfl)
theorem dX5_worked_39 : decode cX5_worked 39 = .ok (.iload 6, 2) := dk_21 6 (dk_at dksX5_worked_1 15 rfl rfl)
theorem dX5_worked_41 : decode cX5_worked 41 = .ok (.iconst 2, 1) := dk_5 (dk_at dksX5_worked_1 17 rfl rfl)
theorem dX5_worked_42 : decode cX5_worked 42 = .ok (.if_icmp .ne 44, 3) := dk_160 0 44 (dk_at dksX5_worked_1 18 rfl rfl)
theorem dX5_worked_45 : decode cX5_worked 45 = .ok (.aload_n 0, 1) := dk_42 (dk_at dksX5_worked_1 21 rfl rfl)
theorem dX5_worked_46 : decode cX5_worked 46 = .ok (.getfield 84, 3) := dk_180 0 84 (dk_at dksX5_worked_2 0 rfl rfl)
theorem dX5_worked_49 : decode cX5_worked 49 = .ok (.iload 4, 2) := dk_21 4 (dk_at dksX5_worked_2 3 rfl rfl)
theorem dX5_worked_51 : decode cX5_worked 51 = .ok (.iload 6, 2) := dk_21 6 (dk_at dksX5_worked_2 5 rfl rfl)
theorem dX5_worked_53 : decode cX5_worked 53 = .ok (.iconst 1, 1) := dk_4 (dk_at dksX5_worked_2 7 rfl rfl)
theorem dX5_worked_54 : decode cX5_worked 54 = .ok (.if_icmp .ne 13, 3) := dk_160 0 13 (dk_at dksX5_worked_2 8 rfl rfl)
theorem dX5_worked_57 : decode cX5_worked 57 = .ok (.aload_n 0, 1) := dk_42 (dk_at dksX5_worked_2 11 rfl rfl)
theorem dX5_worked_58 : decode cX5_worked 58 = .ok (.getfield 68, 3) := dk_180 0 68 (dk_at dksX5_worked_2 12 rfl rfl)
theorem dX5_worked_61 : decode cX5_worked 61 = .ok (.iload 5, 2) := dk_21 5 (dk_at dksX5_worked_2 15 rfl rfl)
theorem dX5_worked_63 : decode cX5_worked 63 = .ok (.iaload, 1) := dk_46 (dk_at dksX5_worked_2 17 rfl rfl)
theorem dX5_worked_64 : decode cX5_worked 64 = .ok (.goto 15, 3) := dk_167 0 15 (dk_at dksX5_worked_2 18 rfl rfl)
theorem dX5_worked_67 : decode cX5_worked 67 = .ok (.aload_n 0, 1) := dk_42 (dk_at dksX5_worked_2 21 rfl rfl)
theorem dX5_worked_68 : decode cX5_worked 68 = .ok (.getfield 81, 3) := dk_180 0 81 (dk_at dksX5_worked_3 0 rfl rfl)
theorem dX5_worked_71 : decode cX5_worked 71 = .ok (.aload_n 0, 1) := dk_42 (dk_at dksX5_worked_3 3 rfl rfl)
theorem dX5_worked_72 : decode cX5_worked 72 = .ok (.getfield 68, 3) := dk_180 0 68 (dk_at dksX5_worked_3 4 rfl rfl)
theorem dX5_worked_75 : decode cX5_worked 75 = .ok (.iload 5, 2) := dk_21 5 (dk_at dksX5_worked_3 7 rfl rfl)
theorem dX5_worked_77 : decode cX5_worked 77 = .ok (.iaload, 1) := dk_46 (dk_at dksX5_worked_3 9 rfl rfl)
theorem dX5_worked_78 : decode cX5_worked 78 = .ok (.iaload, 1) := dk_46 (dk_at dksX5_worked_3 10 rfl rfl)
theorem dX5_worked_79 : decode cX5_worked 79 = .ok (.iastore, 1) := dk_79 (dk_at dksX5_worked_3 11 rfl rfl)
theorem dX5_worked_80 : decode cX5_worked 80 = .ok (.iinc 4 1, 3) := dk_132 4 1 (dk_at dksX5_worked_3 12 rfl rfl)
theorem dX5_worked_83 : decode cX5_worked 83 = .ok (.goto 99, 3) := dk_167 0 99 (dk_at dksX5_worked_3 15 rfl rfl)
theorem dX5_worked_86 : decode cX5_worked 86 = .ok (.iload 6, 2) := dk_21 6 (dk_at dksX5_worked_3 18 rfl rfl)
theorem dX5_worked_88 : decode cX5_worked 88 = .ok (.iconst 3, 1) := dk_6 (dk_at dksX5_worked_3 20 rfl rfl)
theorem dX5_worked_89 : decode cX5_worked 89 = .ok (.if_icmp .ne 32, 3) := dk_160 0 32 (dk_at dksX5_worked_3 21 rfl rfl)
theorem dX5_worked_92 : decode cX5_worked 92 = .ok (.aload_n 0, 1) := dk_42 (dk_at dksX5_worked_4 0 rfl rfl)
theorem dX5_worked_93 : decode cX5_worked 93 = .ok (.getfield 84, 3) := dk_180 0 84 (dk_at dksX5_worked_4 1 rfl rfl)
theorem dX5_worked_96 : decode cX5_worked 96 = .ok (.iload 4, 2) := dk_21 4 (dk_at dksX5_worked_4 4 rfl rfl)
theorem dX5_worked_98 : decode cX5_worked 98 = .ok (.iconst 1, 1) := dk_4 (dk_at dksX5_worked_4 6 rfl rfl)
theorem dX5_worked_99 : decode cX5_worked 99 = .ok (.isub, 1) := dk_100 (dk_at dksX5_worked_4 7 rfl rfl)
theorem dX5_worked_100 : decode cX5_worked 100 = .ok (.aload_n 0, 1) := dk_42 (dk_at dksX5_worked_4 8 rfl rfl)
theorem dX5_worked_101 : decode cX5_worked 101 = .ok (.getfield 84, 3) := dk_180 0 84 (dk_at dksX5_worked_4 9 rfl rfl)
theorem dX5_worked_104 : decode cX5_worked 104 = .ok (.iload 4, 2) := dk_21 4 (dk_at dksX5_worked_4 12 rfl rfl)
theorem dX5_worked_106 : decode cX5_worked 106 = .ok (.iconst 1, 1) := dk_4 (dk_at dksX5_worked_4 14 rfl rfl)
theorem dX5_worked_107 : decode cX5_worked 107 = .ok (.isub, 1) := dk_100 (dk_at dksX5_worked_4 15 rfl rfl)
theorem dX5_worked_108 : decode cX5_worked 108 = .ok (.iaload, 1) := dk_46 (dk_at dksX5_worked_4 16 rfl rfl)
theorem dX5_worked_109 : decode cX5_worked 109 = .ok (.ifCond .ne 7, 3) := dk_154 0 7 (dk_at dksX5_worked_4 17 rfl rfl)
theorem dX5_worked_112 : decode cX5_worked 112 = .ok (.iconst 1, 1) := dk_4 (dk_at dksX5_worked_4 20 rfl rfl)
theorem dX5_worked_113 : decode cX5_worked 113 = .ok (.goto 4, 3) := dk_167 0 4 (dk_at dksX5_worked_4 21 rfl rfl)
theorem dX5_worked_116 : decode cX5_worked 116 = .ok (.iconst 0, 1) := dk_3 (dk_at dksX5_worked_5 0 rfl rfl)
theorem dX5_worked_117 : decode cX5_worked 117 = .ok (.iastore, 1) := dk_79 (dk_at dksX5_worked_5 1 rfl rfl)
theorem dX5_worked_118 : decode cX5_worked 118 = .ok (.goto 64, 3) := dk_167 0 64 (dk_at dksX5_worked_5 2 rfl rfl)
theorem dX5_worked_121 : decode cX5_worked 121 = .ok (.iload 6, 2) := dk_21 6 (dk_at dksX5_worked_5 5 rfl rfl)
theorem dX5_worked_123 : decode cX5_worked 123 = .ok (.iconst 4, 1) := dk_7 (dk_at dksX5_worked_5 7 rfl rfl)
theorem dX5_worked_124 : decode cX5_worked 124 = .ok (.if_icmp .ne 25, 3) := dk_160 0 25 (dk_at dksX5_worked_5 8 rfl rfl)
theorem dX5_worked_127 : decode cX5_worked 127 = .ok (.aload_n 0, 1) := dk_42 (dk_at dksX5_worked_5 11 rfl rfl)
theorem dX5_worked_128 : decode cX5_worked 128 = .ok (.getfield 84, 3) := dk_180 0 84 (dk_at dksX5_worked_5 12 rfl rfl)
theorem dX5_worked_131 : decode cX5_worked 131 = .ok (.iload 4, 2) := dk_21 4 (dk_at dksX5_worked_5 15 rfl rfl)
theorem dX5_worked_133 : decode cX5_worked 133 = .ok (.iconst 1, 1) := dk_4 (dk_at dksX5_worked_5 17 rfl rfl)
theorem dX5_worked_134 : decode cX5_worked 134 = .ok (.isub, 1) := dk_100 (dk_at dksX5_worked_5 18 rfl rfl)
theorem dX5_worked_135 : decode cX5_worked 135 = .ok (.aload_n 0, 1) := dk_42 (dk_at dksX5_worked_5 19 rfl rfl)
theorem dX5_worked_136 : decode cX5_worked 136 = .ok (.getfield 84, 3) := dk_180 0 84 (dk_at dksX5_worked_5 20 rfl rfl)
theorem dX5_worked_139 : decode cX5_worked 139 = .ok (.iload 4, 2) := dk_21 4 (dk_at dksX5_worked_6 0 rfl rfl)
theorem dX5_worked_141 : decode cX5_worked 141 = .ok (.iconst 1, 1) := dk_4 (dk_at dksX5_worked_6 2 rfl rfl)
theorem dX5_worked_142 : decode cX5_worked 142 = .ok (.isub, 1) := dk_100 (dk_at dksX5_worked_6 3 rfl rfl)
theorem dX5_worked_143 : decode cX5_worked 143 = .ok (.iaload, 1) := dk_46 (dk_at dksX5_worked_6 4 rfl rfl)
theorem dX5_worked_144 : decode cX5_worked 144 = .ok (.ineg, 1) := dk_116 (dk_at dksX5_worked_6 5 rfl rfl)
theorem dX5_worked_145 : decode cX5_worked 145 = .ok (.iastore, 1) := dk_79 (dk_at dksX5_worked_6 6 rfl rfl)
theorem dX5_worked_146 : decode cX5_worked 146 = .ok (.goto 36, 3) := dk_167 0 36 (dk_at dksX5_worked_6 7 rfl rfl)
theorem dX5_worked_149 : decode cX5_worked 149 = .ok (.iinc 4 (-1), 3) := dk_132 4 255 (dk_at dksX5_worked_6 10 rfl rfl)
theorem dX5_worked_152 : decode cX5_worked 152 = .ok (.aload_n 0, 1) := dk_42 (dk_at dksX5_worked_6 13 rfl rfl)
theorem dX5_worked_153 : decode cX5_worked 153 = .ok (.getfield 84, 3) := dk_180 0 84 (dk_at dksX5_worked_6 14 rfl rfl)
theorem dX5_worked_156 : decode cX5_worked 156 = .ok (.iload 4, 2) := dk_21 4 (dk_at dksX5_worked_6 17 rfl rfl)
theorem dX5_worked_158 : decode cX5_worked 158 = .ok (.iconst 1, 1) := dk_4 (dk_at dksX5_worked_6 19 rfl rfl)
theorem dX5_worked_159 : decode cX5_worked 159 = .ok (.isub, 1) := dk_100 (dk_at dksX5_worked_6 20 rfl rfl)
theorem dX5_worked_160 : decode cX5_worked 160 = .ok (.iload 6, 2) := dk_21 6 (dk_at dksX5_worked_6 21 rfl rfl)
theorem dX5_worked_162 : decode cX5_worked 162 = .ok (.aload_n 0, 1) := dk_42 (dk_at dksX5_worked_6 23 rfl rfl)
theorem dX5_worked_163 : decode cX5_worked 163 = .ok (.getfield 84, 3) := dk_180 0 84 (dk_at dksX5_worked_7 0 rfl rfl)
theorem dX5_worked_166 : decode cX5_worked 166 = .ok (.iload 4, 2) := dk_21 4 (dk_at dksX5_worked_7 3 rfl rfl)
theorem dX5_worked_168 : decode cX5_worked 168 = .ok (.iconst 1, 1) := dk_4 (dk_at dksX5_worked_7 5 rfl rfl)
theorem dX5_worked_169 : decode cX5_worked 169 = .ok (.isub, 1) := dk_100 (dk_at dksX5_worked_7 6 rfl rfl)
theorem dX5_worked_170 : decode cX5_worked 170 = .ok (.iaload, 1) := dk_46 (dk_at dksX5_worked_7 7 rfl rfl)
theorem dX5_worked_171 : decode cX5_worked 171 = .ok (.aload_n 0, 1) := dk_42 (dk_at dksX5_worked_7 8 rfl rfl)
theorem dX5_worked_172 : decode cX5_worked 172 = .ok (.getfield 84, 3) := dk_180 0 84 (dk_at dksX5_worked_7 9 rfl rfl)
theorem dX5_worked_175 : decode cX5_worked 175 = .ok (.iload 4, 2) := dk_21 4 (dk_at dksX5_worked_7 12 rfl rfl)
theorem dX5_worked_177 : decode cX5_worked 177 = .ok (.iaload, 1) := dk_46 (dk_at dksX5_worked_7 14 rfl rfl)
theorem dX5_worked_178 : decode cX5_worked 178 = .ok (.invokestatic 254, 3) := dk_184 0 254 (dk_at dksX5_worked_7 15 rfl rfl)
theorem dX5_worked_181 : decode cX5_worked 181 = .ok (.iastore, 1) := dk_79 (dk_at dksX5_worked_7 18 rfl rfl)
theorem dX5_worked_182 : decode cX5_worked 182 = .ok (.iinc 5 1, 3) := dk_132 5 1 (dk_at dksX5_worked_7 19 rfl rfl)
theorem dX5_worked_185 : decode cX5_worked 185 = .ok (.goto (-173), 3) := dk_167 255 83 (dk_at dksX5_worked_8 0 rfl rfl)
theorem dX5_worked_188 : decode cX5_worked 188 = .ok (.aload_n 0, 1) := dk_42 (dk_at dksX5_worked_8 3 rfl rfl)
theorem dX5_worked_189 : decode cX5_worked 189 = .ok (.getfield 84, 3) := dk_180 0 84 (dk_at dksX5_worked_8 4 rfl rfl)
theorem dX5_worked_192 : decode cX5_worked 192 = .ok (.iconst 0, 1) := dk_3 (dk_at dksX5_worked_8 7 rfl rfl)
theorem dX5_worked_193 : decode cX5_worked 193 = .ok (.iaload, 1) := dk_46 (dk_at dksX5_worked_8 8 rfl rfl)
theorem dX5_worked_194 : decode cX5_worked 194 = .ok (.ireturn, 1) := dk_172 (dk_at dksX5_worked_8 9 rfl rfl)
abbrev cX5_twoOf : ByteArray := prog_25_method_38_code
def yX5_twoOf : MethodName := ⟨RX5, "twoOf", "(III)I"⟩
def dkwX5_twoOf_6 : List UInt8 := [4, 167, 0, 4, 3, 172, 27, 154, 0, 7, 28, 153, 0, 7, 4, 167, 0, 4, 3, 172]
abbrev dktX5_twoOf_6 : List UInt8 := dkwX5_twoOf_6 ++ []
def dkwX5_twoOf_5 : List UInt8 := [167, 0, 4, 3, 172, 27, 28, 164, 0, 7, 4, 167, 0, 4, 3, 172, 27, 153, 0, 11, 28, 153, 0, 7]
abbrev dktX5_twoOf_5 : List UInt8 := dkwX5_twoOf_5 ++ dktX5_twoOf_6
def dkwX5_twoOf_4 : List UInt8 := [167, 0, 6, 27, 28, 112, 172, 27, 28, 162, 0, 7, 4, 167, 0, 4, 3, 172, 27, 28, 160, 0, 7, 4]
abbrev dktX5_twoOf_4 : List UInt8 := dkwX5_twoOf_4 ++ dktX5_twoOf_5
def dkwX5_twoOf_3 : List UInt8 := [160, 0, 8, 27, 116, 167, 0, 6, 27, 28, 108, 172, 28, 153, 0, 8, 28, 2, 160, 0, 7, 3]
abbrev dktX5_twoOf_3 : List UInt8 := dkwX5_twoOf_3 ++ dktX5_twoOf_4
def dkwX5_twoOf_2 : List UInt8 := [27, 28, 96, 172, 27, 28, 100, 172, 27, 28, 104, 172, 28, 154, 0, 7, 3, 167, 0, 16, 28, 2]
abbrev dktX5_twoOf_2 : List UInt8 := dkwX5_twoOf_2 ++ dktX5_twoOf_3
def dkwX5_twoOf_1 : List UInt8 := [170, 0, 0, 0, 0, 0, 217, 0, 0, 0, 37, 0, 0, 0, 62, 0, 0, 0, 153, 0, 0, 0, 203, 0, 0, 0, 217, 0, 0, 0, 217, 0, 0, 0, 217, 0, 0, 0, 127, 0, 0, 0, 119, 0, 0, 0, 217, 0, 0, 0, 123, 0, 0, 0, 217, 0, 0, 0, 131, 0, 0, 0, 217, 0, 0, 0, 217, 0, 0, 0, 217, 0, 0, 0, 217, 0, 0, 0, 217, 0, 0, 0, 217, 0, 0, 0, 217, 0, 0, 0, 217, 0, 0, 0, 217, 0, 0, 0, 217, 0, 0, 0, 217, 0, 0, 0, 217, 0, 0, 0, 170, 0, 0, 0, 181, 0, 0, 0, 192]
abbrev dktX5_twoOf_1 : List UInt8 := dkwX5_twoOf_1 ++ dktX5_twoOf_2
def dkwX5_twoOf_0 : List UInt8 := [26]
abbrev dktX5_twoOf_0 : List UInt8 := dkwX5_twoOf_0 ++ dktX5_twoOf_1
theorem dksX5_twoOf_0 : cX5_twoOf.data.toList.drop 0 = dktX5_twoOf_0 := by decide +kernel
theorem dksX5_twoOf_1 : cX5_twoOf.data.toList.drop 1 = dktX5_twoOf_1 := dk_seg dksX5_twoOf_0 1 rfl rfl
theorem dksX5_twoOf_2 : cX5_twoOf.data.toList.drop 120 = dktX5_twoOf_2 := dk_seg dksX5_twoOf_1 119 rfl rfl
theorem dksX5_twoOf_3 : cX5_twoOf.data.toList.drop 142 = dktX5_twoOf_3 := dk_seg dksX5_twoOf_2 22 rfl rfl
theorem dksX5_twoOf_4 : cX5_twoOf.data.toList.drop 164 = dktX5_twoOf_4 := dk_seg dksX5_twoOf_3 22 rfl rfl
theorem dksX5_twoOf_5 : cX5_twoOf.data.toList.drop 188 = dktX5_twoOf_5 := dk_seg dksX5_twoOf_4 24 rfl rfl
theorem dksX5_twoOf_6 : cX5_twoOf.data.toList.drop 212 = dktX5_twoOf_6 := dk_seg dksX5_twoOf_5 24 rfl rfl
theorem dX5_twoOf_0 : decode cX5_twoOf 0 = .ok (.iload_n 0, 1) := dk_26 (dk_at dksX5_twoOf_0 0 rfl rfl)
theorem dX5_twoOf_1 : decode cX5_twoOf 1 = .ok (.tableswitch 217 37 62 #[153, 203, 217, 217, 217, 127, 119, 217, 123, 217, 131, 217, 217, 217, 217, 217, 217, 217, 217, 217, 217, 217, 217, 170, 181, 192], 119) := by decide +kernel
theorem dX5_twoOf_120 : decode cX5_twoOf 120 = .ok (.iload_n 1, 1) := dk_27 (dk_at dksX5_twoOf_2 0 rfl rfl)
theorem dX5_twoOf_121 : decode cX5_twoOf 121 = .ok (.iload_n 2, 1) := dk_28 (dk_at dksX5_twoOf_2 1 rfl rfl)
theorem dX5_twoOf_122 : decode cX5_twoOf 122 = .ok (.iadd, 1) := dk_96 (dk_at dksX5_twoOf_2 2 rfl rfl)
theorem dX5_twoOf_123 : decode cX5_twoOf 123 = .ok (.ireturn, 1) := dk_172 (dk_at dksX5_twoOf_2 3 rfl rfl)
theorem dX5_twoOf_124 : decode cX5_twoOf 124 = .ok (.iload_n 1, 1) := dk_27 (dk_at dksX5_twoOf_2 4 rfl rfl)
theorem dX5_twoOf_125 : decode cX5_twoOf 125 = .ok (.iload_n 2, 1) := dk_28 (dk_at dksX5_twoOf_2 5 rfl rfl)
theorem dX5_twoOf_126 : decode cX5_twoOf 126 = .ok (.isub, 1) := dk_100 (dk_at dksX5_twoOf_2 6 rfl rfl)
theorem dX5_twoOf_127 : decode cX5_twoOf 127 = .ok (.ireturn, 1) := dk_172 (dk_at dksX5_twoOf_2 7 rfl rfl)
theorem dX5_twoOf_128 : decode cX5_twoOf 128 = .ok (.iload_n 1, 1) := dk_27 (dk_at dksX5_twoOf_2 8 rfl rfl)
theorem dX5_twoOf_129 : decode cX5_twoOf 129 = .ok (.iload_n 2, 1) := dk_28 (dk_at dksX5_twoOf_2 9 rfl rfl)
theorem dX5_twoOf_130 : decode cX5_twoOf 130 = .ok (.imul, 1) := dk_104 (dk_at dksX5_twoOf_2 10 rfl rfl)
theorem dX5_twoOf_131 : decode cX5_twoOf 131 = .ok (.ireturn, 1) := dk_172 (dk_at dksX5_twoOf_2 11 rfl rfl)
theorem dX5_twoOf_132 : decode cX5_twoOf 132 = .ok (.iload_n 2, 1) := dk_28 (dk_at dksX5_twoOf_2 12 rfl rfl)
theorem dX5_twoOf_133 : decode cX5_twoOf 133 = .ok (.ifCond .ne 7, 3) := dk_154 0 7 (dk_at dksX5_twoOf_2 13 rfl rfl)
theorem dX5_twoOf_136 : decode cX5_twoOf 136 = .ok (.iconst 0, 1) := dk_3 (dk_at dksX5_twoOf_2 16 rfl rfl)
theorem dX5_twoOf_137 : decode cX5_twoOf 137 = .ok (.goto 16, 3) := dk_167 0 16 (dk_at dksX5_twoOf_2 17 rfl rfl)
theorem dX5_twoOf_140 : decode cX5_twoOf 140 = .ok (.iload_n 2, 1) := dk_28 (dk_at dksX5_twoOf_2 20 rfl rfl)
theorem dX5_twoOf_141 : decode cX5_twoOf 141 = .ok (.iconst (-1), 1) := dk_2 (dk_at dksX5_twoOf_2 21 rfl rfl)
theorem dX5_twoOf_142 : decode cX5_twoOf 142 = .ok (.if_icmp .ne 8, 3) := dk_160 0 8 (dk_at dksX5_twoOf_3 0 rfl rfl)
theorem dX5_twoOf_145 : decode cX5_twoOf 145 = .ok (.iload_n 1, 1) := dk_27 (dk_at dksX5_twoOf_3 3 rfl rfl)
theorem dX5_twoOf_146 : decode cX5_twoOf 146 = .ok (.ineg, 1) := dk_116 (dk_at dksX5_twoOf_3 4 rfl rfl)
theorem dX5_twoOf_147 : decode cX5_twoOf 147 = .ok (.goto 6, 3) := dk_167 0 6 (dk_at dksX5_twoOf_3 5 rfl rfl)
theorem dX5_twoOf_150 : decode cX5_twoOf 150 = .ok (.iload_n 1, 1) := dk_27 (dk_at dksX5_twoOf_3 8 rfl rfl)
theorem dX5_twoOf_151 : decode cX5_twoOf 151 = .ok (.iload_n 2, 1) := dk_28 (dk_at dksX5_twoOf_3 9 rfl rfl)
theorem dX5_twoOf_152 : decode cX5_twoOf 152 = .ok (.idiv, 1) := dk_108 (dk_at dksX5_twoOf_3 10 rfl rfl)
theorem dX5_twoOf_153 : decode cX5_twoOf 153 = .ok (.ireturn, 1) := dk_172 (dk_at dksX5_twoOf_3 11 rfl rfl)
theorem dX5_twoOf_154 : decode cX5_twoOf 154 = .ok (.iload_n 2, 1) := dk_28 (dk_at dksX5_twoOf_3 12 rfl rfl)
theorem dX5_twoOf_155 : decode cX5_twoOf 155 = .ok (.ifCond .eq 8, 3) := dk_153 0 8 (dk_at dksX5_twoOf_3 13 rfl rfl)
theorem dX5_twoOf_158 : decode cX5_twoOf 158 = .ok (.iload_n 2, 1) := dk_28 (dk_at dksX5_twoOf_3 16 rfl rfl)
theorem dX5_twoOf_159 : decode cX5_twoOf 159 = .ok (.iconst (-1), 1) := dk_2 (dk_at dksX5_twoOf_3 17 rfl rfl)
theorem dX5_twoOf_160 : decode cX5_twoOf 160 = .ok (.if_icmp .ne 7, 3) := dk_160 0 7 (dk_at dksX5_twoOf_3 18 rfl rfl)
theorem dX5_twoOf_163 : decode cX5_twoOf 163 = .ok (.iconst 0, 1) := dk_3 (dk_at dksX5_twoOf_3 21 rfl rfl)
theorem dX5_twoOf_164 : decode cX5_twoOf 164 = .ok (.goto 6, 3) := dk_167 0 6 (dk_at dksX5_twoOf_4 0 rfl rfl)
theorem dX5_twoOf_167 : decode cX5_twoOf 167 = .ok (.iload_n 1, 1) := dk_27 (dk_at dksX5_twoOf_4 3 rfl rfl)
theorem dX5_twoOf_168 : decode cX5_twoOf 168 = .ok (.iload_n 2, 1) := dk_28 (dk_at dksX5_twoOf_4 4 rfl rfl)
theorem dX5_twoOf_169 : decode cX5_twoOf 169 = .ok (.irem, 1) := dk_112 (dk_at dksX5_twoOf_4 5 rfl rfl)
theorem dX5_twoOf_170 : decode cX5_twoOf 170 = .ok (.ireturn, 1) := dk_172 (dk_at dksX5_twoOf_4 6 rfl rfl)
theorem dX5_twoOf_171 : decode cX5_twoOf 171 = .ok (.iload_n 1, 1) := dk_27 (dk_at dksX5_twoOf_4 7 rfl rfl)
theorem dX5_twoOf_172 : decode cX5_twoOf 172 = .ok (.iload_n 2, 1) := dk_28 (dk_at dksX5_twoOf_4 8 rfl rfl)
theorem dX5_twoOf_173 : decode cX5_twoOf 173 = .ok (.if_icmp .ge 7, 3) := dk_162 0 7 (dk_at dksX5_twoOf_4 9 rfl rfl)
theorem dX5_twoOf_176 : decode cX5_twoOf 176 = .ok (.iconst 1, 1) := dk_4 (dk_at dksX5_twoOf_4 12 rfl rfl)
theorem dX5_twoOf_177 : decode cX5_twoOf 177 = .ok (.goto 4, 3) := dk_167 0 4 (dk_at dksX5_twoOf_4 13 rfl rfl)
theorem dX5_twoOf_180 : decode cX5_twoOf 180 = .ok (.iconst 0, 1) := dk_3 (dk_at dksX5_twoOf_4 16 rfl rfl)
theorem dX5_twoOf_181 : decode cX5_twoOf 181 = .ok (.ireturn, 1) := dk_172 (dk_at dksX5_twoOf_4 17 rfl rfl)
theorem dX5_twoOf_182 : decode cX5_twoOf 182 = .ok (.iload_n 1, 1) := dk_27 (dk_at dksX5_twoOf_4 18 rfl rfl)
theorem dX5_twoOf_183 : decode cX5_twoOf 183 = .ok (.iload_n 2, 1) := dk_28 (dk_at dksX5_twoOf_4 19 rfl rfl)
theorem dX5_twoOf_184 : decode cX5_twoOf 184 = .ok (.if_icmp .ne 7, 3) := dk_160 0 7 (dk_at dksX5_twoOf_4 20 rfl rfl)
theorem dX5_twoOf_187 : decode cX5_twoOf 187 = .ok (.iconst 1, 1) := dk_4 (dk_at dksX5_twoOf_4 23 rfl rfl)
theorem dX5_twoOf_188 : decode cX5_twoOf 188 = .ok (.goto 4, 3) := dk_167 0 4 (dk_at dksX5_twoOf_5 0 rfl rfl)
theorem dX5_twoOf_191 : decode cX5_twoOf 191 = .ok (.iconst 0, 1) := dk_3 (dk_at dksX5_twoOf_5 3 rfl rfl)
theorem dX5_twoOf_192 : decode cX5_twoOf 192 = .ok (.ireturn, 1) := dk_172 (dk_at dksX5_twoOf_5 4 rfl rfl)
theorem dX5_twoOf_193 : decode cX5_twoOf 193 = .ok (.iload_n 1, 1) := dk_27 (dk_at dksX5_twoOf_5 5 rfl rfl)
theorem dX5_twoOf_194 : decode cX5_twoOf 194 = .ok (.iload_n 2, 1) := dk_28 (dk_at dksX5_twoOf_5 6 rfl rfl)
theorem dX5_twoOf_195 : decode cX5_twoOf 195 = .ok (.if_icmp .le 7, 3) := dk_164 0 7 (dk_at dksX5_twoOf_5 7 rfl rfl)
theorem dX5_twoOf_198 : decode cX5_twoOf 198 = .ok (.iconst 1, 1) := dk_4 (dk_at dksX5_twoOf_5 10 rfl rfl)
theorem dX5_twoOf_199 : decode cX5_twoOf 199 = .ok (.goto 4, 3) := dk_167 0 4 (dk_at dksX5_twoOf_5 11 rfl rfl)
theorem dX5_twoOf_202 : decode cX5_twoOf 202 = .ok (.iconst 0, 1) := dk_3 (dk_at dksX5_twoOf_5 14 rfl rfl)
theorem dX5_twoOf_203 : decode cX5_twoOf 203 = .ok (.ireturn, 1) := dk_172 (dk_at dksX5_twoOf_5 15 rfl rfl)
theorem dX5_twoOf_204 : decode cX5_twoOf 204 = .ok (.iload_n 1, 1) := dk_27 (dk_at dksX5_twoOf_5 16 rfl rfl)
theorem dX5_twoOf_205 : decode cX5_twoOf 205 = .ok (.ifCond .eq 11, 3) := dk_153 0 11 (dk_at dksX5_twoOf_5 17 rfl rfl)
theorem dX5_twoOf_208 : decode cX5_twoOf 208 = .ok (.iload_n 2, 1) := dk_28 (dk_at dksX5_twoOf_5 20 rfl rfl)
theorem dX5_twoOf_209 : decode cX5_twoOf 209 = .ok (.ifCond .eq 7, 3) := dk_153 0 7 (dk_at dksX5_twoOf_5 21 rfl rfl)
theorem dX5_twoOf_212 : decode cX5_twoOf 212 = .ok (.iconst 1, 1) := dk_4 (dk_at dksX5_twoOf_6 0 rfl rfl)
theorem dX5_twoOf_213 : decode cX5_twoOf 213 = .ok (.goto 4, 3) := dk_167 0 4 (dk_at dksX5_twoOf_6 1 rfl rfl)
theorem dX5_twoOf_216 : decode cX5_twoOf 216 = .ok (.iconst 0, 1) := dk_3 (dk_at dksX5_twoOf_6 4 rfl rfl)
theorem dX5_twoOf_217 : decode cX5_twoOf 217 = .ok (.ireturn, 1) := dk_172 (dk_at dksX5_twoOf_6 5 rfl rfl)
theorem dX5_twoOf_218 : decode cX5_twoOf 218 = .ok (.iload_n 1, 1) := dk_27 (dk_at dksX5_twoOf_6 6 rfl rfl)
theorem dX5_twoOf_219 : decode cX5_twoOf 219 = .ok (.ifCond .ne 7, 3) := dk_154 0 7 (dk_at dksX5_twoOf_6 7 rfl rfl)
theorem dX5_twoOf_222 : decode cX5_twoOf 222 = .ok (.iload_n 2, 1) := dk_28 (dk_at dksX5_twoOf_6 10 rfl rfl)
theorem dX5_twoOf_223 : decode cX5_twoOf 223 = .ok (.ifCond .eq 7, 3) := dk_153 0 7 (dk_at dksX5_twoOf_6 11 rfl rfl)
theorem dX5_twoOf_226 : decode cX5_twoOf 226 = .ok (.iconst 1, 1) := dk_4 (dk_at dksX5_twoOf_6 14 rfl rfl)
theorem dX5_twoOf_227 : decode cX5_twoOf 227 = .ok (.goto 4, 3) := dk_167 0 4 (dk_at dksX5_twoOf_6 15 rfl rfl)
theorem dX5_twoOf_230 : decode cX5_twoOf 230 = .ok (.iconst 0, 1) := dk_3 (dk_at dksX5_twoOf_6 18 rfl rfl)
theorem dX5_twoOf_231 : decode cX5_twoOf 231 = .ok (.ireturn, 1) := dk_172 (dk_at dksX5_twoOf_6 19 rfl rfl)
abbrev cX5_held : ByteArray := prog_25_method_50_code
def yX5_held : MethodName := ⟨RX5, "held", "(II)I"⟩
def dkwX5_held_1 : List UInt8 := [27, 42, 180, 0, 9, 27, 46, 42, 180, 0, 153, 182, 1, 26, 167, 0, 8, 42, 27, 182, 1, 29, 172]
abbrev dktX5_held_1 : List UInt8 := dkwX5_held_1 ++ []
def dkwX5_held_0 : List UInt8 := [42, 27, 182, 0, 146, 153, 0, 12, 28, 3, 4, 184, 0, 136, 154, 0, 5, 2, 172, 28, 154, 0, 21, 42]
abbrev dktX5_held_0 : List UInt8 := dkwX5_held_0 ++ dktX5_held_1
theorem dksX5_held_0 : cX5_held.data.toList.drop 0 = dktX5_held_0 := by decide +kernel
theorem dksX5_held_1 : cX5_held.data.toList.drop 24 = dktX5_held_1 := dk_seg dksX5_held_0 24 rfl rfl
theorem dX5_held_0 : decode cX5_held 0 = .ok (.aload_n 0, 1) := dk_42 (dk_at dksX5_held_0 0 rfl rfl)
theorem dX5_held_1 : decode cX5_held 1 = .ok (.iload_n 1, 1) := dk_27 (dk_at dksX5_held_0 1 rfl rfl)
theorem dX5_held_2 : decode cX5_held 2 = .ok (.invokevirtual 146, 3) := dk_182 0 146 (dk_at dksX5_held_0 2 rfl rfl)
theorem dX5_held_5 : decode cX5_held 5 = .ok (.ifCond .eq 12, 3) := dk_153 0 12 (dk_at dksX5_held_0 5 rfl rfl)
theorem dX5_held_8 : decode cX5_held 8 = .ok (.iload_n 2, 1) := dk_28 (dk_at dksX5_held_0 8 rfl rfl)
theorem dX5_held_9 : decode cX5_held 9 = .ok (.iconst 0, 1) := dk_3 (dk_at dksX5_held_0 9 rfl rfl)
theorem dX5_held_10 : decode cX5_held 10 = .ok (.iconst 1, 1) := dk_4 (dk_at dksX5_held_0 10 rfl rfl)
theorem dX5_held_11 : decode cX5_held 11 = .ok (.invokestatic 136, 3) := dk_184 0 136 (dk_at dksX5_held_0 11 rfl rfl)
theorem dX5_held_14 : decode cX5_held 14 = .ok (.ifCond .ne 5, 3) := dk_154 0 5 (dk_at dksX5_held_0 14 rfl rfl)
theorem dX5_held_17 : decode cX5_held 17 = .ok (.iconst (-1), 1) := dk_2 (dk_at dksX5_held_0 17 rfl rfl)
theorem dX5_held_18 : decode cX5_held 18 = .ok (.ireturn, 1) := dk_172 (dk_at dksX5_held_0 18 rfl rfl)
theorem dX5_held_19 : decode cX5_held 19 = .ok (.iload_n 2, 1) := dk_28 (dk_at dksX5_held_0 19 rfl rfl)
theorem dX5_held_20 : decode cX5_held 20 = .ok (.ifCond .ne 21, 3) := dk_154 0 21 (dk_at dksX5_held_0 20 rfl rfl)
theorem dX5_held_23 : decode cX5_held 23 = .ok (.aload_n 0, 1) := dk_42 (dk_at dksX5_held_0 23 rfl rfl)
theorem dX5_held_24 : decode cX5_held 24 = .ok (.iload_n 1, 1) := dk_27 (dk_at dksX5_held_1 0 rfl rfl)
theorem dX5_held_25 : decode cX5_held 25 = .ok (.aload_n 0, 1) := dk_42 (dk_at dksX5_held_1 1 rfl rfl)
theorem dX5_held_26 : decode cX5_held 26 = .ok (.getfield 9, 3) := dk_180 0 9 (dk_at dksX5_held_1 2 rfl rfl)
theorem dX5_held_29 : decode cX5_held 29 = .ok (.iload_n 1, 1) := dk_27 (dk_at dksX5_held_1 5 rfl rfl)
theorem dX5_held_30 : decode cX5_held 30 = .ok (.iaload, 1) := dk_46 (dk_at dksX5_held_1 6 rfl rfl)
theorem dX5_held_31 : decode cX5_held 31 = .ok (.aload_n 0, 1) := dk_42 (dk_at dksX5_held_1 7 rfl rfl)
theorem dX5_held_32 : decode cX5_held 32 = .ok (.getfield 153, 3) := dk_180 0 153 (dk_at dksX5_held_1 8 rfl rfl)
theorem dX5_held_35 : decode cX5_held 35 = .ok (.invokevirtual 282, 3) := dk_182 1 26 (dk_at dksX5_held_1 11 rfl rfl)
theorem dX5_held_38 : decode cX5_held 38 = .ok (.goto 8, 3) := dk_167 0 8 (dk_at dksX5_held_1 14 rfl rfl)
theorem dX5_held_41 : decode cX5_held 41 = .ok (.aload_n 0, 1) := dk_42 (dk_at dksX5_held_1 17 rfl rfl)
theorem dX5_held_42 : decode cX5_held 42 = .ok (.iload_n 1, 1) := dk_27 (dk_at dksX5_held_1 18 rfl rfl)
theorem dX5_held_43 : decode cX5_held 43 = .ok (.invokevirtual 285, 3) := dk_182 1 29 (dk_at dksX5_held_1 19 rfl rfl)
theorem dX5_held_46 : decode cX5_held 46 = .ok (.ireturn, 1) := dk_172 (dk_at dksX5_held_1 22 rfl rfl)
abbrev cX5_heldBy : ByteArray := prog_25_method_47_code
def yX5_heldBy : MethodName := ⟨RX5, "heldBy", "(III)I"⟩
def dkwX5_heldBy_2 : List UInt8 := [21, 4, 172]
abbrev dktX5_heldBy_2 : List UInt8 := dkwX5_heldBy_2 ++ []
def dkwX5_heldBy_1 : List UInt8 := [160, 0, 17, 42, 21, 5, 28, 29, 182, 1, 23, 153, 0, 6, 132, 4, 1, 132, 5, 1, 167, 255, 219]
abbrev dktX5_heldBy_1 : List UInt8 := dkwX5_heldBy_1 ++ dktX5_heldBy_2
def dkwX5_heldBy_0 : List UInt8 := [3, 54, 4, 3, 54, 5, 21, 5, 42, 180, 0, 143, 162, 0, 34, 42, 180, 0, 18, 21, 5, 46, 27]
abbrev dktX5_heldBy_0 : List UInt8 := dkwX5_heldBy_0 ++ dktX5_heldBy_1
theorem dksX5_heldBy_0 : cX5_heldBy.data.toList.drop 0 = dktX5_heldBy_0 := by decide +kernel
theorem dksX5_heldBy_1 : cX5_heldBy.data.toList.drop 23 = dktX5_heldBy_1 := dk_seg dksX5_heldBy_0 23 rfl rfl
theorem dksX5_heldBy_2 : cX5_heldBy.data.toList.drop 46 = dktX5_heldBy_2 := dk_seg dksX5_heldBy_1 23 rfl rfl
theorem dX5_heldBy_0 : decode cX5_heldBy 0 = .ok (.iconst 0, 1) := dk_3 (dk_at dksX5_heldBy_0 0 rfl rfl)
theorem dX5_heldBy_1 : decode cX5_heldBy 1 = .ok (.istore 4, 2) := dk_54 4 (dk_at dksX5_heldBy_0 1 rfl rfl)
theorem dX5_heldBy_3 : decode cX5_heldBy 3 = .ok (.iconst 0, 1) := dk_3 (dk_at dksX5_heldBy_0 3 rfl rfl)
theorem dX5_heldBy_4 : decode cX5_heldBy 4 = .ok (.istore 5, 2) := dk_54 5 (dk_at dksX5_heldBy_0 4 rfl rfl)
theorem dX5_heldBy_6 : decode cX5_heldBy 6 = .ok (.iload 5, 2) := dk_21 5 (dk_at dksX5_heldBy_0 6 rfl rfl)
theorem dX5_heldBy_8 : decode cX5_heldBy 8 = .ok (.aload_n 0, 1) := dk_42 (dk_at dksX5_heldBy_0 8 rfl rfl)
theorem dX5_heldBy_9 : decode cX5_heldBy 9 = .ok (.getfield 143, 3) := dk_180 0 143 (dk_at dksX5_heldBy_0 9 rfl rfl)
theorem dX5_heldBy_12 : decode cX5_heldBy 12 = .ok (.if_icmp .ge 34, 3) := dk_162 0 34 (dk_at dksX5_heldBy_0 12 rfl rfl)
theorem dX5_heldBy_15 : decode cX5_heldBy 15 = .ok (.aload_n 0, 1) := dk_42 (dk_at dksX5_heldBy_0 15 rfl rfl)
theorem dX5_heldBy_16 : decode cX5_heldBy 16 = .ok (.getfield 18, 3) := dk_180 0 18 (dk_at dksX5_heldBy_0 16 rfl rfl)
theorem dX5_heldBy_19 : decode cX5_heldBy 19 = .ok (.iload 5, 2) := dk_21 5 (dk_at dksX5_heldBy_0 19 rfl rfl)
theorem dX5_heldBy_21 : decode cX5_heldBy 21 = .ok (.iaload, 1) := dk_46 (dk_at dksX5_heldBy_0 21 rfl rfl)
theorem dX5_heldBy_22 : decode cX5_heldBy 22 = .ok (.iload_n 1, 1) := dk_27 (dk_at dksX5_heldBy_0 22 rfl rfl)
theorem dX5_heldBy_23 : decode cX5_heldBy 23 = .ok (.if_icmp .ne 17, 3) := dk_160 0 17 (dk_at dksX5_heldBy_1 0 rfl rfl)
theorem dX5_heldBy_26 : decode cX5_heldBy 26 = .ok (.aload_n 0, 1) := dk_42 (dk_at dksX5_heldBy_1 3 rfl rfl)
theorem dX5_heldBy_27 : decode cX5_heldBy 27 = .ok (.iload 5, 2) := dk_21 5 (dk_at dksX5_heldBy_1 4 rfl rfl)
theorem dX5_heldBy_29 : decode cX5_heldBy 29 = .ok (.iload_n 2, 1) := dk_28 (dk_at dksX5_heldBy_1 6 rfl rfl)
theorem dX5_heldBy_30 : decode cX5_heldBy 30 = .ok (.iload_n 3, 1) := dk_29 (dk_at dksX5_heldBy_1 7 rfl rfl)
theorem dX5_heldBy_31 : decode cX5_heldBy 31 = .ok (.invokevirtual 279, 3) := dk_182 1 23 (dk_at dksX5_heldBy_1 8 rfl rfl)
theorem dX5_heldBy_34 : decode cX5_heldBy 34 = .ok (.ifCond .eq 6, 3) := dk_153 0 6 (dk_at dksX5_heldBy_1 11 rfl rfl)
theorem dX5_heldBy_37 : decode cX5_heldBy 37 = .ok (.iinc 4 1, 3) := dk_132 4 1 (dk_at dksX5_heldBy_1 14 rfl rfl)
theorem dX5_heldBy_40 : decode cX5_heldBy 40 = .ok (.iinc 5 1, 3) := dk_132 5 1 (dk_at dksX5_heldBy_1 17 rfl rfl)
theorem dX5_heldBy_43 : decode cX5_heldBy 43 = .ok (.goto (-37), 3) := dk_167 255 219 (dk_at dksX5_heldBy_1 20 rfl rfl)
theorem dX5_heldBy_46 : decode cX5_heldBy 46 = .ok (.iload 4, 2) := dk_21 4 (dk_at dksX5_heldBy_2 0 rfl rfl)
theorem dX5_heldBy_48 : decode cX5_heldBy 48 = .ok (.ireturn, 1) := dk_172 (dk_at dksX5_heldBy_2 2 rfl rfl)
abbrev cX5_holdsAt : ByteArray := prog_25_method_46_code
def yX5_holdsAt : MethodName := ⟨RX5, "holdsAt", "(III)Z"⟩
def dkwX5_holdsAt_1 : List UInt8 := [182, 1, 20, 42, 180, 0, 42, 161, 0, 7, 4, 167, 0, 4, 3, 172]
abbrev dktX5_holdsAt_1 : List UInt8 := dkwX5_holdsAt_1 ++ []
def dkwX5_holdsAt_0 : List UInt8 := [42, 180, 0, 24, 27, 46, 28, 160, 0, 29, 42, 27, 29, 182, 1, 11, 153, 0, 20, 42, 27, 29]
abbrev dktX5_holdsAt_0 : List UInt8 := dkwX5_holdsAt_0 ++ dktX5_holdsAt_1
theorem dksX5_holdsAt_0 : cX5_holdsAt.data.toList.drop 0 = dktX5_holdsAt_0 := by decide +kernel
theorem dksX5_holdsAt_1 : cX5_holdsAt.data.toList.drop 22 = dktX5_holdsAt_1 := dk_seg dksX5_holdsAt_0 22 rfl rfl
theorem dX5_holdsAt_0 : decode cX5_holdsAt 0 = .ok (.aload_n 0, 1) := dk_42 (dk_at dksX5_holdsAt_0 0 rfl rfl)
theorem dX5_holdsAt_1 : decode cX5_holdsAt 1 = .ok (.getfield 24, 3) := dk_180 0 24 (dk_at dksX5_holdsAt_0 1 rfl rfl)
theorem dX5_holdsAt_4 : decode cX5_holdsAt 4 = .ok (.iload_n 1, 1) := dk_27 (dk_at dksX5_holdsAt_0 4 rfl rfl)
theorem dX5_holdsAt_5 : decode cX5_holdsAt 5 = .ok (.iaload, 1) := dk_46 (dk_at dksX5_holdsAt_0 5 rfl rfl)
theorem dX5_holdsAt_6 : decode cX5_holdsAt 6 = .ok (.iload_n 2, 1) := dk_28 (dk_at dksX5_holdsAt_0 6 rfl rfl)
theorem dX5_holdsAt_7 : decode cX5_holdsAt 7 = .ok (.if_icmp .ne 29, 3) := dk_160 0 29 (dk_at dksX5_holdsAt_0 7 rfl rfl)
theorem dX5_holdsAt_10 : decode cX5_holdsAt 10 = .ok (.aload_n 0, 1) := dk_42 (dk_at dksX5_holdsAt_0 10 rfl rfl)
theorem dX5_holdsAt_11 : decode cX5_holdsAt 11 = .ok (.iload_n 1, 1) := dk_27 (dk_at dksX5_holdsAt_0 11 rfl rfl)
theorem dX5_holdsAt_12 : decode cX5_holdsAt 12 = .ok (.iload_n 3, 1) := dk_29 (dk_at dksX5_holdsAt_0 12 rfl rfl)
theorem dX5_holdsAt_13 : decode cX5_holdsAt 13 = .ok (.invokevirtual 267, 3) := dk_182 1 11 (dk_at dksX5_holdsAt_0 13 rfl rfl)
theorem dX5_holdsAt_16 : decode cX5_holdsAt 16 = .ok (.ifCond .eq 20, 3) := dk_153 0 20 (dk_at dksX5_holdsAt_0 16 rfl rfl)
theorem dX5_holdsAt_19 : decode cX5_holdsAt 19 = .ok (.aload_n 0, 1) := dk_42 (dk_at dksX5_holdsAt_0 19 rfl rfl)
theorem dX5_holdsAt_20 : decode cX5_holdsAt 20 = .ok (.iload_n 1, 1) := dk_27 (dk_at dksX5_holdsAt_0 20 rfl rfl)
theorem dX5_holdsAt_21 : decode cX5_holdsAt 21 = .ok (.iload_n 3, 1) := dk_29 (dk_at dksX5_holdsAt_0 21 rfl rfl)
theorem dX5_holdsAt_22 : decode cX5_holdsAt 22 = .ok (.invokevirtual 276, 3) := dk_182 1 20 (dk_at dksX5_holdsAt_1 0 rfl rfl)
theorem dX5_holdsAt_25 : decode cX5_holdsAt 25 = .ok (.aload_n 0, 1) := dk_42 (dk_at dksX5_holdsAt_1 3 rfl rfl)
theorem dX5_holdsAt_26 : decode cX5_holdsAt 26 = .ok (.getfield 42, 3) := dk_180 0 42 (dk_at dksX5_holdsAt_1 4 rfl rfl)
theorem dX5_holdsAt_29 : decode cX5_holdsAt 29 = .ok (.if_icmp .lt 7, 3) := dk_161 0 7 (dk_at dksX5_holdsAt_1 7 rfl rfl)
theorem dX5_holdsAt_32 : decode cX5_holdsAt 32 = .ok (.iconst 1, 1) := dk_4 (dk_at dksX5_holdsAt_1 10 rfl rfl)
theorem dX5_holdsAt_33 : decode cX5_holdsAt 33 = .ok (.goto 4, 3) := dk_167 0 4 (dk_at dksX5_holdsAt_1 11 rfl rfl)
theorem dX5_holdsAt_36 : decode cX5_holdsAt 36 = .ok (.iconst 0, 1) := dk_3 (dk_at dksX5_holdsAt_1 14 rfl rfl)
theorem dX5_holdsAt_37 : decode cX5_holdsAt 37 = .ok (.ireturn, 1) := dk_172 (dk_at dksX5_holdsAt_1 15 rfl rfl)
abbrev cX5_hardestNow : ByteArray := prog_25_method_49_code
def yX5_hardestNow : MethodName := ⟨RX5, "hardestNow", "(I)I"⟩
def dkwX5_hardestNow_3 : List UInt8 := [182, 1, 20, 61, 132, 3, 1, 167, 255, 185, 28, 172]
abbrev dktX5_hardestNow_3 : List UInt8 := dkwX5_hardestNow_3 ++ []
def dkwX5_hardestNow_2 : List UInt8 := [153, 0, 26, 42, 29, 42, 180, 0, 153, 182, 1, 20, 28, 164, 0, 13, 42, 29, 42, 180, 0, 153]
abbrev dktX5_hardestNow_2 : List UInt8 := dkwX5_hardestNow_2 ++ dktX5_hardestNow_3
def dkwX5_hardestNow_1 : List UInt8 := [180, 0, 24, 29, 46, 42, 180, 0, 9, 27, 46, 160, 0, 38, 42, 29, 42, 180, 0, 153, 182, 1, 11]
abbrev dktX5_hardestNow_1 : List UInt8 := dkwX5_hardestNow_1 ++ dktX5_hardestNow_2
def dkwX5_hardestNow_0 : List UInt8 := [3, 61, 3, 62, 29, 42, 180, 0, 143, 162, 0, 69, 42, 180, 0, 18, 29, 46, 27, 160, 0, 53, 42]
abbrev dktX5_hardestNow_0 : List UInt8 := dkwX5_hardestNow_0 ++ dktX5_hardestNow_1
theorem dksX5_hardestNow_0 : cX5_hardestNow.data.toList.drop 0 = dktX5_hardestNow_0 := by decide +kernel
theorem dksX5_hardestNow_1 : cX5_hardestNow.data.toList.drop 23 = dktX5_hardestNow_1 := dk_seg dksX5_hardestNow_0 23 rfl rfl
theorem dksX5_hardestNow_2 : cX5_hardestNow.data.toList.drop 46 = dktX5_hardestNow_2 := dk_seg dksX5_hardestNow_1 23 rfl rfl
theorem dksX5_hardestNow_3 : cX5_hardestNow.data.toList.drop 68 = dktX5_hardestNow_3 := dk_seg dksX5_hardestNow_2 22 rfl rfl
theorem dX5_hardestNow_0 : decode cX5_hardestNow 0 = .ok (.iconst 0, 1) := dk_3 (dk_at dksX5_hardestNow_0 0 rfl rfl)
theorem dX5_hardestNow_1 : decode cX5_hardestNow 1 = .ok (.istore_n 2, 1) := dk_61 (dk_at dksX5_hardestNow_0 1 rfl rfl)
theorem dX5_hardestNow_2 : decode cX5_hardestNow 2 = .ok (.iconst 0, 1) := dk_3 (dk_at dksX5_hardestNow_0 2 rfl rfl)
theorem dX5_hardestNow_3 : decode cX5_hardestNow 3 = .ok (.istore_n 3, 1) := dk_62 (dk_at dksX5_hardestNow_0 3 rfl rfl)
theorem dX5_hardestNow_4 : decode cX5_hardestNow 4 = .ok (.iload_n 3, 1) := dk_29 (dk_at dksX5_hardestNow_0 4 rfl rfl)
theorem dX5_hardestNow_5 : decode cX5_hardestNow 5 = .ok (.aload_n 0, 1) := dk_42 (dk_at dksX5_hardestNow_0 5 rfl rfl)
theorem dX5_hardestNow_6 : decode cX5_hardestNow 6 = .ok (.getfield 143, 3) := dk_180 0 143 (dk_at dksX5_hardestNow_0 6 rfl rfl)
theorem dX5_hardestNow_9 : decode cX5_hardestNow 9 = .ok (.if_icmp .ge 69, 3) := dk_162 0 69 (dk_at dksX5_hardestNow_0 9 rfl rfl)
theorem dX5_hardestNow_12 : decode cX5_hardestNow 12 = .ok (.aload_n 0, 1) := dk_42 (dk_at dksX5_hardestNow_0 12 rfl rfl)
theorem dX5_hardestNow_13 : decode cX5_hardestNow 13 = .ok (.getfield 18, 3) := dk_180 0 18 (dk_at dksX5_hardestNow_0 13 rfl rfl)
theorem dX5_hardestNow_16 : decode cX5_hardestNow 16 = .ok (.iload_n 3, 1) := dk_29 (dk_at dksX5_hardestNow_0 16 rfl rfl)
theorem dX5_hardestNow_17 : decode cX5_hardestNow 17 = .ok (.iaload, 1) := dk_46 (dk_at dksX5_hardestNow_0 17 rfl rfl)
theorem dX5_hardestNow_18 : decode cX5_hardestNow 18 = .ok (.iload_n 1, 1) := dk_27 (dk_at dksX5_hardestNow_0 18 rfl rfl)
theorem dX5_hardestNow_19 : decode cX5_hardestNow 19 = .ok (.if_icmp .ne 53, 3) := dk_160 0 53 (dk_at dksX5_hardestNow_0 19 rfl rfl)
theorem dX5_hardestNow_22 : decode cX5_hardestNow 22 = .ok (.aload_n 0, 1) := dk_42 (dk_at dksX5_hardestNow_0 22 rfl rfl)
theorem dX5_hardestNow_23 : decode cX5_hardestNow 23 = .ok (.getfield 24, 3) := dk_180 0 24 (dk_at dksX5_hardestNow_1 0 rfl rfl)
theorem dX5_hardestNow_26 : decode cX5_hardestNow 26 = .ok (.iload_n 3, 1) := dk_29 (dk_at dksX5_hardestNow_1 3 rfl rfl)
theorem dX5_hardestNow_27 : decode cX5_hardestNow 27 = .ok (.iaload, 1) := dk_46 (dk_at dksX5_hardestNow_1 4 rfl rfl)
theorem dX5_hardestNow_28 : decode cX5_hardestNow 28 = .ok (.aload_n 0, 1) := dk_42 (dk_at dksX5_hardestNow_1 5 rfl rfl)
theorem dX5_hardestNow_29 : decode cX5_hardestNow 29 = .ok (.getfield 9, 3) := dk_180 0 9 (dk_at dksX5_hardestNow_1 6 rfl rfl)
theorem dX5_hardestNow_32 : decode cX5_hardestNow 32 = .ok (.iload_n 1, 1) := dk_27 (dk_at dksX5_hardestNow_1 9 rfl rfl)
theorem dX5_hardestNow_33 : decode cX5_hardestNow 33 = .ok (.iaload, 1) := dk_46 (dk_at dksX5_hardestNow_1 10 rfl rfl)
theorem dX5_hardestNow_34 : decode cX5_hardestNow 34 = .ok (.if_icmp .ne 38, 3) := dk_160 0 38 (dk_at dksX5_hardestNow_1 11 rfl rfl)
theorem dX5_hardestNow_37 : decode cX5_hardestNow 37 = .ok (.aload_n 0, 1) := dk_42 (dk_at dksX5_hardestNow_1 14 rfl rfl)
theorem dX5_hardestNow_38 : decode cX5_hardestNow 38 = .ok (.iload_n 3, 1) := dk_29 (dk_at dksX5_hardestNow_1 15 rfl rfl)
theorem dX5_hardestNow_39 : decode cX5_hardestNow 39 = .ok (.aload_n 0, 1) := dk_42 (dk_at dksX5_hardestNow_1 16 rfl rfl)
theorem dX5_hardestNow_40 : decode cX5_hardestNow 40 = .ok (.getfield 153, 3) := dk_180 0 153 (dk_at dksX5_hardestNow_1 17 rfl rfl)
theorem dX5_hardestNow_43 : decode cX5_hardestNow 43 = .ok (.invokevirtual 267, 3) := dk_182 1 11 (dk_at dksX5_hardestNow_1 20 rfl rfl)
theorem dX5_hardestNow_46 : decode cX5_hardestNow 46 = .ok (.ifCond .eq 26, 3) := dk_153 0 26 (dk_at dksX5_hardestNow_2 0 rfl rfl)
theorem dX5_hardestNow_49 : decode cX5_hardestNow 49 = .ok (.aload_n 0, 1) := dk_42 (dk_at dksX5_hardestNow_2 3 rfl rfl)
theorem dX5_hardestNow_50 : decode cX5_hardestNow 50 = .ok (.iload_n 3, 1) := dk_29 (dk_at dksX5_hardestNow_2 4 rfl rfl)
theorem dX5_hardestNow_51 : decode cX5_hardestNow 51 = .ok (.aload_n 0, 1) := dk_42 (dk_at dksX5_hardestNow_2 5 rfl rfl)
theorem dX5_hardestNow_52 : decode cX5_hardestNow 52 = .ok (.getfield 153, 3) := dk_180 0 153 (dk_at dksX5_hardestNow_2 6 rfl rfl)
theorem dX5_hardestNow_55 : decode cX5_hardestNow 55 = .ok (.invokevirtual 276, 3) := dk_182 1 20 (dk_at dksX5_hardestNow_2 9 rfl rfl)
theorem dX5_hardestNow_58 : decode cX5_hardestNow 58 = .ok (.iload_n 2, 1) := dk_28 (dk_at dksX5_hardestNow_2 12 rfl rfl)
theorem dX5_hardestNow_59 : decode cX5_hardestNow 59 = .ok (.if_icmp .le 13, 3) := dk_164 0 13 (dk_at dksX5_hardestNow_2 13 rfl rfl)
theorem dX5_hardestNow_62 : decode cX5_hardestNow 62 = .ok (.aload_n 0, 1) := dk_42 (dk_at dksX5_hardestNow_2 16 rfl rfl)
theorem dX5_hardestNow_63 : decode cX5_hardestNow 63 = .ok (.iload_n 3, 1) := dk_29 (dk_at dksX5_hardestNow_2 17 rfl rfl)
theorem dX5_hardestNow_64 : decode cX5_hardestNow 64 = .ok (.aload_n 0, 1) := dk_42 (dk_at dksX5_hardestNow_2 18 rfl rfl)
theorem dX5_hardestNow_65 : decode cX5_hardestNow 65 = .ok (.getfield 153, 3) := dk_180 0 153 (dk_at dksX5_hardestNow_2 19 rfl rfl)
theorem dX5_hardestNow_68 : decode cX5_hardestNow 68 = .ok (.invokevirtual 276, 3) := dk_182 1 20 (dk_at dksX5_hardestNow_3 0 rfl rfl)
theorem dX5_hardestNow_71 : decode cX5_hardestNow 71 = .ok (.istore_n 2, 1) := dk_61 (dk_at dksX5_hardestNow_3 3 rfl rfl)
theorem dX5_hardestNow_72 : decode cX5_hardestNow 72 = .ok (.iinc 3 1, 3) := dk_132 3 1 (dk_at dksX5_hardestNow_3 4 rfl rfl)
theorem dX5_hardestNow_75 : decode cX5_hardestNow 75 = .ok (.goto (-71), 3) := dk_167 255 185 (dk_at dksX5_hardestNow_3 7 rfl rfl)
theorem dX5_hardestNow_78 : decode cX5_hardestNow 78 = .ok (.iload_n 2, 1) := dk_28 (dk_at dksX5_hardestNow_3 10 rfl rfl)
theorem dX5_hardestNow_79 : decode cX5_hardestNow 79 = .ok (.ireturn, 1) := dk_172 (dk_at dksX5_hardestNow_3 11 rfl rfl)
abbrev cX5_route : ByteArray := prog_25_method_58_code
def yX5_route : MethodName := ⟨RX5, "route", "(IIII)I"⟩
def dkwX5_route_9 : List UInt8 := [42, 42, 180, 1, 50, 182, 1, 62, 167, 0, 7, 42, 180, 1, 50, 172]
abbrev dktX5_route_9 : List UInt8 := dkwX5_route_9 ++ []
def dkwX5_route_8 : List UInt8 := [21, 6, 167, 0, 37, 21, 4, 4, 160, 0, 10, 42, 180, 1, 44, 167, 0, 24, 21, 4, 5, 160, 0, 14]
abbrev dktX5_route_8 : List UInt8 := dkwX5_route_8 ++ dktX5_route_9
def dkwX5_route_7 : List UInt8 := [4, 96, 182, 1, 53, 182, 1, 47, 128, 181, 1, 50, 132, 7, 1, 167, 255, 179, 21, 4, 154, 0, 8]
abbrev dktX5_route_7 : List UInt8 := dkwX5_route_7 ++ dktX5_route_8
def dkwX5_route_6 : List UInt8 := [42, 27, 21, 7, 182, 1, 32, 184, 1, 59, 54, 6, 42, 89, 180, 1, 50, 42, 29, 21, 6, 42, 21, 7]
abbrev dktX5_route_6 : List UInt8 := dkwX5_route_6 ++ dktX5_route_7
def dkwX5_route_5 : List UInt8 := [182, 1, 53, 182, 1, 56, 153, 0, 16, 42, 89, 180, 1, 44, 4, 96, 181, 1, 44, 167, 0, 17, 21, 6]
abbrev dktX5_route_5 : List UInt8 := dkwX5_route_5 ++ dktX5_route_6
def dkwX5_route_4 : List UInt8 := [182, 1, 47, 181, 1, 50, 3, 54, 7, 21, 7, 21, 5, 162, 0, 76, 42, 29, 21, 6, 42, 21, 7]
abbrev dktX5_route_4 : List UInt8 := dkwX5_route_4 ++ dktX5_route_5
def dkwX5_route_3 : List UInt8 := [54, 5, 42, 180, 0, 9, 29, 46, 54, 6, 42, 3, 181, 1, 44, 42, 42, 29, 21, 6, 42, 180, 0, 153]
abbrev dktX5_route_3 : List UInt8 := dkwX5_route_3 ++ dktX5_route_4
def dkwX5_route_2 : List UInt8 := [27, 182, 1, 38, 172, 42, 27, 182, 1, 41, 28, 162, 0, 11, 42, 27, 182, 1, 41, 167, 0, 4, 28]
abbrev dktX5_route_2 : List UInt8 := dkwX5_route_2 ++ dktX5_route_3
def dkwX5_route_1 : List UInt8 := [153, 0, 13, 21, 4, 3, 6, 184, 0, 136, 154, 0, 5, 2, 172, 42, 27, 182, 1, 38, 156, 0, 9, 42]
abbrev dktX5_route_1 : List UInt8 := dkwX5_route_1 ++ dktX5_route_2
def dkwX5_route_0 : List UInt8 := [27, 184, 0, 164, 153, 0, 31, 28, 3, 16, 30, 184, 0, 136, 153, 0, 21, 42, 29, 182, 0, 146]
abbrev dktX5_route_0 : List UInt8 := dkwX5_route_0 ++ dktX5_route_1
theorem dksX5_route_0 : cX5_route.data.toList.drop 0 = dktX5_route_0 := by decide +kernel
theorem dksX5_route_1 : cX5_route.data.toList.drop 22 = dktX5_route_1 := dk_seg dksX5_route_0 22 rfl rfl
theorem dksX5_route_2 : cX5_route.data.toList.drop 46 = dktX5_route_2 := dk_seg dksX5_route_1 24 rfl rfl
theorem dksX5_route_3 : cX5_route.data.toList.drop 69 = dktX5_route_3 := dk_seg dksX5_route_2 23 rfl rfl
theorem dksX5_route_4 : cX5_route.data.toList.drop 93 = dktX5_route_4 := dk_seg dksX5_route_3 24 rfl rfl
theorem dksX5_route_5 : cX5_route.data.toList.drop 116 = dktX5_route_5 := dk_seg dksX5_route_4 23 rfl rfl
theorem dksX5_route_6 : cX5_route.data.toList.drop 140 = dktX5_route_6 := dk_seg dksX5_route_5 24 rfl rfl
theorem dksX5_route_7 : cX5_route.data.toList.drop 164 = dktX5_route_7 := dk_seg dksX5_route_6 24 rfl rfl
theorem dksX5_route_8 : cX5_route.data.toList.drop 187 = dktX5_route_8 := dk_seg dksX5_route_7 23 rfl rfl
theorem dksX5_route_9 : cX5_route.data.toList.drop 211 = dktX5_route_9 := dk_seg dksX5_route_8 24 rfl rfl
theorem dX5_route_0 : decode cX5_route 0 = .ok (.iload_n 1, 1) := dk_27 (dk_at dksX5_route_0 0 rfl rfl)
theorem dX5_route_1 : decode cX5_route 1 = .ok (.invokestatic 164, 3) := dk_184 0 164 (dk_at dksX5_route_0 1 rfl rfl)
theorem dX5_route_4 : decode cX5_route 4 = .ok (.ifCond .eq 31, 3) := dk_153 0 31 (dk_at dksX5_route_0 4 rfl rfl)
theorem dX5_route_7 : decode cX5_route 7 = .ok (.iload_n 2, 1) := dk_28 (dk_at dksX5_route_0 7 rfl rfl)
theorem dX5_route_8 : decode cX5_route 8 = .ok (.iconst 0, 1) := dk_3 (dk_at dksX5_route_0 8 rfl rfl)
theorem dX5_route_9 : decode cX5_route 9 = .ok (.bipush 30, 2) := dk_16 30 (dk_at dksX5_route_0 9 rfl rfl)
theorem dX5_route_11 : decode cX5_route 11 = .ok (.invokestatic 136, 3) := dk_184 0 136 (dk_at dksX5_route_0 11 rfl rfl)
theorem dX5_route_14 : decode cX5_route 14 = .ok (.ifCond .eq 21, 3) := dk_153 0 21 (dk_at dksX5_route_0 14 rfl rfl)
theorem dX5_route_17 : decode cX5_route 17 = .ok (.aload_n 0, 1) := dk_42 (dk_at dksX5_route_0 17 rfl rfl)
theorem dX5_route_18 : decode cX5_route 18 = .ok (.iload_n 3, 1) := dk_29 (dk_at dksX5_route_0 18 rfl rfl)
theorem dX5_route_19 : decode cX5_route 19 = .ok (.invokevirtual 146, 3) := dk_182 0 146 (dk_at dksX5_route_0 19 rfl rfl)
theorem dX5_route_22 : decode cX5_route 22 = .ok (.ifCond .eq 13, 3) := dk_153 0 13 (dk_at dksX5_route_1 0 rfl rfl)
theorem dX5_route_25 : decode cX5_route 25 = .ok (.iload 4, 2) := dk_21 4 (dk_at dksX5_route_1 3 rfl rfl)
theorem dX5_route_27 : decode cX5_route 27 = .ok (.iconst 0, 1) := dk_3 (dk_at dksX5_route_1 5 rfl rfl)
theorem dX5_route_28 : decode cX5_route 28 = .ok (.iconst 3, 1) := dk_6 (dk_at dksX5_route_1 6 rfl rfl)
theorem dX5_route_29 : decode cX5_route 29 = .ok (.invokestatic 136, 3) := dk_184 0 136 (dk_at dksX5_route_1 7 rfl rfl)
theorem dX5_route_32 : decode cX5_route 32 = .ok (.ifCond .ne 5, 3) := dk_154 0 5 (dk_at dksX5_route_1 10 rfl rfl)
theorem dX5_route_35 : decode cX5_route 35 = .ok (.iconst (-1), 1) := dk_2 (dk_at dksX5_route_1 13 rfl rfl)
theorem dX5_route_36 : decode cX5_route 36 = .ok (.ireturn, 1) := dk_172 (dk_at dksX5_route_1 14 rfl rfl)
theorem dX5_route_37 : decode cX5_route 37 = .ok (.aload_n 0, 1) := dk_42 (dk_at dksX5_route_1 15 rfl rfl)
theorem dX5_route_38 : decode cX5_route 38 = .ok (.iload_n 1, 1) := dk_27 (dk_at dksX5_route_1 16 rfl rfl)
theorem dX5_route_39 : decode cX5_route 39 = .ok (.invokevirtual 294, 3) := dk_182 1 38 (dk_at dksX5_route_1 17 rfl rfl)
theorem dX5_route_42 : decode cX5_route 42 = .ok (.ifCond .ge 9, 3) := dk_156 0 9 (dk_at dksX5_route_1 20 rfl rfl)
theorem dX5_route_45 : decode cX5_route 45 = .ok (.aload_n 0, 1) := dk_42 (dk_at dksX5_route_1 23 rfl rfl)
theorem dX5_route_46 : decode cX5_route 46 = .ok (.iload_n 1, 1) := dk_27 (dk_at dksX5_route_2 0 rfl rfl)
theorem dX5_route_47 : decode cX5_route 47 = .ok (.invokevirtual 294, 3) := dk_182 1 38 (dk_at dksX5_route_2 1 rfl rfl)
theorem dX5_route_50 : decode cX5_route 50 = .ok (.ireturn, 1) := dk_172 (dk_at dksX5_route_2 4 rfl rfl)
theorem dX5_route_51 : decode cX5_route 51 = .ok (.aload_n 0, 1) := dk_42 (dk_at dksX5_route_2 5 rfl rfl)
theorem dX5_route_52 : decode cX5_route 52 = .ok (.iload_n 1, 1) := dk_27 (dk_at dksX5_route_2 6 rfl rfl)
theorem dX5_route_53 : decode cX5_route 53 = .ok (.invokevirtual 297, 3) := dk_182 1 41 (dk_at dksX5_route_2 7 rfl rfl)
theorem dX5_route_56 : decode cX5_route 56 = .ok (.iload_n 2, 1) := dk_28 (dk_at dksX5_route_2 10 rfl rfl)
theorem dX5_route_57 : decode cX5_route 57 = .ok (.if_icmp .ge 11, 3) := dk_162 0 11 (dk_at dksX5_route_2 11 rfl rfl)
theorem dX5_route_60 : decode cX5_route 60 = .ok (.aload_n 0, 1) := dk_42 (dk_at dksX5_route_2 14 rfl rfl)
theorem dX5_route_61 : decode cX5_route 61 = .ok (.iload_n 1, 1) := dk_27 (dk_at dksX5_route_2 15 rfl rfl)
theorem dX5_route_62 : decode cX5_route 62 = .ok (.invokevirtual 297, 3) := dk_182 1 41 (dk_at dksX5_route_2 16 rfl rfl)
theorem dX5_route_65 : decode cX5_route 65 = .ok (.goto 4, 3) := dk_167 0 4 (dk_at dksX5_route_2 19 rfl rfl)
theorem dX5_route_68 : decode cX5_route 68 = .ok (.iload_n 2, 1) := dk_28 (dk_at dksX5_route_2 22 rfl rfl)
theorem dX5_route_69 : decode cX5_route 69 = .ok (.istore 5, 2) := dk_54 5 (dk_at dksX5_route_3 0 rfl rfl)
theorem dX5_route_71 : decode cX5_route 71 = .ok (.aload_n 0, 1) := dk_42 (dk_at dksX5_route_3 2 rfl rfl)
theorem dX5_route_72 : decode cX5_route 72 = .ok (.getfield 9, 3) := dk_180 0 9 (dk_at dksX5_route_3 3 rfl rfl)
theorem dX5_route_75 : decode cX5_route 75 = .ok (.iload_n 3, 1) := dk_29 (dk_at dksX5_route_3 6 rfl rfl)
theorem dX5_route_76 : decode cX5_route 76 = .ok (.iaload, 1) := dk_46 (dk_at dksX5_route_3 7 rfl rfl)
theorem dX5_route_77 : decode cX5_route 77 = .ok (.istore 6, 2) := dk_54 6 (dk_at dksX5_route_3 8 rfl rfl)
theorem dX5_route_79 : decode cX5_route 79 = .ok (.aload_n 0, 1) := dk_42 (dk_at dksX5_route_3 10 rfl rfl)
theorem dX5_route_80 : decode cX5_route 80 = .ok (.iconst 0, 1) := dk_3 (dk_at dksX5_route_3 11 rfl rfl)
theorem dX5_route_81 : decode cX5_route 81 = .ok (.putfield 300, 3) := dk_181 1 44 (dk_at dksX5_route_3 12 rfl rfl)
theorem dX5_route_84 : decode cX5_route 84 = .ok (.aload_n 0, 1) := dk_42 (dk_at dksX5_route_3 15 rfl rfl)
theorem dX5_route_85 : decode cX5_route 85 = .ok (.aload_n 0, 1) := dk_42 (dk_at dksX5_route_3 16 rfl rfl)
theorem dX5_route_86 : decode cX5_route 86 = .ok (.iload_n 3, 1) := dk_29 (dk_at dksX5_route_3 17 rfl rfl)
theorem dX5_route_87 : decode cX5_route 87 = .ok (.iload 6, 2) := dk_21 6 (dk_at dksX5_route_3 18 rfl rfl)
theorem dX5_route_89 : decode cX5_route 89 = .ok (.aload_n 0, 1) := dk_42 (dk_at dksX5_route_3 20 rfl rfl)
theorem dX5_route_90 : decode cX5_route 90 = .ok (.getfield 153, 3) := dk_180 0 153 (dk_at dksX5_route_3 21 rfl rfl)
theorem dX5_route_93 : decode cX5_route 93 = .ok (.invokevirtual 303, 3) := dk_182 1 47 (dk_at dksX5_route_4 0 rfl rfl)
theorem dX5_route_96 : decode cX5_route 96 = .ok (.putfield 306, 3) := dk_181 1 50 (dk_at dksX5_route_4 3 rfl rfl)
theorem dX5_route_99 : decode cX5_route 99 = .ok (.iconst 0, 1) := dk_3 (dk_at dksX5_route_4 6 rfl rfl)
theorem dX5_route_100 : decode cX5_route 100 = .ok (.istore 7, 2) := dk_54 7 (dk_at dksX5_route_4 7 rfl rfl)
theorem dX5_route_102 : decode cX5_route 102 = .ok (.iload 7, 2) := dk_21 7 (dk_at dksX5_route_4 9 rfl rfl)
theorem dX5_route_104 : decode cX5_route 104 = .ok (.iload 5, 2) := dk_21 5 (dk_at dksX5_route_4 11 rfl rfl)
theorem dX5_route_106 : decode cX5_route 106 = .ok (.if_icmp .ge 76, 3) := dk_162 0 76 (dk_at dksX5_route_4 13 rfl rfl)
theorem dX5_route_109 : decode cX5_route 109 = .ok (.aload_n 0, 1) := dk_42 (dk_at dksX5_route_4 16 rfl rfl)
theorem dX5_route_110 : decode cX5_route 110 = .ok (.iload_n 3, 1) := dk_29 (dk_at dksX5_route_4 17 rfl rfl)
theorem dX5_route_111 : decode cX5_route 111 = .ok (.iload 6, 2) := dk_21 6 (dk_at dksX5_route_4 18 rfl rfl)
theorem dX5_route_113 : decode cX5_route 113 = .ok (.aload_n 0, 1) := dk_42 (dk_at dksX5_route_4 20 rfl rfl)
theorem dX5_route_114 : decode cX5_route 114 = .ok (.iload 7, 2) := dk_21 7 (dk_at dksX5_route_4 21 rfl rfl)
theorem dX5_route_116 : decode cX5_route 116 = .ok (.invokevirtual 309, 3) := dk_182 1 53 (dk_at dksX5_route_5 0 rfl rfl)
theorem dX5_route_119 : decode cX5_route 119 = .ok (.invokevirtual 312, 3) := dk_182 1 56 (dk_at dksX5_route_5 3 rfl rfl)
theorem dX5_route_122 : decode cX5_route 122 = .ok (.ifCond .eq 16, 3) := dk_153 0 16 (dk_at dksX5_route_5 6 rfl rfl)
theorem dX5_route_125 : decode cX5_route 125 = .ok (.aload_n 0, 1) := dk_42 (dk_at dksX5_route_5 9 rfl rfl)
theorem dX5_route_126 : decode cX5_route 126 = .ok (.dup, 1) := dk_89 (dk_at dksX5_route_5 10 rfl rfl)
theorem dX5_route_127 : decode cX5_route 127 = .ok (.getfield 300, 3) := dk_180 1 44 (dk_at dksX5_route_5 11 rfl rfl)
theorem dX5_route_130 : decode cX5_route 130 = .ok (.iconst 1, 1) := dk_4 (dk_at dksX5_route_5 14 rfl rfl)
theorem dX5_route_131 : decode cX5_route 131 = .ok (.iadd, 1) := dk_96 (dk_at dksX5_route_5 15 rfl rfl)
theorem dX5_route_132 : decode cX5_route 132 = .ok (.putfield 300, 3) := dk_181 1 44 (dk_at dksX5_route_5 16 rfl rfl)
theorem dX5_route_135 : decode cX5_route 135 = .ok (.goto 17, 3) := dk_167 0 17 (dk_at dksX5_route_5 19 rfl rfl)
theorem dX5_route_138 : decode cX5_route 138 = .ok (.iload 6, 2) := dk_21 6 (dk_at dksX5_route_5 22 rfl rfl)
theorem dX5_route_140 : decode cX5_route 140 = .ok (.aload_n 0, 1) := dk_42 (dk_at dksX5_route_6 0 rfl rfl)
theorem dX5_route_141 : decode cX5_route 141 = .ok (.iload_n 1, 1) := dk_27 (dk_at dksX5_route_6 1 rfl rfl)
theorem dX5_route_142 : decode cX5_route 142 = .ok (.iload 7, 2) := dk_21 7 (dk_at dksX5_route_6 2 rfl rfl)
theorem dX5_route_144 : decode cX5_route 144 = .ok (.invokevirtual 288, 3) := dk_182 1 32 (dk_at dksX5_route_6 4 rfl rfl)
theorem dX5_route_147 : decode cX5_route 147 = .ok (.invokestatic 315, 3) := dk_184 1 59 (dk_at dksX5_route_6 7 rfl rfl)
theorem dX5_route_150 : decode cX5_route 150 = .ok (.istore 6, 2) := dk_54 6 (dk_at dksX5_route_6 10 rfl rfl)
theorem dX5_route_152 : decode cX5_route 152 = .ok (.aload_n 0, 1) := dk_42 (dk_at dksX5_route_6 12 rfl rfl)
theorem dX5_route_153 : decode cX5_route 153 = .ok (.dup, 1) := dk_89 (dk_at dksX5_route_6 13 rfl rfl)
theorem dX5_route_154 : decode cX5_route 154 = .ok (.getfield 306, 3) := dk_180 1 50 (dk_at dksX5_route_6 14 rfl rfl)
theorem dX5_route_157 : decode cX5_route 157 = .ok (.aload_n 0, 1) := dk_42 (dk_at dksX5_route_6 17 rfl rfl)
theorem dX5_route_158 : decode cX5_route 158 = .ok (.iload_n 3, 1) := dk_29 (dk_at dksX5_route_6 18 rfl rfl)
theorem dX5_route_159 : decode cX5_route 159 = .ok (.iload 6, 2) := dk_21 6 (dk_at dksX5_route_6 19 rfl rfl)
theorem dX5_route_161 : decode cX5_route 161 = .ok (.aload_n 0, 1) := dk_42 (dk_at dksX5_route_6 21 rfl rfl)
theorem dX5_route_162 : decode cX5_route 162 = .ok (.iload 7, 2) := dk_21 7 (dk_at dksX5_route_6 22 rfl rfl)
theorem dX5_route_164 : decode cX5_route 164 = .ok (.iconst 1, 1) := dk_4 (dk_at dksX5_route_7 0 rfl rfl)
theorem dX5_route_165 : decode cX5_route 165 = .ok (.iadd, 1) := dk_96 (dk_at dksX5_route_7 1 rfl rfl)
theorem dX5_route_166 : decode cX5_route 166 = .ok (.invokevirtual 309, 3) := dk_182 1 53 (dk_at dksX5_route_7 2 rfl rfl)
theorem dX5_route_169 : decode cX5_route 169 = .ok (.invokevirtual 303, 3) := dk_182 1 47 (dk_at dksX5_route_7 5 rfl rfl)
theorem dX5_route_172 : decode cX5_route 172 = .ok (.ior, 1) := dk_128 (dk_at dksX5_route_7 8 rfl rfl)
theorem dX5_route_173 : decode cX5_route 173 = .ok (.putfield 306, 3) := dk_181 1 50 (dk_at dksX5_route_7 9 rfl rfl)
theorem dX5_route_176 : decode cX5_route 176 = .ok (.iinc 7 1, 3) := dk_132 7 1 (dk_at dksX5_route_7 12 rfl rfl)
theorem dX5_route_179 : decode cX5_route 179 = .ok (.goto (-77), 3) := dk_167 255 179 (dk_at dksX5_route_7 15 rfl rfl)
theorem dX5_route_182 : decode cX5_route 182 = .ok (.iload 4, 2) := dk_21 4 (dk_at dksX5_route_7 18 rfl rfl)
theorem dX5_route_184 : decode cX5_route 184 = .ok (.ifCond .ne 8, 3) := dk_154 0 8 (dk_at dksX5_route_7 20 rfl rfl)
theorem dX5_route_187 : decode cX5_route 187 = .ok (.iload 6, 2) := dk_21 6 (dk_at dksX5_route_8 0 rfl rfl)
theorem dX5_route_189 : decode cX5_route 189 = .ok (.goto 37, 3) := dk_167 0 37 (dk_at dksX5_route_8 2 rfl rfl)
theorem dX5_route_192 : decode cX5_route 192 = .ok (.iload 4, 2) := dk_21 4 (dk_at dksX5_route_8 5 rfl rfl)
theorem dX5_route_194 : decode cX5_route 194 = .ok (.iconst 1, 1) := dk_4 (dk_at dksX5_route_8 7 rfl rfl)
theorem dX5_route_195 : decode cX5_route 195 = .ok (.if_icmp .ne 10, 3) := dk_160 0 10 (dk_at dksX5_route_8 8 rfl rfl)
theorem dX5_route_198 : decode cX5_route 198 = .ok (.aload_n 0, 1) := dk_42 (dk_at dksX5_route_8 11 rfl rfl)
theorem dX5_route_199 : decode cX5_route 199 = .ok (.getfield 300, 3) := dk_180 1 44 (dk_at dksX5_route_8 12 rfl rfl)
theorem dX5_route_202 : decode cX5_route 202 = .ok (.goto 24, 3) := dk_167 0 24 (dk_at dksX5_route_8 15 rfl rfl)
theorem dX5_route_205 : decode cX5_route 205 = .ok (.iload 4, 2) := dk_21 4 (dk_at dksX5_route_8 18 rfl rfl)
theorem dX5_route_207 : decode cX5_route 207 = .ok (.iconst 2, 1) := dk_5 (dk_at dksX5_route_8 20 rfl rfl)
theorem dX5_route_208 : decode cX5_route 208 = .ok (.if_icmp .ne 14, 3) := dk_160 0 14 (dk_at dksX5_route_8 21 rfl rfl)
theorem dX5_route_211 : decode cX5_route 211 = .ok (.aload_n 0, 1) := dk_42 (dk_at dksX5_route_9 0 rfl rfl)
theorem dX5_route_212 : decode cX5_route 212 = .ok (.aload_n 0, 1) := dk_42 (dk_at dksX5_route_9 1 rfl rfl)
theorem dX5_route_213 : decode cX5_route 213 = .ok (.getfield 306, 3) := dk_180 1 50 (dk_at dksX5_route_9 2 rfl rfl)
theorem dX5_route_216 : decode cX5_route 216 = .ok (.invokevirtual 318, 3) := dk_182 1 62 (dk_at dksX5_route_9 5 rfl rfl)
theorem dX5_route_219 : decode cX5_route 219 = .ok (.goto 7, 3) := dk_167 0 7 (dk_at dksX5_route_9 8 rfl rfl)
theorem dX5_route_222 : decode cX5_route 222 = .ok (.aload_n 0, 1) := dk_42 (dk_at dksX5_route_9 11 rfl rfl)
theorem dX5_route_223 : decode cX5_route 223 = .ok (.getfield 306, 3) := dk_180 1 50 (dk_at dksX5_route_9 12 rfl rfl)
theorem dX5_route_226 : decode cX5_route 226 = .ok (.ireturn, 1) := dk_172 (dk_at dksX5_route_9 15 rfl rfl)
abbrev cX5_rowFault : ByteArray := prog_25_method_53_code
def yX5_rowFault : MethodName := ⟨RX5, "rowFault", "(I)I"⟩
def dkwX5_rowFault_1 : List UInt8 := [160, 0, 7, 3, 167, 0, 5, 16, 244, 172]
abbrev dktX5_rowFault_1 : List UInt8 := dkwX5_rowFault_1 ++ []
def dkwX5_rowFault_0 : List UInt8 := [42, 180, 0, 120, 27, 46, 2, 160, 0, 8, 16, 245, 167, 0, 20, 42, 180, 0, 120, 27, 46, 16, 254]
abbrev dktX5_rowFault_0 : List UInt8 := dkwX5_rowFault_0 ++ dktX5_rowFault_1
theorem dksX5_rowFault_0 : cX5_rowFault.data.toList.drop 0 = dktX5_rowFault_0 := by decide +kernel
theorem dksX5_rowFault_1 : cX5_rowFault.data.toList.drop 23 = dktX5_rowFault_1 := dk_seg dksX5_rowFault_0 23 rfl rfl
theorem dX5_rowFault_0 : decode cX5_rowFault 0 = .ok (.aload_n 0, 1) := dk_42 (dk_at dksX5_rowFault_0 0 rfl rfl)
theorem dX5_rowFault_1 : decode cX5_rowFault 1 = .ok (.getfield 120, 3) := dk_180 0 120 (dk_at dksX5_rowFault_0 1 rfl rfl)
theorem dX5_rowFault_4 : decode cX5_rowFault 4 = .ok (.iload_n 1, 1) := dk_27 (dk_at dksX5_rowFault_0 4 rfl rfl)
theorem dX5_rowFault_5 : decode cX5_rowFault 5 = .ok (.iaload, 1) := dk_46 (dk_at dksX5_rowFault_0 5 rfl rfl)
theorem dX5_rowFault_6 : decode cX5_rowFault 6 = .ok (.iconst (-1), 1) := dk_2 (dk_at dksX5_rowFault_0 6 rfl rfl)
theorem dX5_rowFault_7 : decode cX5_rowFault 7 = .ok (.if_icmp .ne 8, 3) := dk_160 0 8 (dk_at dksX5_rowFault_0 7 rfl rfl)
theorem dX5_rowFault_10 : decode cX5_rowFault 10 = .ok (.bipush (-11), 2) := dk_16 245 (dk_at dksX5_rowFault_0 10 rfl rfl)
theorem dX5_rowFault_12 : decode cX5_rowFault 12 = .ok (.goto 20, 3) := dk_167 0 20 (dk_at dksX5_rowFault_0 12 rfl rfl)
theorem dX5_rowFault_15 : decode cX5_rowFault 15 = .ok (.aload_n 0, 1) := dk_42 (dk_at dksX5_rowFault_0 15 rfl rfl)
theorem dX5_rowFault_16 : decode cX5_rowFault 16 = .ok (.getfield 120, 3) := dk_180 0 120 (dk_at dksX5_rowFault_0 16 rfl rfl)
theorem dX5_rowFault_19 : decode cX5_rowFault 19 = .ok (.iload_n 1, 1) := dk_27 (dk_at dksX5_rowFault_0 19 rfl rfl)
theorem dX5_rowFault_20 : decode cX5_rowFault 20 = .ok (.iaload, 1) := dk_46 (dk_at dksX5_rowFault_0 20 rfl rfl)
theorem dX5_rowFault_21 : decode cX5_rowFault 21 = .ok (.bipush (-2), 2) := dk_16 254 (dk_at dksX5_rowFault_0 21 rfl rfl)
theorem dX5_rowFault_23 : decode cX5_rowFault 23 = .ok (.if_icmp .ne 7, 3) := dk_160 0 7 (dk_at dksX5_rowFault_1 0 rfl rfl)
theorem dX5_rowFault_26 : decode cX5_rowFault 26 = .ok (.iconst 0, 1) := dk_3 (dk_at dksX5_rowFault_1 3 rfl rfl)
theorem dX5_rowFault_27 : decode cX5_rowFault 27 = .ok (.goto 5, 3) := dk_167 0 5 (dk_at dksX5_rowFault_1 4 rfl rfl)
theorem dX5_rowFault_30 : decode cX5_rowFault 30 = .ok (.bipush (-12), 2) := dk_16 244 (dk_at dksX5_rowFault_1 7 rfl rfl)
theorem dX5_rowFault_32 : decode cX5_rowFault 32 = .ok (.ireturn, 1) := dk_172 (dk_at dksX5_rowFault_1 9 rfl rfl)
abbrev cX5_stepsOf : ByteArray := prog_25_method_55_code
def yX5_stepsOf : MethodName := ⟨RX5, "stepsOf", "(I)I"⟩
def dkwX5_stepsOf_1 : List UInt8 := [3, 7, 184, 0, 136, 153, 0, 9, 132, 2, 1, 167, 255, 223, 28, 172]
abbrev dktX5_stepsOf_1 : List UInt8 := dkwX5_stepsOf_1 ++ []
def dkwX5_stepsOf_0 : List UInt8 := [3, 61, 28, 16, 30, 162, 0, 33, 28, 42, 180, 0, 123, 27, 46, 162, 0, 23, 42, 27, 28, 182, 1, 32]
abbrev dktX5_stepsOf_0 : List UInt8 := dkwX5_stepsOf_0 ++ dktX5_stepsOf_1
theorem dksX5_stepsOf_0 : cX5_stepsOf.data.toList.drop 0 = dktX5_stepsOf_0 := by decide +kernel
theorem dksX5_stepsOf_1 : cX5_stepsOf.data.toList.drop 24 = dktX5_stepsOf_1 := dk_seg dksX5_stepsOf_0 24 rfl rfl
theorem dX5_stepsOf_0 : decode cX5_stepsOf 0 = .ok (.iconst 0, 1) := dk_3 (dk_at dksX5_stepsOf_0 0 rfl rfl)
theorem dX5_stepsOf_1 : decode cX5_stepsOf 1 = .ok (.istore_n 2, 1) := dk_61 (dk_at dksX5_stepsOf_0 1 rfl rfl)
theorem dX5_stepsOf_2 : decode cX5_stepsOf 2 = .ok (.iload_n 2, 1) := dk_28 (dk_at dksX5_stepsOf_0 2 rfl rfl)
theorem dX5_stepsOf_3 : decode cX5_stepsOf 3 = .ok (.bipush 30, 2) := dk_16 30 (dk_at dksX5_stepsOf_0 3 rfl rfl)
theorem dX5_stepsOf_5 : decode cX5_stepsOf 5 = .ok (.if_icmp .ge 33, 3) := dk_162 0 33 (dk_at dksX5_stepsOf_0 5 rfl rfl)
theorem dX5_stepsOf_8 : decode cX5_stepsOf 8 = .ok (.iload_n 2, 1) := dk_28 (dk_at dksX5_stepsOf_0 8 rfl rfl)
theorem dX5_stepsOf_9 : decode cX5_stepsOf 9 = .ok (.aload_n 0, 1) := dk_42 (dk_at dksX5_stepsOf_0 9 rfl rfl)
theorem dX5_stepsOf_10 : decode cX5_stepsOf 10 = .ok (.getfield 123, 3) := dk_180 0 123 (dk_at dksX5_stepsOf_0 10 rfl rfl)
theorem dX5_stepsOf_13 : decode cX5_stepsOf 13 = .ok (.iload_n 1, 1) := dk_27 (dk_at dksX5_stepsOf_0 13 rfl rfl)
theorem dX5_stepsOf_14 : decode cX5_stepsOf 14 = .ok (.iaload, 1) := dk_46 (dk_at dksX5_stepsOf_0 14 rfl rfl)
theorem dX5_stepsOf_15 : decode cX5_stepsOf 15 = .ok (.if_icmp .ge 23, 3) := dk_162 0 23 (dk_at dksX5_stepsOf_0 15 rfl rfl)
theorem dX5_stepsOf_18 : decode cX5_stepsOf 18 = .ok (.aload_n 0, 1) := dk_42 (dk_at dksX5_stepsOf_0 18 rfl rfl)
theorem dX5_stepsOf_19 : decode cX5_stepsOf 19 = .ok (.iload_n 1, 1) := dk_27 (dk_at dksX5_stepsOf_0 19 rfl rfl)
theorem dX5_stepsOf_20 : decode cX5_stepsOf 20 = .ok (.iload_n 2, 1) := dk_28 (dk_at dksX5_stepsOf_0 20 rfl rfl)
theorem dX5_stepsOf_21 : decode cX5_stepsOf 21 = .ok (.invokevirtual 288, 3) := dk_182 1 32 (dk_at dksX5_stepsOf_0 21 rfl rfl)
theorem dX5_stepsOf_24 : decode cX5_stepsOf 24 = .ok (.iconst 0, 1) := dk_3 (dk_at dksX5_stepsOf_1 0 rfl rfl)
theorem dX5_stepsOf_25 : decode cX5_stepsOf 25 = .ok (.iconst 4, 1) := dk_7 (dk_at dksX5_stepsOf_1 1 rfl rfl)
theorem dX5_stepsOf_26 : decode cX5_stepsOf 26 = .ok (.invokestatic 136, 3) := dk_184 0 136 (dk_at dksX5_stepsOf_1 2 rfl rfl)
theorem dX5_stepsOf_29 : decode cX5_stepsOf 29 = .ok (.ifCond .eq 9, 3) := dk_153 0 9 (dk_at dksX5_stepsOf_1 5 rfl rfl)
theorem dX5_stepsOf_32 : decode cX5_stepsOf 32 = .ok (.iinc 2 1, 3) := dk_132 2 1 (dk_at dksX5_stepsOf_1 8 rfl rfl)
theorem dX5_stepsOf_35 : decode cX5_stepsOf 35 = .ok (.goto (-33), 3) := dk_167 255 223 (dk_at dksX5_stepsOf_1 11 rfl rfl)
theorem dX5_stepsOf_38 : decode cX5_stepsOf 38 = .ok (.iload_n 2, 1) := dk_28 (dk_at dksX5_stepsOf_1 14 rfl rfl)
theorem dX5_stepsOf_39 : decode cX5_stepsOf 39 = .ok (.ireturn, 1) := dk_172 (dk_at dksX5_stepsOf_1 15 rfl rfl)
abbrev cX5_at : ByteArray := prog_25_method_54_code
def yX5_at : MethodName := ⟨RX5, "at", "(II)I"⟩
def dkwX5_at_0 : List UInt8 := [42, 180, 0, 126, 16, 60, 27, 104, 28, 96, 47, 136, 172]
abbrev dktX5_at_0 : List UInt8 := dkwX5_at_0 ++ []
theorem dksX5_at_0 : cX5_at.data.toList.drop 0 = dktX5_at_0 := by decide +kernel
theorem dX5_at_0 : decode cX5_at 0 = .ok (.aload_n 0, 1) := dk_42 (dk_at dksX5_at_0 0 rfl rfl)
theorem dX5_at_1 : decode cX5_at 1 = .ok (.getfield 126, 3) := dk_180 0 126 (dk_at dksX5_at_0 1 rfl rfl)
theorem dX5_at_4 : decode cX5_at 4 = .ok (.bipush 60, 2) := dk_16 60 (dk_at dksX5_at_0 4 rfl rfl)
theorem dX5_at_6 : decode cX5_at 6 = .ok (.iload_n 1, 1) := dk_27 (dk_at dksX5_at_0 6 rfl rfl)
theorem dX5_at_7 : decode cX5_at 7 = .ok (.imul, 1) := dk_104 (dk_at dksX5_at_0 7 rfl rfl)
theorem dX5_at_8 : decode cX5_at 8 = .ok (.iload_n 2, 1) := dk_28 (dk_at dksX5_at_0 8 rfl rfl)
theorem dX5_at_9 : decode cX5_at 9 = .ok (.iadd, 1) := dk_96 (dk_at dksX5_at_0 9 rfl rfl)
theorem dX5_at_10 : decode cX5_at 10 = .ok (.laload, 1) := dk_47 (dk_at dksX5_at_0 10 rfl rfl)
theorem dX5_at_11 : decode cX5_at 11 = .ok (.l2i, 1) := dk_136 (dk_at dksX5_at_0 11 rfl rfl)
theorem dX5_at_12 : decode cX5_at 12 = .ok (.ireturn, 1) := dk_172 (dk_at dksX5_at_0 12 rfl rfl)
abbrev cX5_keptAt : ByteArray := prog_25_method_56_code
def yX5_keptAt : MethodName := ⟨RX5, "keptAt", "(III)I"⟩
def dkwX5_keptAt_2 : List UInt8 := [21, 4, 4, 21, 5, 120, 128, 54, 4, 132, 5, 1, 167, 255, 203, 21, 4, 172]
abbrev dktX5_keptAt_2 : List UInt8 := dkwX5_keptAt_2 ++ []
def dkwX5_keptAt_1 : List UInt8 := [160, 0, 33, 42, 180, 0, 24, 21, 5, 46, 28, 160, 0, 22, 42, 21, 5, 29, 182, 1, 11, 153, 0, 12]
abbrev dktX5_keptAt_1 : List UInt8 := dkwX5_keptAt_1 ++ dktX5_keptAt_2
def dkwX5_keptAt_0 : List UInt8 := [3, 54, 4, 3, 54, 5, 21, 5, 42, 180, 0, 143, 162, 0, 50, 42, 180, 0, 18, 21, 5, 46, 27]
abbrev dktX5_keptAt_0 : List UInt8 := dkwX5_keptAt_0 ++ dktX5_keptAt_1
theorem dksX5_keptAt_0 : cX5_keptAt.data.toList.drop 0 = dktX5_keptAt_0 := by decide +kernel
theorem dksX5_keptAt_1 : cX5_keptAt.data.toList.drop 23 = dktX5_keptAt_1 := dk_seg dksX5_keptAt_0 23 rfl rfl
theorem dksX5_keptAt_2 : cX5_keptAt.data.toList.drop 47 = dktX5_keptAt_2 := dk_seg dksX5_keptAt_1 24 rfl rfl
theorem dX5_keptAt_0 : decode cX5_keptAt 0 = .ok (.iconst 0, 1) := dk_3 (dk_at dksX5_keptAt_0 0 rfl rfl)
theorem dX5_keptAt_1 : decode cX5_keptAt 1 = .ok (.istore 4, 2) := dk_54 4 (dk_at dksX5_keptAt_0 1 rfl rfl)
theorem dX5_keptAt_3 : decode cX5_keptAt 3 = .ok (.iconst 0, 1) := dk_3 (dk_at dksX5_keptAt_0 3 rfl rfl)
theorem dX5_keptAt_4 : decode cX5_keptAt 4 = .ok (.istore 5, 2) := dk_54 5 (dk_at dksX5_keptAt_0 4 rfl rfl)
theorem dX5_keptAt_6 : decode cX5_keptAt 6 = .ok (.iload 5, 2) := dk_21 5 (dk_at dksX5_keptAt_0 6 rfl rfl)
theorem dX5_keptAt_8 : decode cX5_keptAt 8 = .ok (.aload_n 0, 1) := dk_42 (dk_at dksX5_keptAt_0 8 rfl rfl)
theorem dX5_keptAt_9 : decode cX5_keptAt 9 = .ok (.getfield 143, 3) := dk_180 0 143 (dk_at dksX5_keptAt_0 9 rfl rfl)
theorem dX5_keptAt_12 : decode cX5_keptAt 12 = .ok (.if_icmp .ge 50, 3) := dk_162 0 50 (dk_at dksX5_keptAt_0 12 rfl rfl)
theorem dX5_keptAt_15 : decode cX5_keptAt 15 = .ok (.aload_n 0, 1) := dk_42 (dk_at dksX5_keptAt_0 15 rfl rfl)
theorem dX5_keptAt_16 : decode cX5_keptAt 16 = .ok (.getfield 18, 3) := dk_180 0 18 (dk_at dksX5_keptAt_0 16 rfl rfl)
theorem dX5_keptAt_19 : decode cX5_keptAt 19 = .ok (.iload 5, 2) := dk_21 5 (dk_at dksX5_keptAt_0 19 rfl rfl)
theorem dX5_keptAt_21 : decode cX5_keptAt 21 = .ok (.iaload, 1) := dk_46 (dk_at dksX5_keptAt_0 21 rfl rfl)
theorem dX5_keptAt_22 : decode cX5_keptAt 22 = .ok (.iload_n 1, 1) := dk_27 (dk_at dksX5_keptAt_0 22 rfl rfl)
theorem dX5_keptAt_23 : decode cX5_keptAt 23 = .ok (.if_icmp .ne 33, 3) := dk_160 0 33 (dk_at dksX5_keptAt_1 0 rfl rfl)
theorem dX5_keptAt_26 : decode cX5_keptAt 26 = .ok (.aload_n 0, 1) := dk_42 (dk_at dksX5_keptAt_1 3 rfl rfl)
theorem dX5_keptAt_27 : decode cX5_keptAt 27 = .ok (.getfield 24, 3) := dk_180 0 24 (dk_at dksX5_keptAt_1 4 rfl rfl)
theorem dX5_keptAt_30 : decode cX5_keptAt 30 = .ok (.iload 5, 2) := dk_21 5 (dk_at dksX5_keptAt_1 7 rfl rfl)
theorem dX5_keptAt_32 : decode cX5_keptAt 32 = .ok (.iaload, 1) := dk_46 (dk_at dksX5_keptAt_1 9 rfl rfl)
theorem dX5_keptAt_33 : decode cX5_keptAt 33 = .ok (.iload_n 2, 1) := dk_28 (dk_at dksX5_keptAt_1 10 rfl rfl)
theorem dX5_keptAt_34 : decode cX5_keptAt 34 = .ok (.if_icmp .ne 22, 3) := dk_160 0 22 (dk_at dksX5_keptAt_1 11 rfl rfl)
theorem dX5_keptAt_37 : decode cX5_keptAt 37 = .ok (.aload_n 0, 1) := dk_42 (dk_at dksX5_keptAt_1 14 rfl rfl)
theorem dX5_keptAt_38 : decode cX5_keptAt 38 = .ok (.iload 5, 2) := dk_21 5 (dk_at dksX5_keptAt_1 15 rfl rfl)
theorem dX5_keptAt_40 : decode cX5_keptAt 40 = .ok (.iload_n 3, 1) := dk_29 (dk_at dksX5_keptAt_1 17 rfl rfl)
theorem dX5_keptAt_41 : decode cX5_keptAt 41 = .ok (.invokevirtual 267, 3) := dk_182 1 11 (dk_at dksX5_keptAt_1 18 rfl rfl)
theorem dX5_keptAt_44 : decode cX5_keptAt 44 = .ok (.ifCond .eq 12, 3) := dk_153 0 12 (dk_at dksX5_keptAt_1 21 rfl rfl)
theorem dX5_keptAt_47 : decode cX5_keptAt 47 = .ok (.iload 4, 2) := dk_21 4 (dk_at dksX5_keptAt_2 0 rfl rfl)
theorem dX5_keptAt_49 : decode cX5_keptAt 49 = .ok (.iconst 1, 1) := dk_4 (dk_at dksX5_keptAt_2 2 rfl rfl)
theorem dX5_keptAt_50 : decode cX5_keptAt 50 = .ok (.iload 5, 2) := dk_21 5 (dk_at dksX5_keptAt_2 3 rfl rfl)
theorem dX5_keptAt_52 : decode cX5_keptAt 52 = .ok (.ishl, 1) := dk_120 (dk_at dksX5_keptAt_2 5 rfl rfl)
theorem dX5_keptAt_53 : decode cX5_keptAt 53 = .ok (.ior, 1) := dk_128 (dk_at dksX5_keptAt_2 6 rfl rfl)
theorem dX5_keptAt_54 : decode cX5_keptAt 54 = .ok (.istore 4, 2) := dk_54 4 (dk_at dksX5_keptAt_2 7 rfl rfl)
theorem dX5_keptAt_56 : decode cX5_keptAt 56 = .ok (.iinc 5 1, 3) := dk_132 5 1 (dk_at dksX5_keptAt_2 9 rfl rfl)
theorem dX5_keptAt_59 : decode cX5_keptAt 59 = .ok (.goto (-53), 3) := dk_167 255 203 (dk_at dksX5_keptAt_2 12 rfl rfl)
theorem dX5_keptAt_62 : decode cX5_keptAt 62 = .ok (.iload 4, 2) := dk_21 4 (dk_at dksX5_keptAt_2 15 rfl rfl)
theorem dX5_keptAt_64 : decode cX5_keptAt 64 = .ok (.ireturn, 1) := dk_172 (dk_at dksX5_keptAt_2 17 rfl rfl)
abbrev cX5_dayOn : ByteArray := prog_25_method_52_code
def yX5_dayOn : MethodName := ⟨RX5, "dayOn", "(I)I"⟩
def dkwX5_dayOn_0 : List UInt8 := [42, 180, 0, 153, 27, 96, 16, 99, 164, 0, 8, 16, 99, 167, 0, 9, 42, 180, 0, 153, 27, 96, 172]
abbrev dktX5_dayOn_0 : List UInt8 := dkwX5_dayOn_0 ++ []
theorem dksX5_dayOn_0 : cX5_dayOn.data.toList.drop 0 = dktX5_dayOn_0 := by decide +kernel
theorem dX5_dayOn_0 : decode cX5_dayOn 0 = .ok (.aload_n 0, 1) := dk_42 (dk_at dksX5_dayOn_0 0 rfl rfl)
theorem dX5_dayOn_1 : decode cX5_dayOn 1 = .ok (.getfield 153, 3) := dk_180 0 153 (dk_at dksX5_dayOn_0 1 rfl rfl)
theorem dX5_dayOn_4 : decode cX5_dayOn 4 = .ok (.iload_n 1, 1) := dk_27 (dk_at dksX5_dayOn_0 4 rfl rfl)
theorem dX5_dayOn_5 : decode cX5_dayOn 5 = .ok (.iadd, 1) := dk_96 (dk_at dksX5_dayOn_0 5 rfl rfl)
theorem dX5_dayOn_6 : decode cX5_dayOn 6 = .ok (.bipush 99, 2) := dk_16 99 (dk_at dksX5_dayOn_0 6 rfl rfl)
theorem dX5_dayOn_8 : decode cX5_dayOn 8 = .ok (.if_icmp .le 8, 3) := dk_164 0 8 (dk_at dksX5_dayOn_0 8 rfl rfl)
theorem dX5_dayOn_11 : decode cX5_dayOn 11 = .ok (.bipush 99, 2) := dk_16 99 (dk_at dksX5_dayOn_0 11 rfl rfl)
theorem dX5_dayOn_13 : decode cX5_dayOn 13 = .ok (.goto 9, 3) := dk_167 0 9 (dk_at dksX5_dayOn_0 13 rfl rfl)
theorem dX5_dayOn_16 : decode cX5_dayOn 16 = .ok (.aload_n 0, 1) := dk_42 (dk_at dksX5_dayOn_0 16 rfl rfl)
theorem dX5_dayOn_17 : decode cX5_dayOn 17 = .ok (.getfield 153, 3) := dk_180 0 153 (dk_at dksX5_dayOn_0 17 rfl rfl)
theorem dX5_dayOn_20 : decode cX5_dayOn 20 = .ok (.iload_n 1, 1) := dk_27 (dk_at dksX5_dayOn_0 20 rfl rfl)
theorem dX5_dayOn_21 : decode cX5_dayOn 21 = .ok (.iadd, 1) := dk_96 (dk_at dksX5_dayOn_0 21 rfl rfl)
theorem dX5_dayOn_22 : decode cX5_dayOn 22 = .ok (.ireturn, 1) := dk_172 (dk_at dksX5_dayOn_0 22 rfl rfl)
abbrev cX5_isHeld : ByteArray := prog_25_method_48_code
def yX5_isHeld : MethodName := ⟨RX5, "isHeld", "(III)Z"⟩
def dkwX5_isHeld_0 : List UInt8 := [42, 27, 28, 29, 182, 1, 26, 158, 0, 7, 4, 167, 0, 4, 3, 172]
abbrev dktX5_isHeld_0 : List UInt8 := dkwX5_isHeld_0 ++ []
theorem dksX5_isHeld_0 : cX5_isHeld.data.toList.drop 0 = dktX5_isHeld_0 := by decide +kernel
theorem dX5_isHeld_0 : decode cX5_isHeld 0 = .ok (.aload_n 0, 1) := dk_42 (dk_at dksX5_isHeld_0 0 rfl rfl)
theorem dX5_isHeld_1 : decode cX5_isHeld 1 = .ok (.iload_n 1, 1) := dk_27 (dk_at dksX5_isHeld_0 1 rfl rfl)
theorem dX5_isHeld_2 : decode cX5_isHeld 2 = .ok (.iload_n 2, 1) := dk_28 (dk_at dksX5_isHeld_0 2 rfl rfl)
theorem dX5_isHeld_3 : decode cX5_isHeld 3 = .ok (.iload_n 3, 1) := dk_29 (dk_at dksX5_isHeld_0 3 rfl rfl)
theorem dX5_isHeld_4 : decode cX5_isHeld 4 = .ok (.invokevirtual 282, 3) := dk_182 1 26 (dk_at dksX5_isHeld_0 4 rfl rfl)
theorem dX5_isHeld_7 : decode cX5_isHeld 7 = .ok (.ifCond .le 7, 3) := dk_158 0 7 (dk_at dksX5_isHeld_0 7 rfl rfl)
theorem dX5_isHeld_10 : decode cX5_isHeld 10 = .ok (.iconst 1, 1) := dk_4 (dk_at dksX5_isHeld_0 10 rfl rfl)
theorem dX5_isHeld_11 : decode cX5_isHeld 11 = .ok (.goto 4, 3) := dk_167 0 4 (dk_at dksX5_isHeld_0 11 rfl rfl)
theorem dX5_isHeld_14 : decode cX5_isHeld 14 = .ok (.iconst 0, 1) := dk_3 (dk_at dksX5_isHeld_0 14 rfl rfl)
theorem dX5_isHeld_15 : decode cX5_isHeld 15 = .ok (.ireturn, 1) := dk_172 (dk_at dksX5_isHeld_0 15 rfl rfl)
abbrev cX5_stepped : ByteArray := prog_25_method_51_code
def yX5_stepped : MethodName := ⟨RX5, "stepped", "(II)I"⟩
def dkwX5_stepped_3 : List UInt8 := [167, 0, 4, 26, 172]
abbrev dktX5_stepped_3 : List UInt8 := dkwX5_stepped_3 ++ []
def dkwX5_stepped_2 : List UInt8 := [3, 7, 184, 0, 136, 153, 0, 20, 29, 3, 7, 184, 0, 136, 153, 0, 11, 8, 29, 104, 28, 96]
abbrev dktX5_stepped_2 : List UInt8 := dkwX5_stepped_2 ++ dktX5_stepped_3
def dkwX5_stepped_1 : List UInt8 := [26, 8, 108, 27, 154, 0, 7, 2, 167, 0, 13, 27, 5, 160, 0, 7, 4, 167, 0, 4, 3, 96, 62, 28]
abbrev dktX5_stepped_1 : List UInt8 := dkwX5_stepped_1 ++ dktX5_stepped_2
def dkwX5_stepped_0 : List UInt8 := [26, 8, 112, 27, 4, 160, 0, 7, 4, 167, 0, 13, 27, 6, 160, 0, 7, 2, 167, 0, 4, 3, 96, 61]
abbrev dktX5_stepped_0 : List UInt8 := dkwX5_stepped_0 ++ dktX5_stepped_1
theorem dksX5_stepped_0 : cX5_stepped.data.toList.drop 0 = dktX5_stepped_0 := by decide +kernel
theorem dksX5_stepped_1 : cX5_stepped.data.toList.drop 24 = dktX5_stepped_1 := dk_seg dksX5_stepped_0 24 rfl rfl
theorem dksX5_stepped_2 : cX5_stepped.data.toList.drop 48 = dktX5_stepped_2 := dk_seg dksX5_stepped_1 24 rfl rfl
theorem dksX5_stepped_3 : cX5_stepped.data.toList.drop 70 = dktX5_stepped_3 := dk_seg dksX5_stepped_2 22 rfl rfl
theorem dX5_stepped_0 : decode cX5_stepped 0 = .ok (.iload_n 0, 1) := dk_26 (dk_at dksX5_stepped_0 0 rfl rfl)
theorem dX5_stepped_1 : decode cX5_stepped 1 = .ok (.iconst 5, 1) := dk_8 (dk_at dksX5_stepped_0 1 rfl rfl)
theorem dX5_stepped_2 : decode cX5_stepped 2 = .ok (.irem, 1) := dk_112 (dk_at dksX5_stepped_0 2 rfl rfl)
theorem dX5_stepped_3 : decode cX5_stepped 3 = .ok (.iload_n 1, 1) := dk_27 (dk_at dksX5_stepped_0 3 rfl rfl)
theorem dX5_stepped_4 : decode cX5_stepped 4 = .ok (.iconst 1, 1) := dk_4 (dk_at dksX5_stepped_0 4 rfl rfl)
theorem dX5_stepped_5 : decode cX5_stepped 5 = .ok (.if_icmp .ne 7, 3) := dk_160 0 7 (dk_at dksX5_stepped_0 5 rfl rfl)
theorem dX5_stepped_8 : decode cX5_stepped 8 = .ok (.iconst 1, 1) := dk_4 (dk_at dksX5_stepped_0 8 rfl rfl)
theorem dX5_stepped_9 : decode cX5_stepped 9 = .ok (.goto 13, 3) := dk_167 0 13 (dk_at dksX5_stepped_0 9 rfl rfl)
theorem dX5_stepped_12 : decode cX5_stepped 12 = .ok (.iload_n 1, 1) := dk_27 (dk_at dksX5_stepped_0 12 rfl rfl)
theorem dX5_stepped_13 : decode cX5_stepped 13 = .ok (.iconst 3, 1) := dk_6 (dk_at dksX5_stepped_0 13 rfl rfl)
theorem dX5_stepped_14 : decode cX5_stepped 14 = .ok (.if_icmp .ne 7, 3) := dk_160 0 7 (dk_at dksX5_stepped_0 14 rfl rfl)
theorem dX5_stepped_17 : decode cX5_stepped 17 = .ok (.iconst (-1), 1) := dk_2 (dk_at dksX5_stepped_0 17 rfl rfl)
theorem dX5_stepped_18 : decode cX5_stepped 18 = .ok (.goto 4, 3) := dk_167 0 4 (dk_at dksX5_stepped_0 18 rfl rfl)
theorem dX5_stepped_21 : decode cX5_stepped 21 = .ok (.iconst 0, 1) := dk_3 (dk_at dksX5_stepped_0 21 rfl rfl)
theorem dX5_stepped_22 : decode cX5_stepped 22 = .ok (.iadd, 1) := dk_96 (dk_at dksX5_stepped_0 22 rfl rfl)
theorem dX5_stepped_23 : decode cX5_stepped 23 = .ok (.istore_n 2, 1) := dk_61 (dk_at dksX5_stepped_0 23 rfl rfl)
theorem dX5_stepped_24 : decode cX5_stepped 24 = .ok (.iload_n 0, 1) := dk_26 (dk_at dksX5_stepped_1 0 rfl rfl)
theorem dX5_stepped_25 : decode cX5_stepped 25 = .ok (.iconst 5, 1) := dk_8 (dk_at dksX5_stepped_1 1 rfl rfl)
theorem dX5_stepped_26 : decode cX5_stepped 26 = .ok (.idiv, 1) := dk_108 (dk_at dksX5_stepped_1 2 rfl rfl)
theorem dX5_stepped_27 : decode cX5_stepped 27 = .ok (.iload_n 1, 1) := dk_27 (dk_at dksX5_stepped_1 3 rfl rfl)
theorem dX5_stepped_28 : decode cX5_stepped 28 = .ok (.ifCond .ne 7, 3) := dk_154 0 7 (dk_at dksX5_stepped_1 4 rfl rfl)
theorem dX5_stepped_31 : decode cX5_stepped 31 = .ok (.iconst (-1), 1) := dk_2 (dk_at dksX5_stepped_1 7 rfl rfl)
theorem dX5_stepped_32 : decode cX5_stepped 32 = .ok (.goto 13, 3) := dk_167 0 13 (dk_at dksX5_stepped_1 8 rfl rfl)
theorem dX5_stepped_35 : decode cX5_stepped 35 = .ok (.iload_n 1, 1) := dk_27 (dk_at dksX5_stepped_1 11 rfl rfl)
theorem dX5_stepped_36 : decode cX5_stepped 36 = .ok (.iconst 2, 1) := dk_5 (dk_at dksX5_stepped_1 12 rfl rfl)
theorem dX5_stepped_37 : decode cX5_stepped 37 = .ok (.if_icmp .ne 7, 3) := dk_160 0 7 (dk_at dksX5_stepped_1 13 rfl rfl)
theorem dX5_stepped_40 : decode cX5_stepped 40 = .ok (.iconst 1, 1) := dk_4 (dk_at dksX5_stepped_1 16 rfl rfl)
theorem dX5_stepped_41 : decode cX5_stepped 41 = .ok (.goto 4, 3) := dk_167 0 4 (dk_at dksX5_stepped_1 17 rfl rfl)
theorem dX5_stepped_44 : decode cX5_stepped 44 = .ok (.iconst 0, 1) := dk_3 (dk_at dksX5_stepped_1 20 rfl rfl)
theorem dX5_stepped_45 : decode cX5_stepped 45 = .ok (.iadd, 1) := dk_96 (dk_at dksX5_stepped_1 21 rfl rfl)
theorem dX5_stepped_46 : decode cX5_stepped 46 = .ok (.istore_n 3, 1) := dk_62 (dk_at dksX5_stepped_1 22 rfl rfl)
theorem dX5_stepped_47 : decode cX5_stepped 47 = .ok (.iload_n 2, 1) := dk_28 (dk_at dksX5_stepped_1 23 rfl rfl)
theorem dX5_stepped_48 : decode cX5_stepped 48 = .ok (.iconst 0, 1) := dk_3 (dk_at dksX5_stepped_2 0 rfl rfl)
theorem dX5_stepped_49 : decode cX5_stepped 49 = .ok (.iconst 4, 1) := dk_7 (dk_at dksX5_stepped_2 1 rfl rfl)
theorem dX5_stepped_50 : decode cX5_stepped 50 = .ok (.invokestatic 136, 3) := dk_184 0 136 (dk_at dksX5_stepped_2 2 rfl rfl)
theorem dX5_stepped_53 : decode cX5_stepped 53 = .ok (.ifCond .eq 20, 3) := dk_153 0 20 (dk_at dksX5_stepped_2 5 rfl rfl)
theorem dX5_stepped_56 : decode cX5_stepped 56 = .ok (.iload_n 3, 1) := dk_29 (dk_at dksX5_stepped_2 8 rfl rfl)
theorem dX5_stepped_57 : decode cX5_stepped 57 = .ok (.iconst 0, 1) := dk_3 (dk_at dksX5_stepped_2 9 rfl rfl)
theorem dX5_stepped_58 : decode cX5_stepped 58 = .ok (.iconst 4, 1) := dk_7 (dk_at dksX5_stepped_2 10 rfl rfl)
theorem dX5_stepped_59 : decode cX5_stepped 59 = .ok (.invokestatic 136, 3) := dk_184 0 136 (dk_at dksX5_stepped_2 11 rfl rfl)
theorem dX5_stepped_62 : decode cX5_stepped 62 = .ok (.ifCond .eq 11, 3) := dk_153 0 11 (dk_at dksX5_stepped_2 14 rfl rfl)
theorem dX5_stepped_65 : decode cX5_stepped 65 = .ok (.iconst 5, 1) := dk_8 (dk_at dksX5_stepped_2 17 rfl rfl)
theorem dX5_stepped_66 : decode cX5_stepped 66 = .ok (.iload_n 3, 1) := dk_29 (dk_at dksX5_stepped_2 18 rfl rfl)
theorem dX5_stepped_67 : decode cX5_stepped 67 = .ok (.imul, 1) := dk_104 (dk_at dksX5_stepped_2 19 rfl rfl)
theorem dX5_stepped_68 : decode cX5_stepped 68 = .ok (.iload_n 2, 1) := dk_28 (dk_at dksX5_stepped_2 20 rfl rfl)
theorem dX5_stepped_69 : decode cX5_stepped 69 = .ok (.iadd, 1) := dk_96 (dk_at dksX5_stepped_2 21 rfl rfl)
theorem dX5_stepped_70 : decode cX5_stepped 70 = .ok (.goto 4, 3) := dk_167 0 4 (dk_at dksX5_stepped_3 0 rfl rfl)
theorem dX5_stepped_73 : decode cX5_stepped 73 = .ok (.iload_n 0, 1) := dk_26 (dk_at dksX5_stepped_3 3 rfl rfl)
theorem dX5_stepped_74 : decode cX5_stepped 74 = .ok (.ireturn, 1) := dk_172 (dk_at dksX5_stepped_3 4 rfl rfl)
abbrev cX5_weightsOf : ByteArray := prog_25_method_57_code
def yX5_weightsOf : MethodName := ⟨RX5, "weightsOf", "(I)I"⟩
def dkwX5_weightsOf_1 : List UInt8 := [180, 0, 27, 29, 46, 96, 61, 132, 3, 1, 167, 255, 228, 28, 172]
abbrev dktX5_weightsOf_1 : List UInt8 := dkwX5_weightsOf_1 ++ []
def dkwX5_weightsOf_0 : List UInt8 := [3, 61, 3, 62, 29, 42, 180, 0, 143, 162, 0, 26, 27, 29, 184, 1, 35, 153, 0, 12, 28, 42]
abbrev dktX5_weightsOf_0 : List UInt8 := dkwX5_weightsOf_0 ++ dktX5_weightsOf_1
theorem dksX5_weightsOf_0 : cX5_weightsOf.data.toList.drop 0 = dktX5_weightsOf_0 := by decide +kernel
theorem dksX5_weightsOf_1 : cX5_weightsOf.data.toList.drop 22 = dktX5_weightsOf_1 := dk_seg dksX5_weightsOf_0 22 rfl rfl
theorem dX5_weightsOf_0 : decode cX5_weightsOf 0 = .ok (.iconst 0, 1) := dk_3 (dk_at dksX5_weightsOf_0 0 rfl rfl)
theorem dX5_weightsOf_1 : decode cX5_weightsOf 1 = .ok (.istore_n 2, 1) := dk_61 (dk_at dksX5_weightsOf_0 1 rfl rfl)
theorem dX5_weightsOf_2 : decode cX5_weightsOf 2 = .ok (.iconst 0, 1) := dk_3 (dk_at dksX5_weightsOf_0 2 rfl rfl)
theorem dX5_weightsOf_3 : decode cX5_weightsOf 3 = .ok (.istore_n 3, 1) := dk_62 (dk_at dksX5_weightsOf_0 3 rfl rfl)
theorem dX5_weightsOf_4 : decode cX5_weightsOf 4 = .ok (.iload_n 3, 1) := dk_29 (dk_at dksX5_weightsOf_0 4 rfl rfl)
theorem dX5_weightsOf_5 : decode cX5_weightsOf 5 = .ok (.aload_n 0, 1) := dk_42 (dk_at dksX5_weightsOf_0 5 rfl rfl)
theorem dX5_weightsOf_6 : decode cX5_weightsOf 6 = .ok (.getfield 143, 3) := dk_180 0 143 (dk_at dksX5_weightsOf_0 6 rfl rfl)
theorem dX5_weightsOf_9 : decode cX5_weightsOf 9 = .ok (.if_icmp .ge 26, 3) := dk_162 0 26 (dk_at dksX5_weightsOf_0 9 rfl rfl)
theorem dX5_weightsOf_12 : decode cX5_weightsOf 12 = .ok (.iload_n 1, 1) := dk_27 (dk_at dksX5_weightsOf_0 12 rfl rfl)
theorem dX5_weightsOf_13 : decode cX5_weightsOf 13 = .ok (.iload_n 3, 1) := dk_29 (dk_at dksX5_weightsOf_0 13 rfl rfl)
theorem dX5_weightsOf_14 : decode cX5_weightsOf 14 = .ok (.invokestatic 291, 3) := dk_184 1 35 (dk_at dksX5_weightsOf_0 14 rfl rfl)
theorem dX5_weightsOf_17 : decode cX5_weightsOf 17 = .ok (.ifCond .eq 12, 3) := dk_153 0 12 (dk_at dksX5_weightsOf_0 17 rfl rfl)
theorem dX5_weightsOf_20 : decode cX5_weightsOf 20 = .ok (.iload_n 2, 1) := dk_28 (dk_at dksX5_weightsOf_0 20 rfl rfl)
theorem dX5_weightsOf_21 : decode cX5_weightsOf 21 = .ok (.aload_n 0, 1) := dk_42 (dk_at dksX5_weightsOf_0 21 rfl rfl)
theorem dX5_weightsOf_22 : decode cX5_weightsOf 22 = .ok (.getfield 27, 3) := dk_180 0 27 (dk_at dksX5_weightsOf_1 0 rfl rfl)
theorem dX5_weightsOf_25 : decode cX5_weightsOf 25 = .ok (.iload_n 3, 1) := dk_29 (dk_at dksX5_weightsOf_1 3 rfl rfl)
theorem dX5_weightsOf_26 : decode cX5_weightsOf 26 = .ok (.iaload, 1) := dk_46 (dk_at dksX5_weightsOf_1 4 rfl rfl)
theorem dX5_weightsOf_27 : decode cX5_weightsOf 27 = .ok (.iadd, 1) := dk_96 (dk_at dksX5_weightsOf_1 5 rfl rfl)
theorem dX5_weightsOf_28 : decode cX5_weightsOf 28 = .ok (.istore_n 2, 1) := dk_61 (dk_at dksX5_weightsOf_1 6 rfl rfl)
theorem dX5_weightsOf_29 : decode cX5_weightsOf 29 = .ok (.iinc 3 1, 3) := dk_132 3 1 (dk_at dksX5_weightsOf_1 7 rfl rfl)
theorem dX5_weightsOf_32 : decode cX5_weightsOf 32 = .ok (.goto (-28), 3) := dk_167 255 228 (dk_at dksX5_weightsOf_1 10 rfl rfl)
theorem dX5_weightsOf_35 : decode cX5_weightsOf 35 = .ok (.iload_n 2, 1) := dk_28 (dk_at dksX5_weightsOf_1 13 rfl rfl)
theorem dX5_weightsOf_36 : decode cX5_weightsOf 36 = .ok (.ireturn, 1) := dk_172 (dk_at dksX5_weightsOf_1 14 rfl rfl)
abbrev cX5_has : ByteArray := prog_25_method_4_code
def yX5_has : MethodName := ⟨RX5, "has", "(II)Z"⟩
def dkwX5_has_0 : List UInt8 := [26, 27, 122, 4, 126, 4, 160, 0, 7, 4, 167, 0, 4, 3, 172]
abbrev dktX5_has_0 : List UInt8 := dkwX5_has_0 ++ []
theorem dksX5_has_0 : cX5_has.data.toList.drop 0 = dktX5_has_0 := by decide +kernel
theorem dX5_has_0 : decode cX5_has 0 = .ok (.iload_n 0, 1) := dk_26 (dk_at dksX5_has_0 0 rfl rfl)
theorem dX5_has_1 : decode cX5_has 1 = .ok (.iload_n 1, 1) := dk_27 (dk_at dksX5_has_0 1 rfl rfl)
theorem dX5_has_2 : decode cX5_has 2 = .ok (.ishr, 1) := dk_122 (dk_at dksX5_has_0 2 rfl rfl)
theorem dX5_has_3 : decode cX5_has 3 = .ok (.iconst 1, 1) := dk_4 (dk_at dksX5_has_0 3 rfl rfl)
theorem dX5_has_4 : decode cX5_has 4 = .ok (.iand, 1) := dk_126 (dk_at dksX5_has_0 4 rfl rfl)
theorem dX5_has_5 : decode cX5_has 5 = .ok (.iconst 1, 1) := dk_4 (dk_at dksX5_has_0 5 rfl rfl)
theorem dX5_has_6 : decode cX5_has 6 = .ok (.if_icmp .ne 7, 3) := dk_160 0 7 (dk_at dksX5_has_0 6 rfl rfl)
theorem dX5_has_9 : decode cX5_has 9 = .ok (.iconst 1, 1) := dk_4 (dk_at dksX5_has_0 9 rfl rfl)
theorem dX5_has_10 : decode cX5_has 10 = .ok (.goto 4, 3) := dk_167 0 4 (dk_at dksX5_has_0 10 rfl rfl)
theorem dX5_has_13 : decode cX5_has 13 = .ok (.iconst 0, 1) := dk_3 (dk_at dksX5_has_0 13 rfl rfl)
theorem dX5_has_14 : decode cX5_has 14 = .ok (.ireturn, 1) := dk_172 (dk_at dksX5_has_0 14 rfl rfl)
abbrev cX5_best : ByteArray := prog_25_method_60_code
def yX5_best : MethodName := ⟨RX5, "best", "(III)I"⟩
def dkwX5_best_2 : List UInt8 := [182, 1, 68, 29, 156, 0, 10, 42, 180, 1, 65, 167, 0, 9, 42, 180, 0, 90, 29, 46, 172]
abbrev dktX5_best_2 : List UInt8 := dkwX5_best_2 ++ []
def dkwX5_best_1 : List UInt8 := [184, 0, 136, 154, 0, 5, 2, 172, 42, 2, 181, 1, 65, 42, 27, 42, 180, 0, 9, 27, 46, 3, 28, 3]
abbrev dktX5_best_1 : List UInt8 := dkwX5_best_1 ++ dktX5_best_2
def dkwX5_best_0 : List UInt8 := [42, 27, 182, 0, 146, 153, 0, 23, 28, 3, 7, 184, 0, 136, 153, 0, 14, 29, 2, 28, 4, 100]
abbrev dktX5_best_0 : List UInt8 := dkwX5_best_0 ++ dktX5_best_1
theorem dksX5_best_0 : cX5_best.data.toList.drop 0 = dktX5_best_0 := by decide +kernel
theorem dksX5_best_1 : cX5_best.data.toList.drop 22 = dktX5_best_1 := dk_seg dksX5_best_0 22 rfl rfl
theorem dksX5_best_2 : cX5_best.data.toList.drop 46 = dktX5_best_2 := dk_seg dksX5_best_1 24 rfl rfl
theorem dX5_best_0 : decode cX5_best 0 = .ok (.aload_n 0, 1) := dk_42 (dk_at dksX5_best_0 0 rfl rfl)
theorem dX5_best_1 : decode cX5_best 1 = .ok (.iload_n 1, 1) := dk_27 (dk_at dksX5_best_0 1 rfl rfl)
theorem dX5_best_2 : decode cX5_best 2 = .ok (.invokevirtual 146, 3) := dk_182 0 146 (dk_at dksX5_best_0 2 rfl rfl)
theorem dX5_best_5 : decode cX5_best 5 = .ok (.ifCond .eq 23, 3) := dk_153 0 23 (dk_at dksX5_best_0 5 rfl rfl)
theorem dX5_best_8 : decode cX5_best 8 = .ok (.iload_n 2, 1) := dk_28 (dk_at dksX5_best_0 8 rfl rfl)
theorem dX5_best_9 : decode cX5_best 9 = .ok (.iconst 0, 1) := dk_3 (dk_at dksX5_best_0 9 rfl rfl)
theorem dX5_best_10 : decode cX5_best 10 = .ok (.iconst 4, 1) := dk_7 (dk_at dksX5_best_0 10 rfl rfl)
theorem dX5_best_11 : decode cX5_best 11 = .ok (.invokestatic 136, 3) := dk_184 0 136 (dk_at dksX5_best_0 11 rfl rfl)
theorem dX5_best_14 : decode cX5_best 14 = .ok (.ifCond .eq 14, 3) := dk_153 0 14 (dk_at dksX5_best_0 14 rfl rfl)
theorem dX5_best_17 : decode cX5_best 17 = .ok (.iload_n 3, 1) := dk_29 (dk_at dksX5_best_0 17 rfl rfl)
theorem dX5_best_18 : decode cX5_best 18 = .ok (.iconst (-1), 1) := dk_2 (dk_at dksX5_best_0 18 rfl rfl)
theorem dX5_best_19 : decode cX5_best 19 = .ok (.iload_n 2, 1) := dk_28 (dk_at dksX5_best_0 19 rfl rfl)
theorem dX5_best_20 : decode cX5_best 20 = .ok (.iconst 1, 1) := dk_4 (dk_at dksX5_best_0 20 rfl rfl)
theorem dX5_best_21 : decode cX5_best 21 = .ok (.isub, 1) := dk_100 (dk_at dksX5_best_0 21 rfl rfl)
theorem dX5_best_22 : decode cX5_best 22 = .ok (.invokestatic 136, 3) := dk_184 0 136 (dk_at dksX5_best_1 0 rfl rfl)
theorem dX5_best_25 : decode cX5_best 25 = .ok (.ifCond .ne 5, 3) := dk_154 0 5 (dk_at dksX5_best_1 3 rfl rfl)
theorem dX5_best_28 : decode cX5_best 28 = .ok (.iconst (-1), 1) := dk_2 (dk_at dksX5_best_1 6 rfl rfl)
theorem dX5_best_29 : decode cX5_best 29 = .ok (.ireturn, 1) := dk_172 (dk_at dksX5_best_1 7 rfl rfl)
theorem dX5_best_30 : decode cX5_best 30 = .ok (.aload_n 0, 1) := dk_42 (dk_at dksX5_best_1 8 rfl rfl)
theorem dX5_best_31 : decode cX5_best 31 = .ok (.iconst (-1), 1) := dk_2 (dk_at dksX5_best_1 9 rfl rfl)
theorem dX5_best_32 : decode cX5_best 32 = .ok (.putfield 321, 3) := dk_181 1 65 (dk_at dksX5_best_1 10 rfl rfl)
theorem dX5_best_35 : decode cX5_best 35 = .ok (.aload_n 0, 1) := dk_42 (dk_at dksX5_best_1 13 rfl rfl)
theorem dX5_best_36 : decode cX5_best 36 = .ok (.iload_n 1, 1) := dk_27 (dk_at dksX5_best_1 14 rfl rfl)
theorem dX5_best_37 : decode cX5_best 37 = .ok (.aload_n 0, 1) := dk_42 (dk_at dksX5_best_1 15 rfl rfl)
theorem dX5_best_38 : decode cX5_best 38 = .ok (.getfield 9, 3) := dk_180 0 9 (dk_at dksX5_best_1 16 rfl rfl)
theorem dX5_best_41 : decode cX5_best 41 = .ok (.iload_n 1, 1) := dk_27 (dk_at dksX5_best_1 19 rfl rfl)
theorem dX5_best_42 : decode cX5_best 42 = .ok (.iaload, 1) := dk_46 (dk_at dksX5_best_1 20 rfl rfl)
theorem dX5_best_43 : decode cX5_best 43 = .ok (.iconst 0, 1) := dk_3 (dk_at dksX5_best_1 21 rfl rfl)
theorem dX5_best_44 : decode cX5_best 44 = .ok (.iload_n 2, 1) := dk_28 (dk_at dksX5_best_1 22 rfl rfl)
theorem dX5_best_45 : decode cX5_best 45 = .ok (.iconst 0, 1) := dk_3 (dk_at dksX5_best_1 23 rfl rfl)
theorem dX5_best_46 : decode cX5_best 46 = .ok (.invokevirtual 324, 3) := dk_182 1 68 (dk_at dksX5_best_2 0 rfl rfl)
theorem dX5_best_49 : decode cX5_best 49 = .ok (.iload_n 3, 1) := dk_29 (dk_at dksX5_best_2 3 rfl rfl)
theorem dX5_best_50 : decode cX5_best 50 = .ok (.ifCond .ge 10, 3) := dk_156 0 10 (dk_at dksX5_best_2 4 rfl rfl)
theorem dX5_best_53 : decode cX5_best 53 = .ok (.aload_n 0, 1) := dk_42 (dk_at dksX5_best_2 7 rfl rfl)
theorem dX5_best_54 : decode cX5_best 54 = .ok (.getfield 321, 3) := dk_180 1 65 (dk_at dksX5_best_2 8 rfl rfl)
theorem dX5_best_57 : decode cX5_best 57 = .ok (.goto 9, 3) := dk_167 0 9 (dk_at dksX5_best_2 11 rfl rfl)
theorem dX5_best_60 : decode cX5_best 60 = .ok (.aload_n 0, 1) := dk_42 (dk_at dksX5_best_2 14 rfl rfl)
theorem dX5_best_61 : decode cX5_best 61 = .ok (.getfield 90, 3) := dk_180 0 90 (dk_at dksX5_best_2 15 rfl rfl)
theorem dX5_best_64 : decode cX5_best 64 = .ok (.iload_n 3, 1) := dk_29 (dk_at dksX5_best_2 18 rfl rfl)
theorem dX5_best_65 : decode cX5_best 65 = .ok (.iaload, 1) := dk_46 (dk_at dksX5_best_2 19 rfl rfl)
theorem dX5_best_66 : decode cX5_best 66 = .ok (.ireturn, 1) := dk_172 (dk_at dksX5_best_2 20 rfl rfl)
abbrev cX5_goBest : ByteArray := prog_25_method_59_code
def yX5_goBest : MethodName := ⟨RX5, "goBest", "(IIIII)V"⟩
def dkwX5_goBest_6 : List UInt8 := [167, 255, 212, 177]
abbrev dktX5_goBest_6 : List UInt8 := dkwX5_goBest_6 ++ []
def dkwX5_goBest_5 : List UInt8 := [167, 0, 9, 28, 21, 8, 184, 1, 59, 29, 4, 96, 21, 4, 21, 6, 182, 1, 68, 132, 8, 1]
abbrev dktX5_goBest_5 : List UInt8 := dkwX5_goBest_5 ++ dktX5_goBest_6
def dkwX5_goBest_4 : List UInt8 := [21, 8, 8, 162, 0, 44, 42, 180, 0, 87, 29, 21, 8, 79, 42, 27, 21, 7, 153, 0, 7, 28]
abbrev dktX5_goBest_4 : List UInt8 := dkwX5_goBest_4 ++ dktX5_goBest_5
def dkwX5_goBest_3 : List UInt8 := [132, 7, 1, 167, 255, 232, 177, 42, 27, 28, 42, 29, 182, 1, 53, 182, 1, 56, 54, 7, 3, 54, 8]
abbrev dktX5_goBest_3 : List UInt8 := dkwX5_goBest_3 ++ dktX5_goBest_4
def dkwX5_goBest_2 : List UInt8 := [54, 7, 21, 7, 21, 4, 162, 0, 23, 42, 180, 0, 90, 21, 7, 42, 180, 0, 87, 21, 7, 46, 79]
abbrev dktX5_goBest_2 : List UInt8 := dkwX5_goBest_2 ++ dktX5_goBest_3
def dkwX5_goBest_1 : List UInt8 := [21, 6, 182, 1, 62, 42, 180, 1, 65, 163, 0, 4, 177, 42, 42, 21, 6, 182, 1, 62, 181, 1, 65, 3]
abbrev dktX5_goBest_1 : List UInt8 := dkwX5_goBest_1 ++ dktX5_goBest_2
def dkwX5_goBest_0 : List UInt8 := [21, 5, 42, 27, 28, 42, 29, 182, 1, 53, 182, 1, 47, 128, 54, 6, 29, 21, 4, 160, 0, 58, 42]
abbrev dktX5_goBest_0 : List UInt8 := dkwX5_goBest_0 ++ dktX5_goBest_1
theorem dksX5_goBest_0 : cX5_goBest.data.toList.drop 0 = dktX5_goBest_0 := by decide +kernel
theorem dksX5_goBest_1 : cX5_goBest.data.toList.drop 23 = dktX5_goBest_1 := dk_seg dksX5_goBest_0 23 rfl rfl
theorem dksX5_goBest_2 : cX5_goBest.data.toList.drop 47 = dktX5_goBest_2 := dk_seg dksX5_goBest_1 24 rfl rfl
theorem dksX5_goBest_3 : cX5_goBest.data.toList.drop 70 = dktX5_goBest_3 := dk_seg dksX5_goBest_2 23 rfl rfl
theorem dksX5_goBest_4 : cX5_goBest.data.toList.drop 93 = dktX5_goBest_4 := dk_seg dksX5_goBest_3 23 rfl rfl
theorem dksX5_goBest_5 : cX5_goBest.data.toList.drop 115 = dktX5_goBest_5 := dk_seg dksX5_goBest_4 22 rfl rfl
theorem dksX5_goBest_6 : cX5_goBest.data.toList.drop 137 = dktX5_goBest_6 := dk_seg dksX5_goBest_5 22 rfl rfl
theorem dX5_goBest_0 : decode cX5_goBest 0 = .ok (.iload 5, 2) := dk_21 5 (dk_at dksX5_goBest_0 0 rfl rfl)
theorem dX5_goBest_2 : decode cX5_goBest 2 = .ok (.aload_n 0, 1) := dk_42 (dk_at dksX5_goBest_0 2 rfl rfl)
theorem dX5_goBest_3 : decode cX5_goBest 3 = .ok (.iload_n 1, 1) := dk_27 (dk_at dksX5_goBest_0 3 rfl rfl)
theorem dX5_goBest_4 : decode cX5_goBest 4 = .ok (.iload_n 2, 1) := dk_28 (dk_at dksX5_goBest_0 4 rfl rfl)
theorem dX5_goBest_5 : decode cX5_goBest 5 = .ok (.aload_n 0, 1) := dk_42 (dk_at dksX5_goBest_0 5 rfl rfl)
theorem dX5_goBest_6 : decode cX5_goBest 6 = .ok (.iload_n 3, 1) := dk_29 (dk_at dksX5_goBest_0 6 rfl rfl)
theorem dX5_goBest_7 : decode cX5_goBest 7 = .ok (.invokevirtual 309, 3) := dk_182 1 53 (dk_at dksX5_goBest_0 7 rfl rfl)
theorem dX5_goBest_10 : decode cX5_goBest 10 = .ok (.invokevirtual 303, 3) := dk_182 1 47 (dk_at dksX5_goBest_0 10 rfl rfl)
theorem dX5_goBest_13 : decode cX5_goBest 13 = .ok (.ior, 1) := dk_128 (dk_at dksX5_goBest_0 13 rfl rfl)
theorem dX5_goBest_14 : decode cX5_goBest 14 = .ok (.istore 6, 2) := dk_54 6 (dk_at dksX5_goBest_0 14 rfl rfl)
theorem dX5_goBest_16 : decode cX5_goBest 16 = .ok (.iload_n 3, 1) := dk_29 (dk_at dksX5_goBest_0 16 rfl rfl)
theorem dX5_goBest_17 : decode cX5_goBest 17 = .ok (.iload 4, 2) := dk_21 4 (dk_at dksX5_goBest_0 17 rfl rfl)
theorem dX5_goBest_19 : decode cX5_goBest 19 = .ok (.if_icmp .ne 58, 3) := dk_160 0 58 (dk_at dksX5_goBest_0 19 rfl rfl)
theorem dX5_goBest_22 : decode cX5_goBest 22 = .ok (.aload_n 0, 1) := dk_42 (dk_at dksX5_goBest_0 22 rfl rfl)
theorem dX5_goBest_23 : decode cX5_goBest 23 = .ok (.iload 6, 2) := dk_21 6 (dk_at dksX5_goBest_1 0 rfl rfl)
theorem dX5_goBest_25 : decode cX5_goBest 25 = .ok (.invokevirtual 318, 3) := dk_182 1 62 (dk_at dksX5_goBest_1 2 rfl rfl)
theorem dX5_goBest_28 : decode cX5_goBest 28 = .ok (.aload_n 0, 1) := dk_42 (dk_at dksX5_goBest_1 5 rfl rfl)
theorem dX5_goBest_29 : decode cX5_goBest 29 = .ok (.getfield 321, 3) := dk_180 1 65 (dk_at dksX5_goBest_1 6 rfl rfl)
theorem dX5_goBest_32 : decode cX5_goBest 32 = .ok (.if_icmp .gt 4, 3) := dk_163 0 4 (dk_at dksX5_goBest_1 9 rfl rfl)
theorem dX5_goBest_35 : decode cX5_goBest 35 = .ok (.return_, 1) := dk_177 (dk_at dksX5_goBest_1 12 rfl rfl)
theorem dX5_goBest_36 : decode cX5_goBest 36 = .ok (.aload_n 0, 1) := dk_42 (dk_at dksX5_goBest_1 13 rfl rfl)
theorem dX5_goBest_37 : decode cX5_goBest 37 = .ok (.aload_n 0, 1) := dk_42 (dk_at dksX5_goBest_1 14 rfl rfl)
theorem dX5_goBest_38 : decode cX5_goBest 38 = .ok (.iload 6, 2) := dk_21 6 (dk_at dksX5_goBest_1 15 rfl rfl)
theorem dX5_goBest_40 : decode cX5_goBest 40 = .ok (.invokevirtual 318, 3) := dk_182 1 62 (dk_at dksX5_goBest_1 17 rfl rfl)
theorem dX5_goBest_43 : decode cX5_goBest 43 = .ok (.putfield 321, 3) := dk_181 1 65 (dk_at dksX5_goBest_1 20 rfl rfl)
theorem dX5_goBest_46 : decode cX5_goBest 46 = .ok (.iconst 0, 1) := dk_3 (dk_at dksX5_goBest_1 23 rfl rfl)
theorem dX5_goBest_47 : decode cX5_goBest 47 = .ok (.istore 7, 2) := dk_54 7 (dk_at dksX5_goBest_2 0 rfl rfl)
theorem dX5_goBest_49 : decode cX5_goBest 49 = .ok (.iload 7, 2) := dk_21 7 (dk_at dksX5_goBest_2 2 rfl rfl)
theorem dX5_goBest_51 : decode cX5_goBest 51 = .ok (.iload 4, 2) := dk_21 4 (dk_at dksX5_goBest_2 4 rfl rfl)
theorem dX5_goBest_53 : decode cX5_goBest 53 = .ok (.if_icmp .ge 23, 3) := dk_162 0 23 (dk_at dksX5_goBest_2 6 rfl rfl)
theorem dX5_goBest_56 : decode cX5_goBest 56 = .ok (.aload_n 0, 1) := dk_42 (dk_at dksX5_goBest_2 9 rfl rfl)
theorem dX5_goBest_57 : decode cX5_goBest 57 = .ok (.getfield 90, 3) := dk_180 0 90 (dk_at dksX5_goBest_2 10 rfl rfl)
theorem dX5_goBest_60 : decode cX5_goBest 60 = .ok (.iload 7, 2) := dk_21 7 (dk_at dksX5_goBest_2 13 rfl rfl)
theorem dX5_goBest_62 : decode cX5_goBest 62 = .ok (.aload_n 0, 1) := dk_42 (dk_at dksX5_goBest_2 15 rfl rfl)
theorem dX5_goBest_63 : decode cX5_goBest 63 = .ok (.getfield 87, 3) := dk_180 0 87 (dk_at dksX5_goBest_2 16 rfl rfl)
theorem dX5_goBest_66 : decode cX5_goBest 66 = .ok (.iload 7, 2) := dk_21 7 (dk_at dksX5_goBest_2 19 rfl rfl)
theorem dX5_goBest_68 : decode cX5_goBest 68 = .ok (.iaload, 1) := dk_46 (dk_at dksX5_goBest_2 21 rfl rfl)
theorem dX5_goBest_69 : decode cX5_goBest 69 = .ok (.iastore, 1) := dk_79 (dk_at dksX5_goBest_2 22 rfl rfl)
theorem dX5_goBest_70 : decode cX5_goBest 70 = .ok (.iinc 7 1, 3) := dk_132 7 1 (dk_at dksX5_goBest_3 0 rfl rfl)
theorem dX5_goBest_73 : decode cX5_goBest 73 = .ok (.goto (-24), 3) := dk_167 255 232 (dk_at dksX5_goBest_3 3 rfl rfl)
theorem dX5_goBest_76 : decode cX5_goBest 76 = .ok (.return_, 1) := dk_177 (dk_at dksX5_goBest_3 6 rfl rfl)
theorem dX5_goBest_77 : decode cX5_goBest 77 = .ok (.aload_n 0, 1) := dk_42 (dk_at dksX5_goBest_3 7 rfl rfl)
theorem dX5_goBest_78 : decode cX5_goBest 78 = .ok (.iload_n 1, 1) := dk_27 (dk_at dksX5_goBest_3 8 rfl rfl)
theorem dX5_goBest_79 : decode cX5_goBest 79 = .ok (.iload_n 2, 1) := dk_28 (dk_at dksX5_goBest_3 9 rfl rfl)
theorem dX5_goBest_80 : decode cX5_goBest 80 = .ok (.aload_n 0, 1) := dk_42 (dk_at dksX5_goBest_3 10 rfl rfl)
theorem dX5_goBest_81 : decode cX5_goBest 81 = .ok (.iload_n 3, 1) := dk_29 (dk_at dksX5_goBest_3 11 rfl rfl)
theorem dX5_goBest_82 : decode cX5_goBest 82 = .ok (.invokevirtual 309, 3) := dk_182 1 53 (dk_at dksX5_goBest_3 12 rfl rfl)
theorem dX5_goBest_85 : decode cX5_goBest 85 = .ok (.invokevirtual 312, 3) := dk_182 1 56 (dk_at dksX5_goBest_3 15 rfl rfl)
theorem dX5_goBest_88 : decode cX5_goBest 88 = .ok (.istore 7, 2) := dk_54 7 (dk_at dksX5_goBest_3 18 rfl rfl)
theorem dX5_goBest_90 : decode cX5_goBest 90 = .ok (.iconst 0, 1) := dk_3 (dk_at dksX5_goBest_3 20 rfl rfl)
theorem dX5_goBest_91 : decode cX5_goBest 91 = .ok (.istore 8, 2) := dk_54 8 (dk_at dksX5_goBest_3 21 rfl rfl)
theorem dX5_goBest_93 : decode cX5_goBest 93 = .ok (.iload 8, 2) := dk_21 8 (dk_at dksX5_goBest_4 0 rfl rfl)
theorem dX5_goBest_95 : decode cX5_goBest 95 = .ok (.iconst 5, 1) := dk_8 (dk_at dksX5_goBest_4 2 rfl rfl)
theorem dX5_goBest_96 : decode cX5_goBest 96 = .ok (.if_icmp .ge 44, 3) := dk_162 0 44 (dk_at dksX5_goBest_4 3 rfl rfl)
theorem dX5_goBest_99 : decode cX5_goBest 99 = .ok (.aload_n 0, 1) := dk_42 (dk_at dksX5_goBest_4 6 rfl rfl)
theorem dX5_goBest_100 : decode cX5_goBest 100 = .ok (.getfield 87, 3) := dk_180 0 87 (dk_at dksX5_goBest_4 7 rfl rfl)
theorem dX5_goBest_103 : decode cX5_goBest 103 = .ok (.iload_n 3, 1) := dk_29 (dk_at dksX5_goBest_4 10 rfl rfl)
theorem dX5_goBest_104 : decode cX5_goBest 104 = .ok (.iload 8, 2) := dk_21 8 (dk_at dksX5_goBest_4 11 rfl rfl)
theorem dX5_goBest_106 : decode cX5_goBest 106 = .ok (.iastore, 1) := dk_79 (dk_at dksX5_goBest_4 13 rfl rfl)
theorem dX5_goBest_107 : decode cX5_goBest 107 = .ok (.aload_n 0, 1) := dk_42 (dk_at dksX5_goBest_4 14 rfl rfl)
theorem dX5_goBest_108 : decode cX5_goBest 108 = .ok (.iload_n 1, 1) := dk_27 (dk_at dksX5_goBest_4 15 rfl rfl)
theorem dX5_goBest_109 : decode cX5_goBest 109 = .ok (.iload 7, 2) := dk_21 7 (dk_at dksX5_goBest_4 16 rfl rfl)
theorem dX5_goBest_111 : decode cX5_goBest 111 = .ok (.ifCond .eq 7, 3) := dk_153 0 7 (dk_at dksX5_goBest_4 18 rfl rfl)
theorem dX5_goBest_114 : decode cX5_goBest 114 = .ok (.iload_n 2, 1) := dk_28 (dk_at dksX5_goBest_4 21 rfl rfl)
theorem dX5_goBest_115 : decode cX5_goBest 115 = .ok (.goto 9, 3) := dk_167 0 9 (dk_at dksX5_goBest_5 0 rfl rfl)
theorem dX5_goBest_118 : decode cX5_goBest 118 = .ok (.iload_n 2, 1) := dk_28 (dk_at dksX5_goBest_5 3 rfl rfl)
theorem dX5_goBest_119 : decode cX5_goBest 119 = .ok (.iload 8, 2) := dk_21 8 (dk_at dksX5_goBest_5 4 rfl rfl)
theorem dX5_goBest_121 : decode cX5_goBest 121 = .ok (.invokestatic 315, 3) := dk_184 1 59 (dk_at dksX5_goBest_5 6 rfl rfl)
theorem dX5_goBest_124 : decode cX5_goBest 124 = .ok (.iload_n 3, 1) := dk_29 (dk_at dksX5_goBest_5 9 rfl rfl)
theorem dX5_goBest_125 : decode cX5_goBest 125 = .ok (.iconst 1, 1) := dk_4 (dk_at dksX5_goBest_5 10 rfl rfl)
theorem dX5_goBest_126 : decode cX5_goBest 126 = .ok (.iadd, 1) := dk_96 (dk_at dksX5_goBest_5 11 rfl rfl)
theorem dX5_goBest_127 : decode cX5_goBest 127 = .ok (.iload 4, 2) := dk_21 4 (dk_at dksX5_goBest_5 12 rfl rfl)
theorem dX5_goBest_129 : decode cX5_goBest 129 = .ok (.iload 6, 2) := dk_21 6 (dk_at dksX5_goBest_5 14 rfl rfl)
theorem dX5_goBest_131 : decode cX5_goBest 131 = .ok (.invokevirtual 324, 3) := dk_182 1 68 (dk_at dksX5_goBest_5 16 rfl rfl)
theorem dX5_goBest_134 : decode cX5_goBest 134 = .ok (.iinc 8 1, 3) := dk_132 8 1 (dk_at dksX5_goBest_5 19 rfl rfl)
theorem dX5_goBest_137 : decode cX5_goBest 137 = .ok (.goto (-44), 3) := dk_167 255 212 (dk_at dksX5_goBest_6 0 rfl rfl)
theorem dX5_goBest_140 : decode cX5_goBest 140 = .ok (.return_, 1) := dk_177 (dk_at dksX5_goBest_6 3 rfl rfl)
abbrev cX5_soonest : ByteArray := prog_25_method_62_code
def yX5_soonest : MethodName := ⟨RX5, "soonest", "(II)I"⟩
def dkwX5_soonest_2 : List UInt8 := [27, 29, 42, 21, 4, 182, 1, 53, 182, 1, 72, 62, 132, 4, 1, 167, 255, 222, 16, 254, 172]
abbrev dktX5_soonest_2 : List UInt8 := dkwX5_soonest_2 ++ []
def dkwX5_soonest_1 : List UInt8 := [120, 62, 3, 54, 4, 21, 4, 16, 20, 163, 0, 33, 29, 28, 184, 1, 35, 153, 0, 6, 21, 4, 172, 42]
abbrev dktX5_soonest_1 : List UInt8 := dkwX5_soonest_1 ++ dktX5_soonest_2
def dkwX5_soonest_0 : List UInt8 := [42, 27, 182, 0, 146, 153, 0, 10, 28, 184, 0, 150, 154, 0, 5, 2, 172, 4, 42, 180, 0, 9, 27, 46]
abbrev dktX5_soonest_0 : List UInt8 := dkwX5_soonest_0 ++ dktX5_soonest_1
theorem dksX5_soonest_0 : cX5_soonest.data.toList.drop 0 = dktX5_soonest_0 := by decide +kernel
theorem dksX5_soonest_1 : cX5_soonest.data.toList.drop 24 = dktX5_soonest_1 := dk_seg dksX5_soonest_0 24 rfl rfl
theorem dksX5_soonest_2 : cX5_soonest.data.toList.drop 48 = dktX5_soonest_2 := dk_seg dksX5_soonest_1 24 rfl rfl
theorem dX5_soonest_0 : decode cX5_soonest 0 = .ok (.aload_n 0, 1) := dk_42 (dk_at dksX5_soonest_0 0 rfl rfl)
theorem dX5_soonest_1 : decode cX5_soonest 1 = .ok (.iload_n 1, 1) := dk_27 (dk_at dksX5_soonest_0 1 rfl rfl)
theorem dX5_soonest_2 : decode cX5_soonest 2 = .ok (.invokevirtual 146, 3) := dk_182 0 146 (dk_at dksX5_soonest_0 2 rfl rfl)
theorem dX5_soonest_5 : decode cX5_soonest 5 = .ok (.ifCond .eq 10, 3) := dk_153 0 10 (dk_at dksX5_soonest_0 5 rfl rfl)
theorem dX5_soonest_8 : decode cX5_soonest 8 = .ok (.iload_n 2, 1) := dk_28 (dk_at dksX5_soonest_0 8 rfl rfl)
theorem dX5_soonest_9 : decode cX5_soonest 9 = .ok (.invokestatic 150, 3) := dk_184 0 150 (dk_at dksX5_soonest_0 9 rfl rfl)
theorem dX5_soonest_12 : decode cX5_soonest 12 = .ok (.ifCond .ne 5, 3) := dk_154 0 5 (dk_at dksX5_soonest_0 12 rfl rfl)
theorem dX5_soonest_15 : decode cX5_soonest 15 = .ok (.iconst (-1), 1) := dk_2 (dk_at dksX5_soonest_0 15 rfl rfl)
theorem dX5_soonest_16 : decode cX5_soonest 16 = .ok (.ireturn, 1) := dk_172 (dk_at dksX5_soonest_0 16 rfl rfl)
theorem dX5_soonest_17 : decode cX5_soonest 17 = .ok (.iconst 1, 1) := dk_4 (dk_at dksX5_soonest_0 17 rfl rfl)
theorem dX5_soonest_18 : decode cX5_soonest 18 = .ok (.aload_n 0, 1) := dk_42 (dk_at dksX5_soonest_0 18 rfl rfl)
theorem dX5_soonest_19 : decode cX5_soonest 19 = .ok (.getfield 9, 3) := dk_180 0 9 (dk_at dksX5_soonest_0 19 rfl rfl)
theorem dX5_soonest_22 : decode cX5_soonest 22 = .ok (.iload_n 1, 1) := dk_27 (dk_at dksX5_soonest_0 22 rfl rfl)
theorem dX5_soonest_23 : decode cX5_soonest 23 = .ok (.iaload, 1) := dk_46 (dk_at dksX5_soonest_0 23 rfl rfl)
theorem dX5_soonest_24 : decode cX5_soonest 24 = .ok (.ishl, 1) := dk_120 (dk_at dksX5_soonest_1 0 rfl rfl)
theorem dX5_soonest_25 : decode cX5_soonest 25 = .ok (.istore_n 3, 1) := dk_62 (dk_at dksX5_soonest_1 1 rfl rfl)
theorem dX5_soonest_26 : decode cX5_soonest 26 = .ok (.iconst 0, 1) := dk_3 (dk_at dksX5_soonest_1 2 rfl rfl)
theorem dX5_soonest_27 : decode cX5_soonest 27 = .ok (.istore 4, 2) := dk_54 4 (dk_at dksX5_soonest_1 3 rfl rfl)
theorem dX5_soonest_29 : decode cX5_soonest 29 = .ok (.iload 4, 2) := dk_21 4 (dk_at dksX5_soonest_1 5 rfl rfl)
theorem dX5_soonest_31 : decode cX5_soonest 31 = .ok (.bipush 20, 2) := dk_16 20 (dk_at dksX5_soonest_1 7 rfl rfl)
theorem dX5_soonest_33 : decode cX5_soonest 33 = .ok (.if_icmp .gt 33, 3) := dk_163 0 33 (dk_at dksX5_soonest_1 9 rfl rfl)
theorem dX5_soonest_36 : decode cX5_soonest 36 = .ok (.iload_n 3, 1) := dk_29 (dk_at dksX5_soonest_1 12 rfl rfl)
theorem dX5_soonest_37 : decode cX5_soonest 37 = .ok (.iload_n 2, 1) := dk_28 (dk_at dksX5_soonest_1 13 rfl rfl)
theorem dX5_soonest_38 : decode cX5_soonest 38 = .ok (.invokestatic 291, 3) := dk_184 1 35 (dk_at dksX5_soonest_1 14 rfl rfl)
theorem dX5_soonest_41 : decode cX5_soonest 41 = .ok (.ifCond .eq 6, 3) := dk_153 0 6 (dk_at dksX5_soonest_1 17 rfl rfl)
theorem dX5_soonest_44 : decode cX5_soonest 44 = .ok (.iload 4, 2) := dk_21 4 (dk_at dksX5_soonest_1 20 rfl rfl)
theorem dX5_soonest_46 : decode cX5_soonest 46 = .ok (.ireturn, 1) := dk_172 (dk_at dksX5_soonest_1 22 rfl rfl)
theorem dX5_soonest_47 : decode cX5_soonest 47 = .ok (.aload_n 0, 1) := dk_42 (dk_at dksX5_soonest_1 23 rfl rfl)
theorem dX5_soonest_48 : decode cX5_soonest 48 = .ok (.iload_n 1, 1) := dk_27 (dk_at dksX5_soonest_2 0 rfl rfl)
theorem dX5_soonest_49 : decode cX5_soonest 49 = .ok (.iload_n 3, 1) := dk_29 (dk_at dksX5_soonest_2 1 rfl rfl)
theorem dX5_soonest_50 : decode cX5_soonest 50 = .ok (.aload_n 0, 1) := dk_42 (dk_at dksX5_soonest_2 2 rfl rfl)
theorem dX5_soonest_51 : decode cX5_soonest 51 = .ok (.iload 4, 2) := dk_21 4 (dk_at dksX5_soonest_2 3 rfl rfl)
theorem dX5_soonest_53 : decode cX5_soonest 53 = .ok (.invokevirtual 309, 3) := dk_182 1 53 (dk_at dksX5_soonest_2 5 rfl rfl)
theorem dX5_soonest_56 : decode cX5_soonest 56 = .ok (.invokevirtual 328, 3) := dk_182 1 72 (dk_at dksX5_soonest_2 8 rfl rfl)
theorem dX5_soonest_59 : decode cX5_soonest 59 = .ok (.istore_n 3, 1) := dk_62 (dk_at dksX5_soonest_2 11 rfl rfl)
theorem dX5_soonest_60 : decode cX5_soonest 60 = .ok (.iinc 4 1, 3) := dk_132 4 1 (dk_at dksX5_soonest_2 12 rfl rfl)
theorem dX5_soonest_63 : decode cX5_soonest 63 = .ok (.goto (-34), 3) := dk_167 255 222 (dk_at dksX5_soonest_2 15 rfl rfl)
theorem dX5_soonest_66 : decode cX5_soonest 66 = .ok (.bipush (-2), 2) := dk_16 254 (dk_at dksX5_soonest_2 18 rfl rfl)
theorem dX5_soonest_68 : decode cX5_soonest 68 = .ok (.ireturn, 1) := dk_172 (dk_at dksX5_soonest_2 20 rfl rfl)
abbrev cX5_dayFrom : ByteArray := prog_25_method_61_code
def yX5_dayFrom : MethodName := ⟨RX5, "dayFrom", "(III)I"⟩
def dkwX5_dayFrom_3 : List UInt8 := [54, 4, 132, 6, 1, 167, 255, 233, 132, 5, 1, 167, 255, 182, 21, 4, 172]
abbrev dktX5_dayFrom_3 : List UInt8 := dkwX5_dayFrom_3 ++ []
def dkwX5_dayFrom_2 : List UInt8 := [167, 0, 32, 3, 54, 6, 21, 6, 8, 162, 0, 23, 21, 4, 4, 21, 5, 21, 6, 184, 1, 59, 120, 128]
abbrev dktX5_dayFrom_2 : List UInt8 := dkwX5_dayFrom_2 ++ dktX5_dayFrom_3
def dkwX5_dayFrom_1 : List UInt8 := [167, 0, 55, 42, 27, 21, 5, 29, 182, 1, 56, 153, 0, 15, 21, 4, 4, 21, 5, 120, 128, 54, 4]
abbrev dktX5_dayFrom_1 : List UInt8 := dkwX5_dayFrom_1 ++ dktX5_dayFrom_2
def dkwX5_dayFrom_0 : List UInt8 := [3, 54, 4, 3, 54, 5, 21, 5, 16, 25, 162, 0, 73, 28, 21, 5, 184, 1, 35, 154, 0, 6]
abbrev dktX5_dayFrom_0 : List UInt8 := dkwX5_dayFrom_0 ++ dktX5_dayFrom_1
theorem dksX5_dayFrom_0 : cX5_dayFrom.data.toList.drop 0 = dktX5_dayFrom_0 := by decide +kernel
theorem dksX5_dayFrom_1 : cX5_dayFrom.data.toList.drop 22 = dktX5_dayFrom_1 := dk_seg dksX5_dayFrom_0 22 rfl rfl
theorem dksX5_dayFrom_2 : cX5_dayFrom.data.toList.drop 45 = dktX5_dayFrom_2 := dk_seg dksX5_dayFrom_1 23 rfl rfl
theorem dksX5_dayFrom_3 : cX5_dayFrom.data.toList.drop 69 = dktX5_dayFrom_3 := dk_seg dksX5_dayFrom_2 24 rfl rfl
theorem dX5_dayFrom_0 : decode cX5_dayFrom 0 = .ok (.iconst 0, 1) := dk_3 (dk_at dksX5_dayFrom_0 0 rfl rfl)
theorem dX5_dayFrom_1 : decode cX5_dayFrom 1 = .ok (.istore 4, 2) := dk_54 4 (dk_at dksX5_dayFrom_0 1 rfl rfl)
theorem dX5_dayFrom_3 : decode cX5_dayFrom 3 = .ok (.iconst 0, 1) := dk_3 (dk_at dksX5_dayFrom_0 3 rfl rfl)
theorem dX5_dayFrom_4 : decode cX5_dayFrom 4 = .ok (.istore 5, 2) := dk_54 5 (dk_at dksX5_dayFrom_0 4 rfl rfl)
theorem dX5_dayFrom_6 : decode cX5_dayFrom 6 = .ok (.iload 5, 2) := dk_21 5 (dk_at dksX5_dayFrom_0 6 rfl rfl)
theorem dX5_dayFrom_8 : decode cX5_dayFrom 8 = .ok (.bipush 25, 2) := dk_16 25 (dk_at dksX5_dayFrom_0 8 rfl rfl)
theorem dX5_dayFrom_10 : decode cX5_dayFrom 10 = .ok (.if_icmp .ge 73, 3) := dk_162 0 73 (dk_at dksX5_dayFrom_0 10 rfl rfl)
theorem dX5_dayFrom_13 : decode cX5_dayFrom 13 = .ok (.iload_n 2, 1) := dk_28 (dk_at dksX5_dayFrom_0 13 rfl rfl)
theorem dX5_dayFrom_14 : decode cX5_dayFrom 14 = .ok (.iload 5, 2) := dk_21 5 (dk_at dksX5_dayFrom_0 14 rfl rfl)
theorem dX5_dayFrom_16 : decode cX5_dayFrom 16 = .ok (.invokestatic 291, 3) := dk_184 1 35 (dk_at dksX5_dayFrom_0 16 rfl rfl)
theorem dX5_dayFrom_19 : decode cX5_dayFrom 19 = .ok (.ifCond .ne 6, 3) := dk_154 0 6 (dk_at dksX5_dayFrom_0 19 rfl rfl)
theorem dX5_dayFrom_22 : decode cX5_dayFrom 22 = .ok (.goto 55, 3) := dk_167 0 55 (dk_at dksX5_dayFrom_1 0 rfl rfl)
theorem dX5_dayFrom_25 : decode cX5_dayFrom 25 = .ok (.aload_n 0, 1) := dk_42 (dk_at dksX5_dayFrom_1 3 rfl rfl)
theorem dX5_dayFrom_26 : decode cX5_dayFrom 26 = .ok (.iload_n 1, 1) := dk_27 (dk_at dksX5_dayFrom_1 4 rfl rfl)
theorem dX5_dayFrom_27 : decode cX5_dayFrom 27 = .ok (.iload 5, 2) := dk_21 5 (dk_at dksX5_dayFrom_1 5 rfl rfl)
theorem dX5_dayFrom_29 : decode cX5_dayFrom 29 = .ok (.iload_n 3, 1) := dk_29 (dk_at dksX5_dayFrom_1 7 rfl rfl)
theorem dX5_dayFrom_30 : decode cX5_dayFrom 30 = .ok (.invokevirtual 312, 3) := dk_182 1 56 (dk_at dksX5_dayFrom_1 8 rfl rfl)
theorem dX5_dayFrom_33 : decode cX5_dayFrom 33 = .ok (.ifCond .eq 15, 3) := dk_153 0 15 (dk_at dksX5_dayFrom_1 11 rfl rfl)
theorem dX5_dayFrom_36 : decode cX5_dayFrom 36 = .ok (.iload 4, 2) := dk_21 4 (dk_at dksX5_dayFrom_1 14 rfl rfl)
theorem dX5_dayFrom_38 : decode cX5_dayFrom 38 = .ok (.iconst 1, 1) := dk_4 (dk_at dksX5_dayFrom_1 16 rfl rfl)
theorem dX5_dayFrom_39 : decode cX5_dayFrom 39 = .ok (.iload 5, 2) := dk_21 5 (dk_at dksX5_dayFrom_1 17 rfl rfl)
theorem dX5_dayFrom_41 : decode cX5_dayFrom 41 = .ok (.ishl, 1) := dk_120 (dk_at dksX5_dayFrom_1 19 rfl rfl)
theorem dX5_dayFrom_42 : decode cX5_dayFrom 42 = .ok (.ior, 1) := dk_128 (dk_at dksX5_dayFrom_1 20 rfl rfl)
theorem dX5_dayFrom_43 : decode cX5_dayFrom 43 = .ok (.istore 4, 2) := dk_54 4 (dk_at dksX5_dayFrom_1 21 rfl rfl)
theorem dX5_dayFrom_45 : decode cX5_dayFrom 45 = .ok (.goto 32, 3) := dk_167 0 32 (dk_at dksX5_dayFrom_2 0 rfl rfl)
theorem dX5_dayFrom_48 : decode cX5_dayFrom 48 = .ok (.iconst 0, 1) := dk_3 (dk_at dksX5_dayFrom_2 3 rfl rfl)
theorem dX5_dayFrom_49 : decode cX5_dayFrom 49 = .ok (.istore 6, 2) := dk_54 6 (dk_at dksX5_dayFrom_2 4 rfl rfl)
theorem dX5_dayFrom_51 : decode cX5_dayFrom 51 = .ok (.iload 6, 2) := dk_21 6 (dk_at dksX5_dayFrom_2 6 rfl rfl)
theorem dX5_dayFrom_53 : decode cX5_dayFrom 53 = .ok (.iconst 5, 1) := dk_8 (dk_at dksX5_dayFrom_2 8 rfl rfl)
theorem dX5_dayFrom_54 : decode cX5_dayFrom 54 = .ok (.if_icmp .ge 23, 3) := dk_162 0 23 (dk_at dksX5_dayFrom_2 9 rfl rfl)
theorem dX5_dayFrom_57 : decode cX5_dayFrom 57 = .ok (.iload 4, 2) := dk_21 4 (dk_at dksX5_dayFrom_2 12 rfl rfl)
theorem dX5_dayFrom_59 : decode cX5_dayFrom 59 = .ok (.iconst 1, 1) := dk_4 (dk_at dksX5_dayFrom_2 14 rfl rfl)
theorem dX5_dayFrom_60 : decode cX5_dayFrom 60 = .ok (.iload 5, 2) := dk_21 5 (dk_at dksX5_dayFrom_2 15 rfl rfl)
theorem dX5_dayFrom_62 : decode cX5_dayFrom 62 = .ok (.iload 6, 2) := dk_21 6 (dk_at dksX5_dayFrom_2 17 rfl rfl)
theorem dX5_dayFrom_64 : decode cX5_dayFrom 64 = .ok (.invokestatic 315, 3) := dk_184 1 59 (dk_at dksX5_dayFrom_2 19 rfl rfl)
theorem dX5_dayFrom_67 : decode cX5_dayFrom 67 = .ok (.ishl, 1) := dk_120 (dk_at dksX5_dayFrom_2 22 rfl rfl)
theorem dX5_dayFrom_68 : decode cX5_dayFrom 68 = .ok (.ior, 1) := dk_128 (dk_at dksX5_dayFrom_2 23 rfl rfl)
theorem dX5_dayFrom_69 : decode cX5_dayFrom 69 = .ok (.istore 4, 2) := dk_54 4 (dk_at dksX5_dayFrom_3 0 rfl rfl)
theorem dX5_dayFrom_71 : decode cX5_dayFrom 71 = .ok (.iinc 6 1, 3) := dk_132 6 1 (dk_at dksX5_dayFrom_3 2 rfl rfl)
theorem dX5_dayFrom_74 : decode cX5_dayFrom 74 = .ok (.goto (-23), 3) := dk_167 255 233 (dk_at dksX5_dayFrom_3 5 rfl rfl)
theorem dX5_dayFrom_77 : decode cX5_dayFrom 77 = .ok (.iinc 5 1, 3) := dk_132 5 1 (dk_at dksX5_dayFrom_3 8 rfl rfl)
theorem dX5_dayFrom_80 : decode cX5_dayFrom 80 = .ok (.goto (-74), 3) := dk_167 255 182 (dk_at dksX5_dayFrom_3 11 rfl rfl)
theorem dX5_dayFrom_83 : decode cX5_dayFrom 83 = .ok (.iload 4, 2) := dk_21 4 (dk_at dksX5_dayFrom_3 14 rfl rfl)
theorem dX5_dayFrom_85 : decode cX5_dayFrom 85 = .ok (.ireturn, 1) := dk_172 (dk_at dksX5_dayFrom_3 16 rfl rfl)
abbrev cX5_free : ByteArray := prog_25_method_63_code
def yX5_free : MethodName := ⟨RX5, "free", "(I)I"⟩
def dkwX5_free_1 : List UInt8 := [180, 0, 153, 182, 1, 56, 154, 0, 6, 132, 2, 1, 132, 3, 1, 167, 255, 231, 28, 172]
abbrev dktX5_free_1 : List UInt8 := dkwX5_free_1 ++ []
def dkwX5_free_0 : List UInt8 := [42, 27, 182, 0, 146, 154, 0, 5, 2, 172, 3, 61, 3, 62, 29, 16, 25, 162, 0, 25, 42, 27, 29, 42]
abbrev dktX5_free_0 : List UInt8 := dkwX5_free_0 ++ dktX5_free_1
theorem dksX5_free_0 : cX5_free.data.toList.drop 0 = dktX5_free_0 := by decide +kernel
theorem dksX5_free_1 : cX5_free.data.toList.drop 24 = dktX5_free_1 := dk_seg dksX5_free_0 24 rfl rfl
theorem dX5_free_0 : decode cX5_free 0 = .ok (.aload_n 0, 1) := dk_42 (dk_at dksX5_free_0 0 rfl rfl)
theorem dX5_free_1 : decode cX5_free 1 = .ok (.iload_n 1, 1) := dk_27 (dk_at dksX5_free_0 1 rfl rfl)
theorem dX5_free_2 : decode cX5_free 2 = .ok (.invokevirtual 146, 3) := dk_182 0 146 (dk_at dksX5_free_0 2 rfl rfl)
theorem dX5_free_5 : decode cX5_free 5 = .ok (.ifCond .ne 5, 3) := dk_154 0 5 (dk_at dksX5_free_0 5 rfl rfl)
theorem dX5_free_8 : decode cX5_free 8 = .ok (.iconst (-1), 1) := dk_2 (dk_at dksX5_free_0 8 rfl rfl)
theorem dX5_free_9 : decode cX5_free 9 = .ok (.ireturn, 1) := dk_172 (dk_at dksX5_free_0 9 rfl rfl)
theorem dX5_free_10 : decode cX5_free 10 = .ok (.iconst 0, 1) := dk_3 (dk_at dksX5_free_0 10 rfl rfl)
theorem dX5_free_11 : decode cX5_free 11 = .ok (.istore_n 2, 1) := dk_61 (dk_at dksX5_free_0 11 rfl rfl)
theorem dX5_free_12 : decode cX5_free 12 = .ok (.iconst 0, 1) := dk_3 (dk_at dksX5_free_0 12 rfl rfl)
theorem dX5_free_13 : decode cX5_free 13 = .ok (.istore_n 3, 1) := dk_62 (dk_at dksX5_free_0 13 rfl rfl)
theorem dX5_free_14 : decode cX5_free 14 = .ok (.iload_n 3, 1) := dk_29 (dk_at dksX5_free_0 14 rfl rfl)
theorem dX5_free_15 : decode cX5_free 15 = .ok (.bipush 25, 2) := dk_16 25 (dk_at dksX5_free_0 15 rfl rfl)
theorem dX5_free_17 : decode cX5_free 17 = .ok (.if_icmp .ge 25, 3) := dk_162 0 25 (dk_at dksX5_free_0 17 rfl rfl)
theorem dX5_free_20 : decode cX5_free 20 = .ok (.aload_n 0, 1) := dk_42 (dk_at dksX5_free_0 20 rfl rfl)
theorem dX5_free_21 : decode cX5_free 21 = .ok (.iload_n 1, 1) := dk_27 (dk_at dksX5_free_0 21 rfl rfl)
theorem dX5_free_22 : decode cX5_free 22 = .ok (.iload_n 3, 1) := dk_29 (dk_at dksX5_free_0 22 rfl rfl)
theorem dX5_free_23 : decode cX5_free 23 = .ok (.aload_n 0, 1) := dk_42 (dk_at dksX5_free_0 23 rfl rfl)
theorem dX5_free_24 : decode cX5_free 24 = .ok (.getfield 153, 3) := dk_180 0 153 (dk_at dksX5_free_1 0 rfl rfl)
theorem dX5_free_27 : decode cX5_free 27 = .ok (.invokevirtual 312, 3) := dk_182 1 56 (dk_at dksX5_free_1 3 rfl rfl)
theorem dX5_free_30 : decode cX5_free 30 = .ok (.ifCond .ne 6, 3) := dk_154 0 6 (dk_at dksX5_free_1 6 rfl rfl)
theorem dX5_free_33 : decode cX5_free 33 = .ok (.iinc 2 1, 3) := dk_132 2 1 (dk_at dksX5_free_1 9 rfl rfl)
theorem dX5_free_36 : decode cX5_free 36 = .ok (.iinc 3 1, 3) := dk_132 3 1 (dk_at dksX5_free_1 12 rfl rfl)
theorem dX5_free_39 : decode cX5_free 39 = .ok (.goto (-25), 3) := dk_167 255 231 (dk_at dksX5_free_1 15 rfl rfl)
theorem dX5_free_42 : decode cX5_free 42 = .ok (.iload_n 2, 1) := dk_28 (dk_at dksX5_free_1 18 rfl rfl)
theorem dX5_free_43 : decode cX5_free 43 = .ok (.ireturn, 1) := dk_172 (dk_at dksX5_free_1 19 rfl rfl)
abbrev cX5_words : ByteArray := prog_25_method_66_code
def yX5_words : MethodName := ⟨RX5, "words", "(II)I"⟩
def dkwX5_words_4 : List UInt8 := [132, 5, 1, 167, 255, 192, 28, 154, 0, 11, 21, 4, 184, 1, 78, 167, 0, 5, 21, 4, 172]
abbrev dktX5_words_4 : List UInt8 := dkwX5_words_4 ++ []
def dkwX5_words_3 : List UInt8 := [167, 0, 23, 42, 27, 21, 5, 42, 180, 0, 15, 27, 46, 182, 1, 81, 153, 0, 7, 21, 5, 54, 4]
abbrev dktX5_words_3 : List UInt8 := dkwX5_words_3 ++ dktX5_words_4
def dkwX5_words_2 : List UInt8 := [126, 154, 0, 44, 21, 4, 155, 0, 19, 21, 5, 184, 1, 78, 21, 4, 184, 1, 78, 161, 0, 6]
abbrev dktX5_words_2 : List UInt8 := dkwX5_words_2 ++ dktX5_words_3
def dkwX5_words_1 : List UInt8 := [62, 16, 254, 54, 4, 3, 54, 5, 21, 5, 4, 42, 180, 0, 143, 120, 162, 0, 59, 21, 5, 29, 2, 130]
abbrev dktX5_words_1 : List UInt8 := dkwX5_words_1 ++ dktX5_words_2
def dkwX5_words_0 : List UInt8 := [42, 27, 182, 0, 146, 153, 0, 12, 28, 3, 4, 184, 0, 136, 154, 0, 5, 2, 172, 42, 27, 182, 1, 75]
abbrev dktX5_words_0 : List UInt8 := dkwX5_words_0 ++ dktX5_words_1
theorem dksX5_words_0 : cX5_words.data.toList.drop 0 = dktX5_words_0 := by decide +kernel
theorem dksX5_words_1 : cX5_words.data.toList.drop 24 = dktX5_words_1 := dk_seg dksX5_words_0 24 rfl rfl
theorem dksX5_words_2 : cX5_words.data.toList.drop 48 = dktX5_words_2 := dk_seg dksX5_words_1 24 rfl rfl
theorem dksX5_words_3 : cX5_words.data.toList.drop 70 = dktX5_words_3 := dk_seg dksX5_words_2 22 rfl rfl
theorem dksX5_words_4 : cX5_words.data.toList.drop 93 = dktX5_words_4 := dk_seg dksX5_words_3 23 rfl rfl
theorem dX5_words_0 : decode cX5_words 0 = .ok (.aload_n 0, 1) := dk_42 (dk_at dksX5_words_0 0 rfl rfl)
theorem dX5_words_1 : decode cX5_words 1 = .ok (.iload_n 1, 1) := dk_27 (dk_at dksX5_words_0 1 rfl rfl)
theorem dX5_words_2 : decode cX5_words 2 = .ok (.invokevirtual 146, 3) := dk_182 0 146 (dk_at dksX5_words_0 2 rfl rfl)
theorem dX5_words_5 : decode cX5_words 5 = .ok (.ifCond .eq 12, 3) := dk_153 0 12 (dk_at dksX5_words_0 5 rfl rfl)
theorem dX5_words_8 : decode cX5_words 8 = .ok (.iload_n 2, 1) := dk_28 (dk_at dksX5_words_0 8 rfl rfl)
theorem dX5_words_9 : decode cX5_words 9 = .ok (.iconst 0, 1) := dk_3 (dk_at dksX5_words_0 9 rfl rfl)
theorem dX5_words_10 : decode cX5_words 10 = .ok (.iconst 1, 1) := dk_4 (dk_at dksX5_words_0 10 rfl rfl)
theorem dX5_words_11 : decode cX5_words 11 = .ok (.invokestatic 136, 3) := dk_184 0 136 (dk_at dksX5_words_0 11 rfl rfl)
theorem dX5_words_14 : decode cX5_words 14 = .ok (.ifCond .ne 5, 3) := dk_154 0 5 (dk_at dksX5_words_0 14 rfl rfl)
theorem dX5_words_17 : decode cX5_words 17 = .ok (.iconst (-1), 1) := dk_2 (dk_at dksX5_words_0 17 rfl rfl)
theorem dX5_words_18 : decode cX5_words 18 = .ok (.ireturn, 1) := dk_172 (dk_at dksX5_words_0 18 rfl rfl)
theorem dX5_words_19 : decode cX5_words 19 = .ok (.aload_n 0, 1) := dk_42 (dk_at dksX5_words_0 19 rfl rfl)
theorem dX5_words_20 : decode cX5_words 20 = .ok (.iload_n 1, 1) := dk_27 (dk_at dksX5_words_0 20 rfl rfl)
theorem dX5_words_21 : decode cX5_words 21 = .ok (.invokevirtual 331, 3) := dk_182 1 75 (dk_at dksX5_words_0 21 rfl rfl)
theorem dX5_words_24 : decode cX5_words 24 = .ok (.istore_n 3, 1) := dk_62 (dk_at dksX5_words_1 0 rfl rfl)
theorem dX5_words_25 : decode cX5_words 25 = .ok (.bipush (-2), 2) := dk_16 254 (dk_at dksX5_words_1 1 rfl rfl)
theorem dX5_words_27 : decode cX5_words 27 = .ok (.istore 4, 2) := dk_54 4 (dk_at dksX5_words_1 3 rfl rfl)
theorem dX5_words_29 : decode cX5_words 29 = .ok (.iconst 0, 1) := dk_3 (dk_at dksX5_words_1 5 rfl rfl)
theorem dX5_words_30 : decode cX5_words 30 = .ok (.istore 5, 2) := dk_54 5 (dk_at dksX5_words_1 6 rfl rfl)
theorem dX5_words_32 : decode cX5_words 32 = .ok (.iload 5, 2) := dk_21 5 (dk_at dksX5_words_1 8 rfl rfl)
theorem dX5_words_34 : decode cX5_words 34 = .ok (.iconst 1, 1) := dk_4 (dk_at dksX5_words_1 10 rfl rfl)
theorem dX5_words_35 : decode cX5_words 35 = .ok (.aload_n 0, 1) := dk_42 (dk_at dksX5_words_1 11 rfl rfl)
theorem dX5_words_36 : decode cX5_words 36 = .ok (.getfield 143, 3) := dk_180 0 143 (dk_at dksX5_words_1 12 rfl rfl)
theorem dX5_words_39 : decode cX5_words 39 = .ok (.ishl, 1) := dk_120 (dk_at dksX5_words_1 15 rfl rfl)
theorem dX5_words_40 : decode cX5_words 40 = .ok (.if_icmp .ge 59, 3) := dk_162 0 59 (dk_at dksX5_words_1 16 rfl rfl)
theorem dX5_words_43 : decode cX5_words 43 = .ok (.iload 5, 2) := dk_21 5 (dk_at dksX5_words_1 19 rfl rfl)
theorem dX5_words_45 : decode cX5_words 45 = .ok (.iload_n 3, 1) := dk_29 (dk_at dksX5_words_1 21 rfl rfl)
theorem dX5_words_46 : decode cX5_words 46 = .ok (.iconst (-1), 1) := dk_2 (dk_at dksX5_words_1 22 rfl rfl)
theorem dX5_words_47 : decode cX5_words 47 = .ok (.ixor, 1) := dk_130 (dk_at dksX5_words_1 23 rfl rfl)
theorem dX5_words_48 : decode cX5_words 48 = .ok (.iand, 1) := dk_126 (dk_at dksX5_words_2 0 rfl rfl)
theorem dX5_words_49 : decode cX5_words 49 = .ok (.ifCond .ne 44, 3) := dk_154 0 44 (dk_at dksX5_words_2 1 rfl rfl)
theorem dX5_words_52 : decode cX5_words 52 = .ok (.iload 4, 2) := dk_21 4 (dk_at dksX5_words_2 4 rfl rfl)
theorem dX5_words_54 : decode cX5_words 54 = .ok (.ifCond .lt 19, 3) := dk_155 0 19 (dk_at dksX5_words_2 6 rfl rfl)
theorem dX5_words_57 : decode cX5_words 57 = .ok (.iload 5, 2) := dk_21 5 (dk_at dksX5_words_2 9 rfl rfl)
theorem dX5_words_59 : decode cX5_words 59 = .ok (.invokestatic 334, 3) := dk_184 1 78 (dk_at dksX5_words_2 11 rfl rfl)
theorem dX5_words_62 : decode cX5_words 62 = .ok (.iload 4, 2) := dk_21 4 (dk_at dksX5_words_2 14 rfl rfl)
theorem dX5_words_64 : decode cX5_words 64 = .ok (.invokestatic 334, 3) := dk_184 1 78 (dk_at dksX5_words_2 16 rfl rfl)
theorem dX5_words_67 : decode cX5_words 67 = .ok (.if_icmp .lt 6, 3) := dk_161 0 6 (dk_at dksX5_words_2 19 rfl rfl)
theorem dX5_words_70 : decode cX5_words 70 = .ok (.goto 23, 3) := dk_167 0 23 (dk_at dksX5_words_3 0 rfl rfl)
theorem dX5_words_73 : decode cX5_words 73 = .ok (.aload_n 0, 1) := dk_42 (dk_at dksX5_words_3 3 rfl rfl)
theorem dX5_words_74 : decode cX5_words 74 = .ok (.iload_n 1, 1) := dk_27 (dk_at dksX5_words_3 4 rfl rfl)
theorem dX5_words_75 : decode cX5_words 75 = .ok (.iload 5, 2) := dk_21 5 (dk_at dksX5_words_3 5 rfl rfl)
theorem dX5_words_77 : decode cX5_words 77 = .ok (.aload_n 0, 1) := dk_42 (dk_at dksX5_words_3 7 rfl rfl)
theorem dX5_words_78 : decode cX5_words 78 = .ok (.getfield 15, 3) := dk_180 0 15 (dk_at dksX5_words_3 8 rfl rfl)
theorem dX5_words_81 : decode cX5_words 81 = .ok (.iload_n 1, 1) := dk_27 (dk_at dksX5_words_3 11 rfl rfl)
theorem dX5_words_82 : decode cX5_words 82 = .ok (.iaload, 1) := dk_46 (dk_at dksX5_words_3 12 rfl rfl)
theorem dX5_words_83 : decode cX5_words 83 = .ok (.invokevirtual 337, 3) := dk_182 1 81 (dk_at dksX5_words_3 13 rfl rfl)
theorem dX5_words_86 : decode cX5_words 86 = .ok (.ifCond .eq 7, 3) := dk_153 0 7 (dk_at dksX5_words_3 16 rfl rfl)
theorem dX5_words_89 : decode cX5_words 89 = .ok (.iload 5, 2) := dk_21 5 (dk_at dksX5_words_3 19 rfl rfl)
theorem dX5_words_91 : decode cX5_words 91 = .ok (.istore 4, 2) := dk_54 4 (dk_at dksX5_words_3 21 rfl rfl)
theorem dX5_words_93 : decode cX5_words 93 = .ok (.iinc 5 1, 3) := dk_132 5 1 (dk_at dksX5_words_4 0 rfl rfl)
theorem dX5_words_96 : decode cX5_words 96 = .ok (.goto (-64), 3) := dk_167 255 192 (dk_at dksX5_words_4 3 rfl rfl)
theorem dX5_words_99 : decode cX5_words 99 = .ok (.iload_n 2, 1) := dk_28 (dk_at dksX5_words_4 6 rfl rfl)
theorem dX5_words_100 : decode cX5_words 100 = .ok (.ifCond .ne 11, 3) := dk_154 0 11 (dk_at dksX5_words_4 7 rfl rfl)
theorem dX5_words_103 : decode cX5_words 103 = .ok (.iload 4, 2) := dk_21 4 (dk_at dksX5_words_4 10 rfl rfl)
theorem dX5_words_105 : decode cX5_words 105 = .ok (.invokestatic 334, 3) := dk_184 1 78 (dk_at dksX5_words_4 12 rfl rfl)
theorem dX5_words_108 : decode cX5_words 108 = .ok (.goto 5, 3) := dk_167 0 5 (dk_at dksX5_words_4 15 rfl rfl)
theorem dX5_words_111 : decode cX5_words 111 = .ok (.iload 4, 2) := dk_21 4 (dk_at dksX5_words_4 18 rfl rfl)
theorem dX5_words_113 : decode cX5_words 113 = .ok (.ireturn, 1) := dk_172 (dk_at dksX5_words_4 20 rfl rfl)
abbrev cX5_hereOf : ByteArray := prog_25_method_64_code
def yX5_hereOf : MethodName := ⟨RX5, "hereOf", "(I)I"⟩
def dkwX5_hereOf_0 : List UInt8 := [42, 27, 42, 180, 0, 9, 27, 46, 42, 180, 0, 153, 182, 1, 47, 172]
abbrev dktX5_hereOf_0 : List UInt8 := dkwX5_hereOf_0 ++ []
theorem dksX5_hereOf_0 : cX5_hereOf.data.toList.drop 0 = dktX5_hereOf_0 := by decide +kernel
theorem dX5_hereOf_0 : decode cX5_hereOf 0 = .ok (.aload_n 0, 1) := dk_42 (dk_at dksX5_hereOf_0 0 rfl rfl)
theorem dX5_hereOf_1 : decode cX5_hereOf 1 = .ok (.iload_n 1, 1) := dk_27 (dk_at dksX5_hereOf_0 1 rfl rfl)
theorem dX5_hereOf_2 : decode cX5_hereOf 2 = .ok (.aload_n 0, 1) := dk_42 (dk_at dksX5_hereOf_0 2 rfl rfl)
theorem dX5_hereOf_3 : decode cX5_hereOf 3 = .ok (.getfield 9, 3) := dk_180 0 9 (dk_at dksX5_hereOf_0 3 rfl rfl)
theorem dX5_hereOf_6 : decode cX5_hereOf 6 = .ok (.iload_n 1, 1) := dk_27 (dk_at dksX5_hereOf_0 6 rfl rfl)
theorem dX5_hereOf_7 : decode cX5_hereOf 7 = .ok (.iaload, 1) := dk_46 (dk_at dksX5_hereOf_0 7 rfl rfl)
theorem dX5_hereOf_8 : decode cX5_hereOf 8 = .ok (.aload_n 0, 1) := dk_42 (dk_at dksX5_hereOf_0 8 rfl rfl)
theorem dX5_hereOf_9 : decode cX5_hereOf 9 = .ok (.getfield 153, 3) := dk_180 0 153 (dk_at dksX5_hereOf_0 9 rfl rfl)
theorem dX5_hereOf_12 : decode cX5_hereOf 12 = .ok (.invokevirtual 303, 3) := dk_182 1 47 (dk_at dksX5_hereOf_0 12 rfl rfl)
theorem dX5_hereOf_15 : decode cX5_hereOf 15 = .ok (.ireturn, 1) := dk_172 (dk_at dksX5_hereOf_0 15 rfl rfl)
abbrev cX5_bitsOf : ByteArray := prog_25_method_5_code
def yX5_bitsOf : MethodName := ⟨RX5, "bitsOf", "(I)I"⟩
def dkwX5_bitsOf_0 : List UInt8 := [3, 60, 26, 61, 28, 153, 0, 15, 132, 1, 1, 28, 28, 4, 100, 126, 61, 167, 255, 243, 27, 172]
abbrev dktX5_bitsOf_0 : List UInt8 := dkwX5_bitsOf_0 ++ []
theorem dksX5_bitsOf_0 : cX5_bitsOf.data.toList.drop 0 = dktX5_bitsOf_0 := by decide +kernel
theorem dX5_bitsOf_0 : decode cX5_bitsOf 0 = .ok (.iconst 0, 1) := dk_3 (dk_at dksX5_bitsOf_0 0 rfl rfl)
theorem dX5_bitsOf_1 : decode cX5_bitsOf 1 = .ok (.istore_n 1, 1) := dk_60 (dk_at dksX5_bitsOf_0 1 rfl rfl)
theorem dX5_bitsOf_2 : decode cX5_bitsOf 2 = .ok (.iload_n 0, 1) := dk_26 (dk_at dksX5_bitsOf_0 2 rfl rfl)
theorem dX5_bitsOf_3 : decode cX5_bitsOf 3 = .ok (.istore_n 2, 1) := dk_61 (dk_at dksX5_bitsOf_0 3 rfl rfl)
theorem dX5_bitsOf_4 : decode cX5_bitsOf 4 = .ok (.iload_n 2, 1) := dk_28 (dk_at dksX5_bitsOf_0 4 rfl rfl)
theorem dX5_bitsOf_5 : decode cX5_bitsOf 5 = .ok (.ifCond .eq 15, 3) := dk_153 0 15 (dk_at dksX5_bitsOf_0 5 rfl rfl)
theorem dX5_bitsOf_8 : decode cX5_bitsOf 8 = .ok (.iinc 1 1, 3) := dk_132 1 1 (dk_at dksX5_bitsOf_0 8 rfl rfl)
theorem dX5_bitsOf_11 : decode cX5_bitsOf 11 = .ok (.iload_n 2, 1) := dk_28 (dk_at dksX5_bitsOf_0 11 rfl rfl)
theorem dX5_bitsOf_12 : decode cX5_bitsOf 12 = .ok (.iload_n 2, 1) := dk_28 (dk_at dksX5_bitsOf_0 12 rfl rfl)
theorem dX5_bitsOf_13 : decode cX5_bitsOf 13 = .ok (.iconst 1, 1) := dk_4 (dk_at dksX5_bitsOf_0 13 rfl rfl)
theorem dX5_bitsOf_14 : decode cX5_bitsOf 14 = .ok (.isub, 1) := dk_100 (dk_at dksX5_bitsOf_0 14 rfl rfl)
theorem dX5_bitsOf_15 : decode cX5_bitsOf 15 = .ok (.iand, 1) := dk_126 (dk_at dksX5_bitsOf_0 15 rfl rfl)
theorem dX5_bitsOf_16 : decode cX5_bitsOf 16 = .ok (.istore_n 2, 1) := dk_61 (dk_at dksX5_bitsOf_0 16 rfl rfl)
theorem dX5_bitsOf_17 : decode cX5_bitsOf 17 = .ok (.goto (-13), 3) := dk_167 255 243 (dk_at dksX5_bitsOf_0 17 rfl rfl)
theorem dX5_bitsOf_20 : decode cX5_bitsOf 20 = .ok (.iload_n 1, 1) := dk_27 (dk_at dksX5_bitsOf_0 20 rfl rfl)
theorem dX5_bitsOf_21 : decode cX5_bitsOf 21 = .ok (.ireturn, 1) := dk_172 (dk_at dksX5_bitsOf_0 21 rfl rfl)
abbrev cX5_freesBy : ByteArray := prog_25_method_65_code
def yX5_freesBy : MethodName := ⟨RX5, "freesBy", "(III)Z"⟩
def dkwX5_freesBy_5 : List UInt8 := [167, 255, 227, 21, 5, 172]
abbrev dktX5_freesBy_5 : List UInt8 := dkwX5_freesBy_5 ++ []
def dkwX5_freesBy_4 : List UInt8 := [162, 0, 26, 28, 21, 6, 184, 1, 35, 153, 0, 11, 42, 180, 0, 39, 21, 6, 3, 79, 132, 6, 1]
abbrev dktX5_freesBy_4 : List UInt8 := dkwX5_freesBy_4 ++ dktX5_freesBy_5
def dkwX5_freesBy_3 : List UInt8 := [167, 0, 4, 3, 54, 5, 42, 180, 0, 15, 27, 21, 4, 79, 3, 54, 6, 21, 6, 42, 180, 0, 143]
abbrev dktX5_freesBy_3 : List UInt8 := dkwX5_freesBy_3 ++ dktX5_freesBy_4
def dkwX5_freesBy_2 : List UInt8 := [27, 29, 79, 42, 27, 42, 180, 0, 9, 27, 46, 42, 180, 0, 153, 182, 1, 56, 154, 0, 7, 4]
abbrev dktX5_freesBy_2 : List UInt8 := dkwX5_freesBy_2 ++ dktX5_freesBy_3
def dkwX5_freesBy_1 : List UInt8 := [184, 1, 35, 153, 0, 11, 42, 180, 0, 39, 21, 5, 4, 79, 132, 5, 1, 167, 255, 227, 42, 180, 0, 15]
abbrev dktX5_freesBy_1 : List UInt8 := dkwX5_freesBy_1 ++ dktX5_freesBy_2
def dkwX5_freesBy_0 : List UInt8 := [42, 180, 0, 15, 27, 46, 54, 4, 3, 54, 5, 21, 5, 42, 180, 0, 143, 162, 0, 26, 28, 21, 5]
abbrev dktX5_freesBy_0 : List UInt8 := dkwX5_freesBy_0 ++ dktX5_freesBy_1
theorem dksX5_freesBy_0 : cX5_freesBy.data.toList.drop 0 = dktX5_freesBy_0 := by decide +kernel
theorem dksX5_freesBy_1 : cX5_freesBy.data.toList.drop 23 = dktX5_freesBy_1 := dk_seg dksX5_freesBy_0 23 rfl rfl
theorem dksX5_freesBy_2 : cX5_freesBy.data.toList.drop 47 = dktX5_freesBy_2 := dk_seg dksX5_freesBy_1 24 rfl rfl
theorem dksX5_freesBy_3 : cX5_freesBy.data.toList.drop 69 = dktX5_freesBy_3 := dk_seg dksX5_freesBy_2 22 rfl rfl
theorem dksX5_freesBy_4 : cX5_freesBy.data.toList.drop 92 = dktX5_freesBy_4 := dk_seg dksX5_freesBy_3 23 rfl rfl
theorem dksX5_freesBy_5 : cX5_freesBy.data.toList.drop 115 = dktX5_freesBy_5 := dk_seg dksX5_freesBy_4 23 rfl rfl
theorem dX5_freesBy_0 : decode cX5_freesBy 0 = .ok (.aload_n 0, 1) := dk_42 (dk_at dksX5_freesBy_0 0 rfl rfl)
theorem dX5_freesBy_1 : decode cX5_freesBy 1 = .ok (.getfield 15, 3) := dk_180 0 15 (dk_at dksX5_freesBy_0 1 rfl rfl)
theorem dX5_freesBy_4 : decode cX5_freesBy 4 = .ok (.iload_n 1, 1) := dk_27 (dk_at dksX5_freesBy_0 4 rfl rfl)
theorem dX5_freesBy_5 : decode cX5_freesBy 5 = .ok (.iaload, 1) := dk_46 (dk_at dksX5_freesBy_0 5 rfl rfl)
theorem dX5_freesBy_6 : decode cX5_freesBy 6 = .ok (.istore 4, 2) := dk_54 4 (dk_at dksX5_freesBy_0 6 rfl rfl)
theorem dX5_freesBy_8 : decode cX5_freesBy 8 = .ok (.iconst 0, 1) := dk_3 (dk_at dksX5_freesBy_0 8 rfl rfl)
theorem dX5_freesBy_9 : decode cX5_freesBy 9 = .ok (.istore 5, 2) := dk_54 5 (dk_at dksX5_freesBy_0 9 rfl rfl)
theorem dX5_freesBy_11 : decode cX5_freesBy 11 = .ok (.iload 5, 2) := dk_21 5 (dk_at dksX5_freesBy_0 11 rfl rfl)
theorem dX5_freesBy_13 : decode cX5_freesBy 13 = .ok (.aload_n 0, 1) := dk_42 (dk_at dksX5_freesBy_0 13 rfl rfl)
theorem dX5_freesBy_14 : decode cX5_freesBy 14 = .ok (.getfield 143, 3) := dk_180 0 143 (dk_at dksX5_freesBy_0 14 rfl rfl)
theorem dX5_freesBy_17 : decode cX5_freesBy 17 = .ok (.if_icmp .ge 26, 3) := dk_162 0 26 (dk_at dksX5_freesBy_0 17 rfl rfl)
theorem dX5_freesBy_20 : decode cX5_freesBy 20 = .ok (.iload_n 2, 1) := dk_28 (dk_at dksX5_freesBy_0 20 rfl rfl)
theorem dX5_freesBy_21 : decode cX5_freesBy 21 = .ok (.iload 5, 2) := dk_21 5 (dk_at dksX5_freesBy_0 21 rfl rfl)
theorem dX5_freesBy_23 : decode cX5_freesBy 23 = .ok (.invokestatic 291, 3) := dk_184 1 35 (dk_at dksX5_freesBy_1 0 rfl rfl)
theorem dX5_freesBy_26 : decode cX5_freesBy 26 = .ok (.ifCond .eq 11, 3) := dk_153 0 11 (dk_at dksX5_freesBy_1 3 rfl rfl)
theorem dX5_freesBy_29 : decode cX5_freesBy 29 = .ok (.aload_n 0, 1) := dk_42 (dk_at dksX5_freesBy_1 6 rfl rfl)
theorem dX5_freesBy_30 : decode cX5_freesBy 30 = .ok (.getfield 39, 3) := dk_180 0 39 (dk_at dksX5_freesBy_1 7 rfl rfl)
theorem dX5_freesBy_33 : decode cX5_freesBy 33 = .ok (.iload 5, 2) := dk_21 5 (dk_at dksX5_freesBy_1 10 rfl rfl)
theorem dX5_freesBy_35 : decode cX5_freesBy 35 = .ok (.iconst 1, 1) := dk_4 (dk_at dksX5_freesBy_1 12 rfl rfl)
theorem dX5_freesBy_36 : decode cX5_freesBy 36 = .ok (.iastore, 1) := dk_79 (dk_at dksX5_freesBy_1 13 rfl rfl)
theorem dX5_freesBy_37 : decode cX5_freesBy 37 = .ok (.iinc 5 1, 3) := dk_132 5 1 (dk_at dksX5_freesBy_1 14 rfl rfl)
theorem dX5_freesBy_40 : decode cX5_freesBy 40 = .ok (.goto (-29), 3) := dk_167 255 227 (dk_at dksX5_freesBy_1 17 rfl rfl)
theorem dX5_freesBy_43 : decode cX5_freesBy 43 = .ok (.aload_n 0, 1) := dk_42 (dk_at dksX5_freesBy_1 20 rfl rfl)
theorem dX5_freesBy_44 : decode cX5_freesBy 44 = .ok (.getfield 15, 3) := dk_180 0 15 (dk_at dksX5_freesBy_1 21 rfl rfl)
theorem dX5_freesBy_47 : decode cX5_freesBy 47 = .ok (.iload_n 1, 1) := dk_27 (dk_at dksX5_freesBy_2 0 rfl rfl)
theorem dX5_freesBy_48 : decode cX5_freesBy 48 = .ok (.iload_n 3, 1) := dk_29 (dk_at dksX5_freesBy_2 1 rfl rfl)
theorem dX5_freesBy_49 : decode cX5_freesBy 49 = .ok (.iastore, 1) := dk_79 (dk_at dksX5_freesBy_2 2 rfl rfl)
theorem dX5_freesBy_50 : decode cX5_freesBy 50 = .ok (.aload_n 0, 1) := dk_42 (dk_at dksX5_freesBy_2 3 rfl rfl)
theorem dX5_freesBy_51 : decode cX5_freesBy 51 = .ok (.iload_n 1, 1) := dk_27 (dk_at dksX5_freesBy_2 4 rfl rfl)
theorem dX5_freesBy_52 : decode cX5_freesBy 52 = .ok (.aload_n 0, 1) := dk_42 (dk_at dksX5_freesBy_2 5 rfl rfl)
theorem dX5_freesBy_53 : decode cX5_freesBy 53 = .ok (.getfield 9, 3) := dk_180 0 9 (dk_at dksX5_freesBy_2 6 rfl rfl)
theorem dX5_freesBy_56 : decode cX5_freesBy 56 = .ok (.iload_n 1, 1) := dk_27 (dk_at dksX5_freesBy_2 9 rfl rfl)
theorem dX5_freesBy_57 : decode cX5_freesBy 57 = .ok (.iaload, 1) := dk_46 (dk_at dksX5_freesBy_2 10 rfl rfl)
theorem dX5_freesBy_58 : decode cX5_freesBy 58 = .ok (.aload_n 0, 1) := dk_42 (dk_at dksX5_freesBy_2 11 rfl rfl)
theorem dX5_freesBy_59 : decode cX5_freesBy 59 = .ok (.getfield 153, 3) := dk_180 0 153 (dk_at dksX5_freesBy_2 12 rfl rfl)
theorem dX5_freesBy_62 : decode cX5_freesBy 62 = .ok (.invokevirtual 312, 3) := dk_182 1 56 (dk_at dksX5_freesBy_2 15 rfl rfl)
theorem dX5_freesBy_65 : decode cX5_freesBy 65 = .ok (.ifCond .ne 7, 3) := dk_154 0 7 (dk_at dksX5_freesBy_2 18 rfl rfl)
theorem dX5_freesBy_68 : decode cX5_freesBy 68 = .ok (.iconst 1, 1) := dk_4 (dk_at dksX5_freesBy_2 21 rfl rfl)
theorem dX5_freesBy_69 : decode cX5_freesBy 69 = .ok (.goto 4, 3) := dk_167 0 4 (dk_at dksX5_freesBy_3 0 rfl rfl)
theorem dX5_freesBy_72 : decode cX5_freesBy 72 = .ok (.iconst 0, 1) := dk_3 (dk_at dksX5_freesBy_3 3 rfl rfl)
theorem dX5_freesBy_73 : decode cX5_freesBy 73 = .ok (.istore 5, 2) := dk_54 5 (dk_at dksX5_freesBy_3 4 rfl rfl)
theorem dX5_freesBy_75 : decode cX5_freesBy 75 = .ok (.aload_n 0, 1) := dk_42 (dk_at dksX5_freesBy_3 6 rfl rfl)
theorem dX5_freesBy_76 : decode cX5_freesBy 76 = .ok (.getfield 15, 3) := dk_180 0 15 (dk_at dksX5_freesBy_3 7 rfl rfl)
theorem dX5_freesBy_79 : decode cX5_freesBy 79 = .ok (.iload_n 1, 1) := dk_27 (dk_at dksX5_freesBy_3 10 rfl rfl)
theorem dX5_freesBy_80 : decode cX5_freesBy 80 = .ok (.iload 4, 2) := dk_21 4 (dk_at dksX5_freesBy_3 11 rfl rfl)
theorem dX5_freesBy_82 : decode cX5_freesBy 82 = .ok (.iastore, 1) := dk_79 (dk_at dksX5_freesBy_3 13 rfl rfl)
theorem dX5_freesBy_83 : decode cX5_freesBy 83 = .ok (.iconst 0, 1) := dk_3 (dk_at dksX5_freesBy_3 14 rfl rfl)
theorem dX5_freesBy_84 : decode cX5_freesBy 84 = .ok (.istore 6, 2) := dk_54 6 (dk_at dksX5_freesBy_3 15 rfl rfl)
theorem dX5_freesBy_86 : decode cX5_freesBy 86 = .ok (.iload 6, 2) := dk_21 6 (dk_at dksX5_freesBy_3 17 rfl rfl)
theorem dX5_freesBy_88 : decode cX5_freesBy 88 = .ok (.aload_n 0, 1) := dk_42 (dk_at dksX5_freesBy_3 19 rfl rfl)
theorem dX5_freesBy_89 : decode cX5_freesBy 89 = .ok (.getfield 143, 3) := dk_180 0 143 (dk_at dksX5_freesBy_3 20 rfl rfl)
theorem dX5_freesBy_92 : decode cX5_freesBy 92 = .ok (.if_icmp .ge 26, 3) := dk_162 0 26 (dk_at dksX5_freesBy_4 0 rfl rfl)
theorem dX5_freesBy_95 : decode cX5_freesBy 95 = .ok (.iload_n 2, 1) := dk_28 (dk_at dksX5_freesBy_4 3 rfl rfl)
theorem dX5_freesBy_96 : decode cX5_freesBy 96 = .ok (.iload 6, 2) := dk_21 6 (dk_at dksX5_freesBy_4 4 rfl rfl)
theorem dX5_freesBy_98 : decode cX5_freesBy 98 = .ok (.invokestatic 291, 3) := dk_184 1 35 (dk_at dksX5_freesBy_4 6 rfl rfl)
theorem dX5_freesBy_101 : decode cX5_freesBy 101 = .ok (.ifCond .eq 11, 3) := dk_153 0 11 (dk_at dksX5_freesBy_4 9 rfl rfl)
theorem dX5_freesBy_104 : decode cX5_freesBy 104 = .ok (.aload_n 0, 1) := dk_42 (dk_at dksX5_freesBy_4 12 rfl rfl)
theorem dX5_freesBy_105 : decode cX5_freesBy 105 = .ok (.getfield 39, 3) := dk_180 0 39 (dk_at dksX5_freesBy_4 13 rfl rfl)
theorem dX5_freesBy_108 : decode cX5_freesBy 108 = .ok (.iload 6, 2) := dk_21 6 (dk_at dksX5_freesBy_4 16 rfl rfl)
theorem dX5_freesBy_110 : decode cX5_freesBy 110 = .ok (.iconst 0, 1) := dk_3 (dk_at dksX5_freesBy_4 18 rfl rfl)
theorem dX5_freesBy_111 : decode cX5_freesBy 111 = .ok (.iastore, 1) := dk_79 (dk_at dksX5_freesBy_4 19 rfl rfl)
theorem dX5_freesBy_112 : decode cX5_freesBy 112 = .ok (.iinc 6 1, 3) := dk_132 6 1 (dk_at dksX5_freesBy_4 20 rfl rfl)
theorem dX5_freesBy_115 : decode cX5_freesBy 115 = .ok (.goto (-29), 3) := dk_167 255 227 (dk_at dksX5_freesBy_5 0 rfl rfl)
theorem dX5_freesBy_118 : decode cX5_freesBy 118 = .ok (.iload 5, 2) := dk_21 5 (dk_at dksX5_freesBy_5 3 rfl rfl)
theorem dX5_freesBy_120 : decode cX5_freesBy 120 = .ok (.ireturn, 1) := dk_172 (dk_at dksX5_freesBy_5 5 rfl rfl)
abbrev cX5_breaks : ByteArray := prog_25_method_67_code
def yX5_breaks : MethodName := ⟨RX5, "breaks", "(II)I"⟩
def dkwX5_breaks_6 : List UInt8 := [172]
abbrev dktX5_breaks_6 : List UInt8 := dkwX5_breaks_6 ++ []
def dkwX5_breaks_5 : List UInt8 := [167, 255, 170, 21, 4, 155, 0, 8, 28, 4, 160, 0, 8, 21, 4, 167, 0, 9, 42, 21, 4, 182, 1, 62]
abbrev dktX5_breaks_5 : List UInt8 := dkwX5_breaks_5 ++ dktX5_breaks_6
def dkwX5_breaks_4 : List UInt8 := [180, 0, 15, 27, 46, 21, 5, 184, 1, 78, 100, 182, 1, 81, 153, 0, 7, 21, 5, 54, 4, 132, 5, 1]
abbrev dktX5_breaks_4 : List UInt8 := dkwX5_breaks_4 ++ dktX5_breaks_5
def dkwX5_breaks_3 : List UInt8 := [21, 5, 182, 1, 62, 42, 21, 4, 182, 1, 62, 161, 0, 6, 167, 0, 29, 42, 27, 21, 5, 42]
abbrev dktX5_breaks_3 : List UInt8 := dkwX5_breaks_3 ++ dktX5_breaks_4
def dkwX5_breaks_2 : List UInt8 := [126, 154, 0, 66, 21, 5, 184, 1, 78, 42, 180, 0, 15, 27, 46, 163, 0, 52, 21, 4, 155, 0, 21, 42]
abbrev dktX5_breaks_2 : List UInt8 := dkwX5_breaks_2 ++ dktX5_breaks_3
def dkwX5_breaks_1 : List UInt8 := [62, 16, 254, 54, 4, 3, 54, 5, 21, 5, 4, 42, 180, 0, 143, 120, 162, 0, 81, 21, 5, 29, 2, 130]
abbrev dktX5_breaks_1 : List UInt8 := dkwX5_breaks_1 ++ dktX5_breaks_2
def dkwX5_breaks_0 : List UInt8 := [42, 27, 182, 0, 146, 153, 0, 12, 28, 3, 4, 184, 0, 136, 154, 0, 5, 2, 172, 42, 27, 182, 1, 75]
abbrev dktX5_breaks_0 : List UInt8 := dkwX5_breaks_0 ++ dktX5_breaks_1
theorem dksX5_breaks_0 : cX5_breaks.data.toList.drop 0 = dktX5_breaks_0 := by decide +kernel
theorem dksX5_breaks_1 : cX5_breaks.data.toList.drop 24 = dktX5_breaks_1 := dk_seg dksX5_breaks_0 24 rfl rfl
theorem dksX5_breaks_2 : cX5_breaks.data.toList.drop 48 = dktX5_breaks_2 := dk_seg dksX5_breaks_1 24 rfl rfl
theorem dksX5_breaks_3 : cX5_breaks.data.toList.drop 72 = dktX5_breaks_3 := dk_seg dksX5_breaks_2 24 rfl rfl
theorem dksX5_breaks_4 : cX5_breaks.data.toList.drop 94 = dktX5_breaks_4 := dk_seg dksX5_breaks_3 22 rfl rfl
theorem dksX5_breaks_5 : cX5_breaks.data.toList.drop 118 = dktX5_breaks_5 := dk_seg dksX5_breaks_4 24 rfl rfl
theorem dksX5_breaks_6 : cX5_breaks.data.toList.drop 142 = dktX5_breaks_6 := dk_seg dksX5_breaks_5 24 rfl rfl
theorem dX5_breaks_0 : decode cX5_breaks 0 = .ok (.aload_n 0, 1) := dk_42 (dk_at dksX5_breaks_0 0 rfl rfl)
theorem dX5_breaks_1 : decode cX5_breaks 1 = .ok (.iload_n 1, 1) := dk_27 (dk_at dksX5_breaks_0 1 rfl rfl)
theorem dX5_breaks_2 : decode cX5_breaks 2 = .ok (.invokevirtual 146, 3) := dk_182 0 146 (dk_at dksX5_breaks_0 2 rfl rfl)
theorem dX5_breaks_5 : decode cX5_breaks 5 = .ok (.ifCond .eq 12, 3) := dk_153 0 12 (dk_at dksX5_breaks_0 5 rfl rfl)
theorem dX5_breaks_8 : decode cX5_breaks 8 = .ok (.iload_n 2, 1) := dk_28 (dk_at dksX5_breaks_0 8 rfl rfl)
theorem dX5_breaks_9 : decode cX5_breaks 9 = .ok (.iconst 0, 1) := dk_3 (dk_at dksX5_breaks_0 9 rfl rfl)
theorem dX5_breaks_10 : decode cX5_breaks 10 = .ok (.iconst 1, 1) := dk_4 (dk_at dksX5_breaks_0 10 rfl rfl)
theorem dX5_breaks_11 : decode cX5_breaks 11 = .ok (.invokestatic 136, 3) := dk_184 0 136 (dk_at dksX5_breaks_0 11 rfl rfl)
theorem dX5_breaks_14 : decode cX5_breaks 14 = .ok (.ifCond .ne 5, 3) := dk_154 0 5 (dk_at dksX5_breaks_0 14 rfl rfl)
theorem dX5_breaks_17 : decode cX5_breaks 17 = .ok (.iconst (-1), 1) := dk_2 (dk_at dksX5_breaks_0 17 rfl rfl)
theorem dX5_breaks_18 : decode cX5_breaks 18 = .ok (.ireturn, 1) := dk_172 (dk_at dksX5_breaks_0 18 rfl rfl)
theorem dX5_breaks_19 : decode cX5_breaks 19 = .ok (.aload_n 0, 1) := dk_42 (dk_at dksX5_breaks_0 19 rfl rfl)
theorem dX5_breaks_20 : decode cX5_breaks 20 = .ok (.iload_n 1, 1) := dk_27 (dk_at dksX5_breaks_0 20 rfl rfl)
theorem dX5_breaks_21 : decode cX5_breaks 21 = .ok (.invokevirtual 331, 3) := dk_182 1 75 (dk_at dksX5_breaks_0 21 rfl rfl)
theorem dX5_breaks_24 : decode cX5_breaks 24 = .ok (.istore_n 3, 1) := dk_62 (dk_at dksX5_breaks_1 0 rfl rfl)
theorem dX5_breaks_25 : decode cX5_breaks 25 = .ok (.bipush (-2), 2) := dk_16 254 (dk_at dksX5_breaks_1 1 rfl rfl)
theorem dX5_breaks_27 : decode cX5_breaks 27 = .ok (.istore 4, 2) := dk_54 4 (dk_at dksX5_breaks_1 3 rfl rfl)
theorem dX5_breaks_29 : decode cX5_breaks 29 = .ok (.iconst 0, 1) := dk_3 (dk_at dksX5_breaks_1 5 rfl rfl)
theorem dX5_breaks_30 : decode cX5_breaks 30 = .ok (.istore 5, 2) := dk_54 5 (dk_at dksX5_breaks_1 6 rfl rfl)
theorem dX5_breaks_32 : decode cX5_breaks 32 = .ok (.iload 5, 2) := dk_21 5 (dk_at dksX5_breaks_1 8 rfl rfl)
theorem dX5_breaks_34 : decode cX5_breaks 34 = .ok (.iconst 1, 1) := dk_4 (dk_at dksX5_breaks_1 10 rfl rfl)
theorem dX5_breaks_35 : decode cX5_breaks 35 = .ok (.aload_n 0, 1) := dk_42 (dk_at dksX5_breaks_1 11 rfl rfl)
theorem dX5_breaks_36 : decode cX5_breaks 36 = .ok (.getfield 143, 3) := dk_180 0 143 (dk_at dksX5_breaks_1 12 rfl rfl)
theorem dX5_breaks_39 : decode cX5_breaks 39 = .ok (.ishl, 1) := dk_120 (dk_at dksX5_breaks_1 15 rfl rfl)
theorem dX5_breaks_40 : decode cX5_breaks 40 = .ok (.if_icmp .ge 81, 3) := dk_162 0 81 (dk_at dksX5_breaks_1 16 rfl rfl)
theorem dX5_breaks_43 : decode cX5_breaks 43 = .ok (.iload 5, 2) := dk_21 5 (dk_at dksX5_breaks_1 19 rfl rfl)
theorem dX5_breaks_45 : decode cX5_breaks 45 = .ok (.iload_n 3, 1) := dk_29 (dk_at dksX5_breaks_1 21 rfl rfl)
theorem dX5_breaks_46 : decode cX5_breaks 46 = .ok (.iconst (-1), 1) := dk_2 (dk_at dksX5_breaks_1 22 rfl rfl)
theorem dX5_breaks_47 : decode cX5_breaks 47 = .ok (.ixor, 1) := dk_130 (dk_at dksX5_breaks_1 23 rfl rfl)
theorem dX5_breaks_48 : decode cX5_breaks 48 = .ok (.iand, 1) := dk_126 (dk_at dksX5_breaks_2 0 rfl rfl)
theorem dX5_breaks_49 : decode cX5_breaks 49 = .ok (.ifCond .ne 66, 3) := dk_154 0 66 (dk_at dksX5_breaks_2 1 rfl rfl)
theorem dX5_breaks_52 : decode cX5_breaks 52 = .ok (.iload 5, 2) := dk_21 5 (dk_at dksX5_breaks_2 4 rfl rfl)
theorem dX5_breaks_54 : decode cX5_breaks 54 = .ok (.invokestatic 334, 3) := dk_184 1 78 (dk_at dksX5_breaks_2 6 rfl rfl)
theorem dX5_breaks_57 : decode cX5_breaks 57 = .ok (.aload_n 0, 1) := dk_42 (dk_at dksX5_breaks_2 9 rfl rfl)
theorem dX5_breaks_58 : decode cX5_breaks 58 = .ok (.getfield 15, 3) := dk_180 0 15 (dk_at dksX5_breaks_2 10 rfl rfl)
theorem dX5_breaks_61 : decode cX5_breaks 61 = .ok (.iload_n 1, 1) := dk_27 (dk_at dksX5_breaks_2 13 rfl rfl)
theorem dX5_breaks_62 : decode cX5_breaks 62 = .ok (.iaload, 1) := dk_46 (dk_at dksX5_breaks_2 14 rfl rfl)
theorem dX5_breaks_63 : decode cX5_breaks 63 = .ok (.if_icmp .gt 52, 3) := dk_163 0 52 (dk_at dksX5_breaks_2 15 rfl rfl)
theorem dX5_breaks_66 : decode cX5_breaks 66 = .ok (.iload 4, 2) := dk_21 4 (dk_at dksX5_breaks_2 18 rfl rfl)
theorem dX5_breaks_68 : decode cX5_breaks 68 = .ok (.ifCond .lt 21, 3) := dk_155 0 21 (dk_at dksX5_breaks_2 20 rfl rfl)
theorem dX5_breaks_71 : decode cX5_breaks 71 = .ok (.aload_n 0, 1) := dk_42 (dk_at dksX5_breaks_2 23 rfl rfl)
theorem dX5_breaks_72 : decode cX5_breaks 72 = .ok (.iload 5, 2) := dk_21 5 (dk_at dksX5_breaks_3 0 rfl rfl)
theorem dX5_breaks_74 : decode cX5_breaks 74 = .ok (.invokevirtual 318, 3) := dk_182 1 62 (dk_at dksX5_breaks_3 2 rfl rfl)
theorem dX5_breaks_77 : decode cX5_breaks 77 = .ok (.aload_n 0, 1) := dk_42 (dk_at dksX5_breaks_3 5 rfl rfl)
theorem dX5_breaks_78 : decode cX5_breaks 78 = .ok (.iload 4, 2) := dk_21 4 (dk_at dksX5_breaks_3 6 rfl rfl)
theorem dX5_breaks_80 : decode cX5_breaks 80 = .ok (.invokevirtual 318, 3) := dk_182 1 62 (dk_at dksX5_breaks_3 8 rfl rfl)
theorem dX5_breaks_83 : decode cX5_breaks 83 = .ok (.if_icmp .lt 6, 3) := dk_161 0 6 (dk_at dksX5_breaks_3 11 rfl rfl)
theorem dX5_breaks_86 : decode cX5_breaks 86 = .ok (.goto 29, 3) := dk_167 0 29 (dk_at dksX5_breaks_3 14 rfl rfl)
theorem dX5_breaks_89 : decode cX5_breaks 89 = .ok (.aload_n 0, 1) := dk_42 (dk_at dksX5_breaks_3 17 rfl rfl)
theorem dX5_breaks_90 : decode cX5_breaks 90 = .ok (.iload_n 1, 1) := dk_27 (dk_at dksX5_breaks_3 18 rfl rfl)
theorem dX5_breaks_91 : decode cX5_breaks 91 = .ok (.iload 5, 2) := dk_21 5 (dk_at dksX5_breaks_3 19 rfl rfl)
theorem dX5_breaks_93 : decode cX5_breaks 93 = .ok (.aload_n 0, 1) := dk_42 (dk_at dksX5_breaks_3 21 rfl rfl)
theorem dX5_breaks_94 : decode cX5_breaks 94 = .ok (.getfield 15, 3) := dk_180 0 15 (dk_at dksX5_breaks_4 0 rfl rfl)
theorem dX5_breaks_97 : decode cX5_breaks 97 = .ok (.iload_n 1, 1) := dk_27 (dk_at dksX5_breaks_4 3 rfl rfl)
theorem dX5_breaks_98 : decode cX5_breaks 98 = .ok (.iaload, 1) := dk_46 (dk_at dksX5_breaks_4 4 rfl rfl)
theorem dX5_breaks_99 : decode cX5_breaks 99 = .ok (.iload 5, 2) := dk_21 5 (dk_at dksX5_breaks_4 5 rfl rfl)
theorem dX5_breaks_101 : decode cX5_breaks 101 = .ok (.invokestatic 334, 3) := dk_184 1 78 (dk_at dksX5_breaks_4 7 rfl rfl)
theorem dX5_breaks_104 : decode cX5_breaks 104 = .ok (.isub, 1) := dk_100 (dk_at dksX5_breaks_4 10 rfl rfl)
theorem dX5_breaks_105 : decode cX5_breaks 105 = .ok (.invokevirtual 337, 3) := dk_182 1 81 (dk_at dksX5_breaks_4 11 rfl rfl)
theorem dX5_breaks_108 : decode cX5_breaks 108 = .ok (.ifCond .eq 7, 3) := dk_153 0 7 (dk_at dksX5_breaks_4 14 rfl rfl)
theorem dX5_breaks_111 : decode cX5_breaks 111 = .ok (.iload 5, 2) := dk_21 5 (dk_at dksX5_breaks_4 17 rfl rfl)
theorem dX5_breaks_113 : decode cX5_breaks 113 = .ok (.istore 4, 2) := dk_54 4 (dk_at dksX5_breaks_4 19 rfl rfl)
theorem dX5_breaks_115 : decode cX5_breaks 115 = .ok (.iinc 5 1, 3) := dk_132 5 1 (dk_at dksX5_breaks_4 21 rfl rfl)
theorem dX5_breaks_118 : decode cX5_breaks 118 = .ok (.goto (-86), 3) := dk_167 255 170 (dk_at dksX5_breaks_5 0 rfl rfl)
theorem dX5_breaks_121 : decode cX5_breaks 121 = .ok (.iload 4, 2) := dk_21 4 (dk_at dksX5_breaks_5 3 rfl rfl)
theorem dX5_breaks_123 : decode cX5_breaks 123 = .ok (.ifCond .lt 8, 3) := dk_155 0 8 (dk_at dksX5_breaks_5 5 rfl rfl)
theorem dX5_breaks_126 : decode cX5_breaks 126 = .ok (.iload_n 2, 1) := dk_28 (dk_at dksX5_breaks_5 8 rfl rfl)
theorem dX5_breaks_127 : decode cX5_breaks 127 = .ok (.iconst 1, 1) := dk_4 (dk_at dksX5_breaks_5 9 rfl rfl)
theorem dX5_breaks_128 : decode cX5_breaks 128 = .ok (.if_icmp .ne 8, 3) := dk_160 0 8 (dk_at dksX5_breaks_5 10 rfl rfl)
theorem dX5_breaks_131 : decode cX5_breaks 131 = .ok (.iload 4, 2) := dk_21 4 (dk_at dksX5_breaks_5 13 rfl rfl)
theorem dX5_breaks_133 : decode cX5_breaks 133 = .ok (.goto 9, 3) := dk_167 0 9 (dk_at dksX5_breaks_5 15 rfl rfl)
theorem dX5_breaks_136 : decode cX5_breaks 136 = .ok (.aload_n 0, 1) := dk_42 (dk_at dksX5_breaks_5 18 rfl rfl)
theorem dX5_breaks_137 : decode cX5_breaks 137 = .ok (.iload 4, 2) := dk_21 4 (dk_at dksX5_breaks_5 19 rfl rfl)
theorem dX5_breaks_139 : decode cX5_breaks 139 = .ok (.invokevirtual 318, 3) := dk_182 1 62 (dk_at dksX5_breaks_5 21 rfl rfl)
theorem dX5_breaks_142 : decode cX5_breaks 142 = .ok (.ireturn, 1) := dk_172 (dk_at dksX5_breaks_6 0 rfl rfl)
abbrev cX5_all : ByteArray := prog_25_method_71_code
def yX5_all : MethodName := ⟨RX5, "all", "(I)I"⟩
def dkwX5_all_3 : List UInt8 := [167, 0, 4, 28, 172]
abbrev dktX5_all_3 : List UInt8 := dkwX5_all_3 ++ []
def dkwX5_all_2 : List UInt8 := [182, 1, 90, 153, 0, 5, 29, 61, 132, 3, 1, 167, 255, 215, 27, 154, 0, 10, 28, 184, 1, 78]
abbrev dktX5_all_2 : List UInt8 := dkwX5_all_2 ++ dktX5_all_3
def dkwX5_all_1 : List UInt8 := [162, 0, 37, 28, 155, 0, 17, 29, 184, 1, 78, 28, 184, 1, 78, 161, 0, 6, 167, 0, 13, 42, 29]
abbrev dktX5_all_1 : List UInt8 := dkwX5_all_1 ++ dktX5_all_2
def dkwX5_all_0 : List UInt8 := [27, 3, 4, 184, 0, 136, 154, 0, 5, 2, 172, 16, 254, 61, 3, 62, 29, 4, 42, 180, 0, 140, 120]
abbrev dktX5_all_0 : List UInt8 := dkwX5_all_0 ++ dktX5_all_1
theorem dksX5_all_0 : cX5_all.data.toList.drop 0 = dktX5_all_0 := by decide +kernel
theorem dksX5_all_1 : cX5_all.data.toList.drop 23 = dktX5_all_1 := dk_seg dksX5_all_0 23 rfl rfl
theorem dksX5_all_2 : cX5_all.data.toList.drop 46 = dktX5_all_2 := dk_seg dksX5_all_1 23 rfl rfl
theorem dksX5_all_3 : cX5_all.data.toList.drop 68 = dktX5_all_3 := dk_seg dksX5_all_2 22 rfl rfl
theorem dX5_all_0 : decode cX5_all 0 = .ok (.iload_n 1, 1) := dk_27 (dk_at dksX5_all_0 0 rfl rfl)
theorem dX5_all_1 : decode cX5_all 1 = .ok (.iconst 0, 1) := dk_3 (dk_at dksX5_all_0 1 rfl rfl)
theorem dX5_all_2 : decode cX5_all 2 = .ok (.iconst 1, 1) := dk_4 (dk_at dksX5_all_0 2 rfl rfl)
theorem dX5_all_3 : decode cX5_all 3 = .ok (.invokestatic 136, 3) := dk_184 0 136 (dk_at dksX5_all_0 3 rfl rfl)
theorem dX5_all_6 : decode cX5_all 6 = .ok (.ifCond .ne 5, 3) := dk_154 0 5 (dk_at dksX5_all_0 6 rfl rfl)
theorem dX5_all_9 : decode cX5_all 9 = .ok (.iconst (-1), 1) := dk_2 (dk_at dksX5_all_0 9 rfl rfl)
theorem dX5_all_10 : decode cX5_all 10 = .ok (.ireturn, 1) := dk_172 (dk_at dksX5_all_0 10 rfl rfl)
theorem dX5_all_11 : decode cX5_all 11 = .ok (.bipush (-2), 2) := dk_16 254 (dk_at dksX5_all_0 11 rfl rfl)
theorem dX5_all_13 : decode cX5_all 13 = .ok (.istore_n 2, 1) := dk_61 (dk_at dksX5_all_0 13 rfl rfl)
theorem dX5_all_14 : decode cX5_all 14 = .ok (.iconst 0, 1) := dk_3 (dk_at dksX5_all_0 14 rfl rfl)
theorem dX5_all_15 : decode cX5_all 15 = .ok (.istore_n 3, 1) := dk_62 (dk_at dksX5_all_0 15 rfl rfl)
theorem dX5_all_16 : decode cX5_all 16 = .ok (.iload_n 3, 1) := dk_29 (dk_at dksX5_all_0 16 rfl rfl)
theorem dX5_all_17 : decode cX5_all 17 = .ok (.iconst 1, 1) := dk_4 (dk_at dksX5_all_0 17 rfl rfl)
theorem dX5_all_18 : decode cX5_all 18 = .ok (.aload_n 0, 1) := dk_42 (dk_at dksX5_all_0 18 rfl rfl)
theorem dX5_all_19 : decode cX5_all 19 = .ok (.getfield 140, 3) := dk_180 0 140 (dk_at dksX5_all_0 19 rfl rfl)
theorem dX5_all_22 : decode cX5_all 22 = .ok (.ishl, 1) := dk_120 (dk_at dksX5_all_0 22 rfl rfl)
theorem dX5_all_23 : decode cX5_all 23 = .ok (.if_icmp .ge 37, 3) := dk_162 0 37 (dk_at dksX5_all_1 0 rfl rfl)
theorem dX5_all_26 : decode cX5_all 26 = .ok (.iload_n 2, 1) := dk_28 (dk_at dksX5_all_1 3 rfl rfl)
theorem dX5_all_27 : decode cX5_all 27 = .ok (.ifCond .lt 17, 3) := dk_155 0 17 (dk_at dksX5_all_1 4 rfl rfl)
theorem dX5_all_30 : decode cX5_all 30 = .ok (.iload_n 3, 1) := dk_29 (dk_at dksX5_all_1 7 rfl rfl)
theorem dX5_all_31 : decode cX5_all 31 = .ok (.invokestatic 334, 3) := dk_184 1 78 (dk_at dksX5_all_1 8 rfl rfl)
theorem dX5_all_34 : decode cX5_all 34 = .ok (.iload_n 2, 1) := dk_28 (dk_at dksX5_all_1 11 rfl rfl)
theorem dX5_all_35 : decode cX5_all 35 = .ok (.invokestatic 334, 3) := dk_184 1 78 (dk_at dksX5_all_1 12 rfl rfl)
theorem dX5_all_38 : decode cX5_all 38 = .ok (.if_icmp .lt 6, 3) := dk_161 0 6 (dk_at dksX5_all_1 15 rfl rfl)
theorem dX5_all_41 : decode cX5_all 41 = .ok (.goto 13, 3) := dk_167 0 13 (dk_at dksX5_all_1 18 rfl rfl)
theorem dX5_all_44 : decode cX5_all 44 = .ok (.aload_n 0, 1) := dk_42 (dk_at dksX5_all_1 21 rfl rfl)
theorem dX5_all_45 : decode cX5_all 45 = .ok (.iload_n 3, 1) := dk_29 (dk_at dksX5_all_1 22 rfl rfl)
theorem dX5_all_46 : decode cX5_all 46 = .ok (.invokevirtual 346, 3) := dk_182 1 90 (dk_at dksX5_all_2 0 rfl rfl)
theorem dX5_all_49 : decode cX5_all 49 = .ok (.ifCond .eq 5, 3) := dk_153 0 5 (dk_at dksX5_all_2 3 rfl rfl)
theorem dX5_all_52 : decode cX5_all 52 = .ok (.iload_n 3, 1) := dk_29 (dk_at dksX5_all_2 6 rfl rfl)
theorem dX5_all_53 : decode cX5_all 53 = .ok (.istore_n 2, 1) := dk_61 (dk_at dksX5_all_2 7 rfl rfl)
theorem dX5_all_54 : decode cX5_all 54 = .ok (.iinc 3 1, 3) := dk_132 3 1 (dk_at dksX5_all_2 8 rfl rfl)
theorem dX5_all_57 : decode cX5_all 57 = .ok (.goto (-41), 3) := dk_167 255 215 (dk_at dksX5_all_2 11 rfl rfl)
theorem dX5_all_60 : decode cX5_all 60 = .ok (.iload_n 1, 1) := dk_27 (dk_at dksX5_all_2 14 rfl rfl)
theorem dX5_all_61 : decode cX5_all 61 = .ok (.ifCond .ne 10, 3) := dk_154 0 10 (dk_at dksX5_all_2 15 rfl rfl)
theorem dX5_all_64 : decode cX5_all 64 = .ok (.iload_n 2, 1) := dk_28 (dk_at dksX5_all_2 18 rfl rfl)
theorem dX5_all_65 : decode cX5_all 65 = .ok (.invokestatic 334, 3) := dk_184 1 78 (dk_at dksX5_all_2 19 rfl rfl)
theorem dX5_all_68 : decode cX5_all 68 = .ok (.goto 4, 3) := dk_167 0 4 (dk_at dksX5_all_3 0 rfl rfl)
theorem dX5_all_71 : decode cX5_all 71 = .ok (.iload_n 2, 1) := dk_28 (dk_at dksX5_all_3 3 rfl rfl)
theorem dX5_all_72 : decode cX5_all 72 = .ok (.ireturn, 1) := dk_172 (dk_at dksX5_all_3 4 rfl rfl)
abbrev cX5_allFree : ByteArray := prog_25_method_70_code
def yX5_allFree : MethodName := ⟨RX5, "allFree", "(I)Z"⟩
def dkwX5_allFree_3 : List UInt8 := [132, 4, 1, 167, 255, 227, 29, 172]
abbrev dktX5_allFree_3 : List UInt8 := dkwX5_allFree_3 ++ []
def dkwX5_allFree_2 : List UInt8 := [180, 0, 143, 162, 0, 26, 28, 21, 4, 184, 1, 35, 153, 0, 11, 42, 180, 0, 39, 21, 4, 3, 79]
abbrev dktX5_allFree_2 : List UInt8 := dkwX5_allFree_2 ++ dktX5_allFree_3
def dkwX5_allFree_1 : List UInt8 := [42, 180, 0, 39, 29, 4, 79, 132, 3, 1, 167, 255, 230, 42, 182, 1, 87, 62, 3, 54, 4, 21, 4, 42]
abbrev dktX5_allFree_1 : List UInt8 := dkwX5_allFree_1 ++ dktX5_allFree_2
def dkwX5_allFree_0 : List UInt8 := [42, 27, 182, 1, 84, 61, 3, 62, 29, 42, 180, 0, 143, 162, 0, 24, 28, 29, 184, 1, 35, 153, 0, 10]
abbrev dktX5_allFree_0 : List UInt8 := dkwX5_allFree_0 ++ dktX5_allFree_1
theorem dksX5_allFree_0 : cX5_allFree.data.toList.drop 0 = dktX5_allFree_0 := by decide +kernel
theorem dksX5_allFree_1 : cX5_allFree.data.toList.drop 24 = dktX5_allFree_1 := dk_seg dksX5_allFree_0 24 rfl rfl
theorem dksX5_allFree_2 : cX5_allFree.data.toList.drop 48 = dktX5_allFree_2 := dk_seg dksX5_allFree_1 24 rfl rfl
theorem dksX5_allFree_3 : cX5_allFree.data.toList.drop 71 = dktX5_allFree_3 := dk_seg dksX5_allFree_2 23 rfl rfl
theorem dX5_allFree_0 : decode cX5_allFree 0 = .ok (.aload_n 0, 1) := dk_42 (dk_at dksX5_allFree_0 0 rfl rfl)
theorem dX5_allFree_1 : decode cX5_allFree 1 = .ok (.iload_n 1, 1) := dk_27 (dk_at dksX5_allFree_0 1 rfl rfl)
theorem dX5_allFree_2 : decode cX5_allFree 2 = .ok (.invokevirtual 340, 3) := dk_182 1 84 (dk_at dksX5_allFree_0 2 rfl rfl)
theorem dX5_allFree_5 : decode cX5_allFree 5 = .ok (.istore_n 2, 1) := dk_61 (dk_at dksX5_allFree_0 5 rfl rfl)
theorem dX5_allFree_6 : decode cX5_allFree 6 = .ok (.iconst 0, 1) := dk_3 (dk_at dksX5_allFree_0 6 rfl rfl)
theorem dX5_allFree_7 : decode cX5_allFree 7 = .ok (.istore_n 3, 1) := dk_62 (dk_at dksX5_allFree_0 7 rfl rfl)
theorem dX5_allFree_8 : decode cX5_allFree 8 = .ok (.iload_n 3, 1) := dk_29 (dk_at dksX5_allFree_0 8 rfl rfl)
theorem dX5_allFree_9 : decode cX5_allFree 9 = .ok (.aload_n 0, 1) := dk_42 (dk_at dksX5_allFree_0 9 rfl rfl)
theorem dX5_allFree_10 : decode cX5_allFree 10 = .ok (.getfield 143, 3) := dk_180 0 143 (dk_at dksX5_allFree_0 10 rfl rfl)
theorem dX5_allFree_13 : decode cX5_allFree 13 = .ok (.if_icmp .ge 24, 3) := dk_162 0 24 (dk_at dksX5_allFree_0 13 rfl rfl)
theorem dX5_allFree_16 : decode cX5_allFree 16 = .ok (.iload_n 2, 1) := dk_28 (dk_at dksX5_allFree_0 16 rfl rfl)
theorem dX5_allFree_17 : decode cX5_allFree 17 = .ok (.iload_n 3, 1) := dk_29 (dk_at dksX5_allFree_0 17 rfl rfl)
theorem dX5_allFree_18 : decode cX5_allFree 18 = .ok (.invokestatic 291, 3) := dk_184 1 35 (dk_at dksX5_allFree_0 18 rfl rfl)
theorem dX5_allFree_21 : decode cX5_allFree 21 = .ok (.ifCond .eq 10, 3) := dk_153 0 10 (dk_at dksX5_allFree_0 21 rfl rfl)
theorem dX5_allFree_24 : decode cX5_allFree 24 = .ok (.aload_n 0, 1) := dk_42 (dk_at dksX5_allFree_1 0 rfl rfl)
theorem dX5_allFree_25 : decode cX5_allFree 25 = .ok (.getfield 39, 3) := dk_180 0 39 (dk_at dksX5_allFree_1 1 rfl rfl)
theorem dX5_allFree_28 : decode cX5_allFree 28 = .ok (.iload_n 3, 1) := dk_29 (dk_at dksX5_allFree_1 4 rfl rfl)
theorem dX5_allFree_29 : decode cX5_allFree 29 = .ok (.iconst 1, 1) := dk_4 (dk_at dksX5_allFree_1 5 rfl rfl)
theorem dX5_allFree_30 : decode cX5_allFree 30 = .ok (.iastore, 1) := dk_79 (dk_at dksX5_allFree_1 6 rfl rfl)
theorem dX5_allFree_31 : decode cX5_allFree 31 = .ok (.iinc 3 1, 3) := dk_132 3 1 (dk_at dksX5_allFree_1 7 rfl rfl)
theorem dX5_allFree_34 : decode cX5_allFree 34 = .ok (.goto (-26), 3) := dk_167 255 230 (dk_at dksX5_allFree_1 10 rfl rfl)
theorem dX5_allFree_37 : decode cX5_allFree 37 = .ok (.aload_n 0, 1) := dk_42 (dk_at dksX5_allFree_1 13 rfl rfl)
theorem dX5_allFree_38 : decode cX5_allFree 38 = .ok (.invokevirtual 343, 3) := dk_182 1 87 (dk_at dksX5_allFree_1 14 rfl rfl)
theorem dX5_allFree_41 : decode cX5_allFree 41 = .ok (.istore_n 3, 1) := dk_62 (dk_at dksX5_allFree_1 17 rfl rfl)
theorem dX5_allFree_42 : decode cX5_allFree 42 = .ok (.iconst 0, 1) := dk_3 (dk_at dksX5_allFree_1 18 rfl rfl)
theorem dX5_allFree_43 : decode cX5_allFree 43 = .ok (.istore 4, 2) := dk_54 4 (dk_at dksX5_allFree_1 19 rfl rfl)
theorem dX5_allFree_45 : decode cX5_allFree 45 = .ok (.iload 4, 2) := dk_21 4 (dk_at dksX5_allFree_1 21 rfl rfl)
theorem dX5_allFree_47 : decode cX5_allFree 47 = .ok (.aload_n 0, 1) := dk_42 (dk_at dksX5_allFree_1 23 rfl rfl)
theorem dX5_allFree_48 : decode cX5_allFree 48 = .ok (.getfield 143, 3) := dk_180 0 143 (dk_at dksX5_allFree_2 0 rfl rfl)
theorem dX5_allFree_51 : decode cX5_allFree 51 = .ok (.if_icmp .ge 26, 3) := dk_162 0 26 (dk_at dksX5_allFree_2 3 rfl rfl)
theorem dX5_allFree_54 : decode cX5_allFree 54 = .ok (.iload_n 2, 1) := dk_28 (dk_at dksX5_allFree_2 6 rfl rfl)
theorem dX5_allFree_55 : decode cX5_allFree 55 = .ok (.iload 4, 2) := dk_21 4 (dk_at dksX5_allFree_2 7 rfl rfl)
theorem dX5_allFree_57 : decode cX5_allFree 57 = .ok (.invokestatic 291, 3) := dk_184 1 35 (dk_at dksX5_allFree_2 9 rfl rfl)
theorem dX5_allFree_60 : decode cX5_allFree 60 = .ok (.ifCond .eq 11, 3) := dk_153 0 11 (dk_at dksX5_allFree_2 12 rfl rfl)
theorem dX5_allFree_63 : decode cX5_allFree 63 = .ok (.aload_n 0, 1) := dk_42 (dk_at dksX5_allFree_2 15 rfl rfl)
theorem dX5_allFree_64 : decode cX5_allFree 64 = .ok (.getfield 39, 3) := dk_180 0 39 (dk_at dksX5_allFree_2 16 rfl rfl)
theorem dX5_allFree_67 : decode cX5_allFree 67 = .ok (.iload 4, 2) := dk_21 4 (dk_at dksX5_allFree_2 19 rfl rfl)
theorem dX5_allFree_69 : decode cX5_allFree 69 = .ok (.iconst 0, 1) := dk_3 (dk_at dksX5_allFree_2 21 rfl rfl)
theorem dX5_allFree_70 : decode cX5_allFree 70 = .ok (.iastore, 1) := dk_79 (dk_at dksX5_allFree_2 22 rfl rfl)
theorem dX5_allFree_71 : decode cX5_allFree 71 = .ok (.iinc 4 1, 3) := dk_132 4 1 (dk_at dksX5_allFree_3 0 rfl rfl)
theorem dX5_allFree_74 : decode cX5_allFree 74 = .ok (.goto (-29), 3) := dk_167 255 227 (dk_at dksX5_allFree_3 3 rfl rfl)
theorem dX5_allFree_77 : decode cX5_allFree 77 = .ok (.iload_n 3, 1) := dk_29 (dk_at dksX5_allFree_3 6 rfl rfl)
theorem dX5_allFree_78 : decode cX5_allFree 78 = .ok (.ireturn, 1) := dk_172 (dk_at dksX5_allFree_3 7 rfl rfl)
abbrev cX5_promisedTo : ByteArray := prog_25_method_69_code
def yX5_promisedTo : MethodName := ⟨RX5, "promisedTo", "(I)I"⟩
def dkwX5_promisedTo_2 : List UInt8 := [172]
abbrev dktX5_promisedTo_2 : List UInt8 := dkwX5_promisedTo_2 ++ []
def dkwX5_promisedTo_1 : List UInt8 := [180, 0, 21, 29, 46, 184, 1, 35, 153, 0, 9, 28, 4, 29, 120, 128, 61, 132, 3, 1, 167, 255, 217, 28]
abbrev dktX5_promisedTo_1 : List UInt8 := dkwX5_promisedTo_1 ++ dktX5_promisedTo_2
def dkwX5_promisedTo_0 : List UInt8 := [3, 61, 3, 62, 29, 42, 180, 0, 143, 162, 0, 37, 42, 180, 0, 39, 29, 46, 154, 0, 22, 27, 42]
abbrev dktX5_promisedTo_0 : List UInt8 := dkwX5_promisedTo_0 ++ dktX5_promisedTo_1
theorem dksX5_promisedTo_0 : cX5_promisedTo.data.toList.drop 0 = dktX5_promisedTo_0 := by decide +kernel
theorem dksX5_promisedTo_1 : cX5_promisedTo.data.toList.drop 23 = dktX5_promisedTo_1 := dk_seg dksX5_promisedTo_0 23 rfl rfl
theorem dksX5_promisedTo_2 : cX5_promisedTo.data.toList.drop 47 = dktX5_promisedTo_2 := dk_seg dksX5_promisedTo_1 24 rfl rfl
theorem dX5_promisedTo_0 : decode cX5_promisedTo 0 = .ok (.iconst 0, 1) := dk_3 (dk_at dksX5_promisedTo_0 0 rfl rfl)
theorem dX5_promisedTo_1 : decode cX5_promisedTo 1 = .ok (.istore_n 2, 1) := dk_61 (dk_at dksX5_promisedTo_0 1 rfl rfl)
theorem dX5_promisedTo_2 : decode cX5_promisedTo 2 = .ok (.iconst 0, 1) := dk_3 (dk_at dksX5_promisedTo_0 2 rfl rfl)
theorem dX5_promisedTo_3 : decode cX5_promisedTo 3 = .ok (.istore_n 3, 1) := dk_62 (dk_at dksX5_promisedTo_0 3 rfl rfl)
theorem dX5_promisedTo_4 : decode cX5_promisedTo 4 = .ok (.iload_n 3, 1) := dk_29 (dk_at dksX5_promisedTo_0 4 rfl rfl)
theorem dX5_promisedTo_5 : decode cX5_promisedTo 5 = .ok (.aload_n 0, 1) := dk_42 (dk_at dksX5_promisedTo_0 5 rfl rfl)
theorem dX5_promisedTo_6 : decode cX5_promisedTo 6 = .ok (.getfield 143, 3) := dk_180 0 143 (dk_at dksX5_promisedTo_0 6 rfl rfl)
theorem dX5_promisedTo_9 : decode cX5_promisedTo 9 = .ok (.if_icmp .ge 37, 3) := dk_162 0 37 (dk_at dksX5_promisedTo_0 9 rfl rfl)
theorem dX5_promisedTo_12 : decode cX5_promisedTo 12 = .ok (.aload_n 0, 1) := dk_42 (dk_at dksX5_promisedTo_0 12 rfl rfl)
theorem dX5_promisedTo_13 : decode cX5_promisedTo 13 = .ok (.getfield 39, 3) := dk_180 0 39 (dk_at dksX5_promisedTo_0 13 rfl rfl)
theorem dX5_promisedTo_16 : decode cX5_promisedTo 16 = .ok (.iload_n 3, 1) := dk_29 (dk_at dksX5_promisedTo_0 16 rfl rfl)
theorem dX5_promisedTo_17 : decode cX5_promisedTo 17 = .ok (.iaload, 1) := dk_46 (dk_at dksX5_promisedTo_0 17 rfl rfl)
theorem dX5_promisedTo_18 : decode cX5_promisedTo 18 = .ok (.ifCond .ne 22, 3) := dk_154 0 22 (dk_at dksX5_promisedTo_0 18 rfl rfl)
theorem dX5_promisedTo_21 : decode cX5_promisedTo 21 = .ok (.iload_n 1, 1) := dk_27 (dk_at dksX5_promisedTo_0 21 rfl rfl)
theorem dX5_promisedTo_22 : decode cX5_promisedTo 22 = .ok (.aload_n 0, 1) := dk_42 (dk_at dksX5_promisedTo_0 22 rfl rfl)
theorem dX5_promisedTo_23 : decode cX5_promisedTo 23 = .ok (.getfield 21, 3) := dk_180 0 21 (dk_at dksX5_promisedTo_1 0 rfl rfl)
theorem dX5_promisedTo_26 : decode cX5_promisedTo 26 = .ok (.iload_n 3, 1) := dk_29 (dk_at dksX5_promisedTo_1 3 rfl rfl)
theorem dX5_promisedTo_27 : decode cX5_promisedTo 27 = .ok (.iaload, 1) := dk_46 (dk_at dksX5_promisedTo_1 4 rfl rfl)
theorem dX5_promisedTo_28 : decode cX5_promisedTo 28 = .ok (.invokestatic 291, 3) := dk_184 1 35 (dk_at dksX5_promisedTo_1 5 rfl rfl)
theorem dX5_promisedTo_31 : decode cX5_promisedTo 31 = .ok (.ifCond .eq 9, 3) := dk_153 0 9 (dk_at dksX5_promisedTo_1 8 rfl rfl)
theorem dX5_promisedTo_34 : decode cX5_promisedTo 34 = .ok (.iload_n 2, 1) := dk_28 (dk_at dksX5_promisedTo_1 11 rfl rfl)
theorem dX5_promisedTo_35 : decode cX5_promisedTo 35 = .ok (.iconst 1, 1) := dk_4 (dk_at dksX5_promisedTo_1 12 rfl rfl)
theorem dX5_promisedTo_36 : decode cX5_promisedTo 36 = .ok (.iload_n 3, 1) := dk_29 (dk_at dksX5_promisedTo_1 13 rfl rfl)
theorem dX5_promisedTo_37 : decode cX5_promisedTo 37 = .ok (.ishl, 1) := dk_120 (dk_at dksX5_promisedTo_1 14 rfl rfl)
theorem dX5_promisedTo_38 : decode cX5_promisedTo 38 = .ok (.ior, 1) := dk_128 (dk_at dksX5_promisedTo_1 15 rfl rfl)
theorem dX5_promisedTo_39 : decode cX5_promisedTo 39 = .ok (.istore_n 2, 1) := dk_61 (dk_at dksX5_promisedTo_1 16 rfl rfl)
theorem dX5_promisedTo_40 : decode cX5_promisedTo 40 = .ok (.iinc 3 1, 3) := dk_132 3 1 (dk_at dksX5_promisedTo_1 17 rfl rfl)
theorem dX5_promisedTo_43 : decode cX5_promisedTo 43 = .ok (.goto (-39), 3) := dk_167 255 217 (dk_at dksX5_promisedTo_1 20 rfl rfl)
theorem dX5_promisedTo_46 : decode cX5_promisedTo 46 = .ok (.iload_n 2, 1) := dk_28 (dk_at dksX5_promisedTo_1 23 rfl rfl)
theorem dX5_promisedTo_47 : decode cX5_promisedTo 47 = .ok (.ireturn, 1) := dk_172 (dk_at dksX5_promisedTo_2 0 rfl rfl)
abbrev cX5_nobodyHeld : ByteArray := prog_25_method_68_code
def yX5_nobodyHeld : MethodName := ⟨RX5, "nobodyHeld", "()Z"⟩
def dkwX5_nobodyHeld_1 : List UInt8 := [182, 1, 56, 153, 0, 5, 3, 172, 132, 1, 1, 167, 255, 225, 4, 172]
abbrev dktX5_nobodyHeld_1 : List UInt8 := dkwX5_nobodyHeld_1 ++ []
def dkwX5_nobodyHeld_0 : List UInt8 := [3, 60, 27, 42, 180, 0, 140, 162, 0, 29, 42, 27, 42, 180, 0, 9, 27, 46, 42, 180, 0, 153]
abbrev dktX5_nobodyHeld_0 : List UInt8 := dkwX5_nobodyHeld_0 ++ dktX5_nobodyHeld_1
theorem dksX5_nobodyHeld_0 : cX5_nobodyHeld.data.toList.drop 0 = dktX5_nobodyHeld_0 := by decide +kernel
theorem dksX5_nobodyHeld_1 : cX5_nobodyHeld.data.toList.drop 22 = dktX5_nobodyHeld_1 := dk_seg dksX5_nobodyHeld_0 22 rfl rfl
theorem dX5_nobodyHeld_0 : decode cX5_nobodyHeld 0 = .ok (.iconst 0, 1) := dk_3 (dk_at dksX5_nobodyHeld_0 0 rfl rfl)
theorem dX5_nobodyHeld_1 : decode cX5_nobodyHeld 1 = .ok (.istore_n 1, 1) := dk_60 (dk_at dksX5_nobodyHeld_0 1 rfl rfl)
theorem dX5_nobodyHeld_2 : decode cX5_nobodyHeld 2 = .ok (.iload_n 1, 1) := dk_27 (dk_at dksX5_nobodyHeld_0 2 rfl rfl)
theorem dX5_nobodyHeld_3 : decode cX5_nobodyHeld 3 = .ok (.aload_n 0, 1) := dk_42 (dk_at dksX5_nobodyHeld_0 3 rfl rfl)
theorem dX5_nobodyHeld_4 : decode cX5_nobodyHeld 4 = .ok (.getfield 140, 3) := dk_180 0 140 (dk_at dksX5_nobodyHeld_0 4 rfl rfl)
theorem dX5_nobodyHeld_7 : decode cX5_nobodyHeld 7 = .ok (.if_icmp .ge 29, 3) := dk_162 0 29 (dk_at dksX5_nobodyHeld_0 7 rfl rfl)
theorem dX5_nobodyHeld_10 : decode cX5_nobodyHeld 10 = .ok (.aload_n 0, 1) := dk_42 (dk_at dksX5_nobodyHeld_0 10 rfl rfl)
theorem dX5_nobodyHeld_11 : decode cX5_nobodyHeld 11 = .ok (.iload_n 1, 1) := dk_27 (dk_at dksX5_nobodyHeld_0 11 rfl rfl)
theorem dX5_nobodyHeld_12 : decode cX5_nobodyHeld 12 = .ok (.aload_n 0, 1) := dk_42 (dk_at dksX5_nobodyHeld_0 12 rfl rfl)
theorem dX5_nobodyHeld_13 : decode cX5_nobodyHeld 13 = .ok (.getfield 9, 3) := dk_180 0 9 (dk_at dksX5_nobodyHeld_0 13 rfl rfl)
theorem dX5_nobodyHeld_16 : decode cX5_nobodyHeld 16 = .ok (.iload_n 1, 1) := dk_27 (dk_at dksX5_nobodyHeld_0 16 rfl rfl)
theorem dX5_nobodyHeld_17 : decode cX5_nobodyHeld 17 = .ok (.iaload, 1) := dk_46 (dk_at dksX5_nobodyHeld_0 17 rfl rfl)
theorem dX5_nobodyHeld_18 : decode cX5_nobodyHeld 18 = .ok (.aload_n 0, 1) := dk_42 (dk_at dksX5_nobodyHeld_0 18 rfl rfl)
theorem dX5_nobodyHeld_19 : decode cX5_nobodyHeld 19 = .ok (.getfield 153, 3) := dk_180 0 153 (dk_at dksX5_nobodyHeld_0 19 rfl rfl)
theorem dX5_nobodyHeld_22 : decode cX5_nobodyHeld 22 = .ok (.invokevirtual 312, 3) := dk_182 1 56 (dk_at dksX5_nobodyHeld_1 0 rfl rfl)
theorem dX5_nobodyHeld_25 : decode cX5_nobodyHeld 25 = .ok (.ifCond .eq 5, 3) := dk_153 0 5 (dk_at dksX5_nobodyHeld_1 3 rfl rfl)
theorem dX5_nobodyHeld_28 : decode cX5_nobodyHeld 28 = .ok (.iconst 0, 1) := dk_3 (dk_at dksX5_nobodyHeld_1 6 rfl rfl)
theorem dX5_nobodyHeld_29 : decode cX5_nobodyHeld 29 = .ok (.ireturn, 1) := dk_172 (dk_at dksX5_nobodyHeld_1 7 rfl rfl)
theorem dX5_nobodyHeld_30 : decode cX5_nobodyHeld 30 = .ok (.iinc 1 1, 3) := dk_132 1 1 (dk_at dksX5_nobodyHeld_1 8 rfl rfl)
theorem dX5_nobodyHeld_33 : decode cX5_nobodyHeld 33 = .ok (.goto (-31), 3) := dk_167 255 225 (dk_at dksX5_nobodyHeld_1 11 rfl rfl)
theorem dX5_nobodyHeld_36 : decode cX5_nobodyHeld 36 = .ok (.iconst 1, 1) := dk_4 (dk_at dksX5_nobodyHeld_1 14 rfl rfl)
theorem dX5_nobodyHeld_37 : decode cX5_nobodyHeld 37 = .ok (.ireturn, 1) := dk_172 (dk_at dksX5_nobodyHeld_1 15 rfl rfl)
abbrev cX5_ring : ByteArray := prog_25_method_73_code
def yX5_ring : MethodName := ⟨RX5, "ring", "()I"⟩
def dkwX5_ring_3 : List UInt8 := [132, 2, 1, 167, 255, 187, 27, 172]
abbrev dktX5_ring_3 : List UInt8 := dkwX5_ring_3 ++ []
def dkwX5_ring_2 : List UInt8 := [155, 0, 9, 21, 4, 27, 162, 0, 6, 21, 4, 60, 42, 180, 0, 140, 54, 4, 132, 4, 1, 167, 255, 208]
abbrev dktX5_ring_2 : List UInt8 := dkwX5_ring_2 ++ dktX5_ring_3
def dkwX5_ring_1 : List UInt8 := [180, 0, 140, 163, 0, 45, 42, 29, 182, 1, 93, 62, 29, 28, 184, 1, 35, 154, 0, 6, 167, 0, 22, 27]
abbrev dktX5_ring_1 : List UInt8 := dkwX5_ring_1 ++ dktX5_ring_2
def dkwX5_ring_0 : List UInt8 := [16, 254, 60, 3, 61, 28, 42, 180, 0, 140, 162, 0, 67, 4, 28, 120, 62, 4, 54, 4, 21, 4, 42]
abbrev dktX5_ring_0 : List UInt8 := dkwX5_ring_0 ++ dktX5_ring_1
theorem dksX5_ring_0 : cX5_ring.data.toList.drop 0 = dktX5_ring_0 := by decide +kernel
theorem dksX5_ring_1 : cX5_ring.data.toList.drop 23 = dktX5_ring_1 := dk_seg dksX5_ring_0 23 rfl rfl
theorem dksX5_ring_2 : cX5_ring.data.toList.drop 47 = dktX5_ring_2 := dk_seg dksX5_ring_1 24 rfl rfl
theorem dksX5_ring_3 : cX5_ring.data.toList.drop 71 = dktX5_ring_3 := dk_seg dksX5_ring_2 24 rfl rfl
theorem dX5_ring_0 : decode cX5_ring 0 = .ok (.bipush (-2), 2) := dk_16 254 (dk_at dksX5_ring_0 0 rfl rfl)
theorem dX5_ring_2 : decode cX5_ring 2 = .ok (.istore_n 1, 1) := dk_60 (dk_at dksX5_ring_0 2 rfl rfl)
theorem dX5_ring_3 : decode cX5_ring 3 = .ok (.iconst 0, 1) := dk_3 (dk_at dksX5_ring_0 3 rfl rfl)
theorem dX5_ring_4 : decode cX5_ring 4 = .ok (.istore_n 2, 1) := dk_61 (dk_at dksX5_ring_0 4 rfl rfl)
theorem dX5_ring_5 : decode cX5_ring 5 = .ok (.iload_n 2, 1) := dk_28 (dk_at dksX5_ring_0 5 rfl rfl)
theorem dX5_ring_6 : decode cX5_ring 6 = .ok (.aload_n 0, 1) := dk_42 (dk_at dksX5_ring_0 6 rfl rfl)
theorem dX5_ring_7 : decode cX5_ring 7 = .ok (.getfield 140, 3) := dk_180 0 140 (dk_at dksX5_ring_0 7 rfl rfl)
theorem dX5_ring_10 : decode cX5_ring 10 = .ok (.if_icmp .ge 67, 3) := dk_162 0 67 (dk_at dksX5_ring_0 10 rfl rfl)
theorem dX5_ring_13 : decode cX5_ring 13 = .ok (.iconst 1, 1) := dk_4 (dk_at dksX5_ring_0 13 rfl rfl)
theorem dX5_ring_14 : decode cX5_ring 14 = .ok (.iload_n 2, 1) := dk_28 (dk_at dksX5_ring_0 14 rfl rfl)
theorem dX5_ring_15 : decode cX5_ring 15 = .ok (.ishl, 1) := dk_120 (dk_at dksX5_ring_0 15 rfl rfl)
theorem dX5_ring_16 : decode cX5_ring 16 = .ok (.istore_n 3, 1) := dk_62 (dk_at dksX5_ring_0 16 rfl rfl)
theorem dX5_ring_17 : decode cX5_ring 17 = .ok (.iconst 1, 1) := dk_4 (dk_at dksX5_ring_0 17 rfl rfl)
theorem dX5_ring_18 : decode cX5_ring 18 = .ok (.istore 4, 2) := dk_54 4 (dk_at dksX5_ring_0 18 rfl rfl)
theorem dX5_ring_20 : decode cX5_ring 20 = .ok (.iload 4, 2) := dk_21 4 (dk_at dksX5_ring_0 20 rfl rfl)
theorem dX5_ring_22 : decode cX5_ring 22 = .ok (.aload_n 0, 1) := dk_42 (dk_at dksX5_ring_0 22 rfl rfl)
theorem dX5_ring_23 : decode cX5_ring 23 = .ok (.getfield 140, 3) := dk_180 0 140 (dk_at dksX5_ring_1 0 rfl rfl)
theorem dX5_ring_26 : decode cX5_ring 26 = .ok (.if_icmp .gt 45, 3) := dk_163 0 45 (dk_at dksX5_ring_1 3 rfl rfl)
theorem dX5_ring_29 : decode cX5_ring 29 = .ok (.aload_n 0, 1) := dk_42 (dk_at dksX5_ring_1 6 rfl rfl)
theorem dX5_ring_30 : decode cX5_ring 30 = .ok (.iload_n 3, 1) := dk_29 (dk_at dksX5_ring_1 7 rfl rfl)
theorem dX5_ring_31 : decode cX5_ring 31 = .ok (.invokevirtual 349, 3) := dk_182 1 93 (dk_at dksX5_ring_1 8 rfl rfl)
theorem dX5_ring_34 : decode cX5_ring 34 = .ok (.istore_n 3, 1) := dk_62 (dk_at dksX5_ring_1 11 rfl rfl)
theorem dX5_ring_35 : decode cX5_ring 35 = .ok (.iload_n 3, 1) := dk_29 (dk_at dksX5_ring_1 12 rfl rfl)
theorem dX5_ring_36 : decode cX5_ring 36 = .ok (.iload_n 2, 1) := dk_28 (dk_at dksX5_ring_1 13 rfl rfl)
theorem dX5_ring_37 : decode cX5_ring 37 = .ok (.invokestatic 291, 3) := dk_184 1 35 (dk_at dksX5_ring_1 14 rfl rfl)
theorem dX5_ring_40 : decode cX5_ring 40 = .ok (.ifCond .ne 6, 3) := dk_154 0 6 (dk_at dksX5_ring_1 17 rfl rfl)
theorem dX5_ring_43 : decode cX5_ring 43 = .ok (.goto 22, 3) := dk_167 0 22 (dk_at dksX5_ring_1 20 rfl rfl)
theorem dX5_ring_46 : decode cX5_ring 46 = .ok (.iload_n 1, 1) := dk_27 (dk_at dksX5_ring_1 23 rfl rfl)
theorem dX5_ring_47 : decode cX5_ring 47 = .ok (.ifCond .lt 9, 3) := dk_155 0 9 (dk_at dksX5_ring_2 0 rfl rfl)
theorem dX5_ring_50 : decode cX5_ring 50 = .ok (.iload 4, 2) := dk_21 4 (dk_at dksX5_ring_2 3 rfl rfl)
theorem dX5_ring_52 : decode cX5_ring 52 = .ok (.iload_n 1, 1) := dk_27 (dk_at dksX5_ring_2 5 rfl rfl)
theorem dX5_ring_53 : decode cX5_ring 53 = .ok (.if_icmp .ge 6, 3) := dk_162 0 6 (dk_at dksX5_ring_2 6 rfl rfl)
theorem dX5_ring_56 : decode cX5_ring 56 = .ok (.iload 4, 2) := dk_21 4 (dk_at dksX5_ring_2 9 rfl rfl)
theorem dX5_ring_58 : decode cX5_ring 58 = .ok (.istore_n 1, 1) := dk_60 (dk_at dksX5_ring_2 11 rfl rfl)
theorem dX5_ring_59 : decode cX5_ring 59 = .ok (.aload_n 0, 1) := dk_42 (dk_at dksX5_ring_2 12 rfl rfl)
theorem dX5_ring_60 : decode cX5_ring 60 = .ok (.getfield 140, 3) := dk_180 0 140 (dk_at dksX5_ring_2 13 rfl rfl)
theorem dX5_ring_63 : decode cX5_ring 63 = .ok (.istore 4, 2) := dk_54 4 (dk_at dksX5_ring_2 16 rfl rfl)
theorem dX5_ring_65 : decode cX5_ring 65 = .ok (.iinc 4 1, 3) := dk_132 4 1 (dk_at dksX5_ring_2 18 rfl rfl)
theorem dX5_ring_68 : decode cX5_ring 68 = .ok (.goto (-48), 3) := dk_167 255 208 (dk_at dksX5_ring_2 21 rfl rfl)
theorem dX5_ring_71 : decode cX5_ring 71 = .ok (.iinc 2 1, 3) := dk_132 2 1 (dk_at dksX5_ring_3 0 rfl rfl)
theorem dX5_ring_74 : decode cX5_ring 74 = .ok (.goto (-69), 3) := dk_167 255 187 (dk_at dksX5_ring_3 3 rfl rfl)
theorem dX5_ring_77 : decode cX5_ring 77 = .ok (.iload_n 1, 1) := dk_27 (dk_at dksX5_ring_3 6 rfl rfl)
theorem dX5_ring_78 : decode cX5_ring 78 = .ok (.ireturn, 1) := dk_172 (dk_at dksX5_ring_3 7 rfl rfl)
abbrev cX5_heldToward : ByteArray := prog_25_method_72_code
def yX5_heldToward : MethodName := ⟨RX5, "heldToward", "(I)I"⟩
def dkwX5_heldToward_2 : List UInt8 := [153, 0, 14, 28, 4, 42, 180, 0, 21, 29, 46, 120, 128, 61, 132, 3, 1, 167, 255, 198, 28, 172]
abbrev dktX5_heldToward_2 : List UInt8 := dkwX5_heldToward_2 ++ []
def dkwX5_heldToward_1 : List UInt8 := [153, 0, 37, 42, 29, 42, 180, 0, 9, 42, 180, 0, 18, 29, 46, 46, 42, 180, 0, 153, 182, 1, 23]
abbrev dktX5_heldToward_1 : List UInt8 := dkwX5_heldToward_1 ++ dktX5_heldToward_2
def dkwX5_heldToward_0 : List UInt8 := [3, 61, 3, 62, 29, 42, 180, 0, 143, 162, 0, 56, 27, 42, 180, 0, 18, 29, 46, 184, 1, 35]
abbrev dktX5_heldToward_0 : List UInt8 := dkwX5_heldToward_0 ++ dktX5_heldToward_1
theorem dksX5_heldToward_0 : cX5_heldToward.data.toList.drop 0 = dktX5_heldToward_0 := by decide +kernel
theorem dksX5_heldToward_1 : cX5_heldToward.data.toList.drop 22 = dktX5_heldToward_1 := dk_seg dksX5_heldToward_0 22 rfl rfl
theorem dksX5_heldToward_2 : cX5_heldToward.data.toList.drop 45 = dktX5_heldToward_2 := dk_seg dksX5_heldToward_1 23 rfl rfl
theorem dX5_heldToward_0 : decode cX5_heldToward 0 = .ok (.iconst 0, 1) := dk_3 (dk_at dksX5_heldToward_0 0 rfl rfl)
theorem dX5_heldToward_1 : decode cX5_heldToward 1 = .ok (.istore_n 2, 1) := dk_61 (dk_at dksX5_heldToward_0 1 rfl rfl)
theorem dX5_heldToward_2 : decode cX5_heldToward 2 = .ok (.iconst 0, 1) := dk_3 (dk_at dksX5_heldToward_0 2 rfl rfl)
theorem dX5_heldToward_3 : decode cX5_heldToward 3 = .ok (.istore_n 3, 1) := dk_62 (dk_at dksX5_heldToward_0 3 rfl rfl)
theorem dX5_heldToward_4 : decode cX5_heldToward 4 = .ok (.iload_n 3, 1) := dk_29 (dk_at dksX5_heldToward_0 4 rfl rfl)
theorem dX5_heldToward_5 : decode cX5_heldToward 5 = .ok (.aload_n 0, 1) := dk_42 (dk_at dksX5_heldToward_0 5 rfl rfl)
theorem dX5_heldToward_6 : decode cX5_heldToward 6 = .ok (.getfield 143, 3) := dk_180 0 143 (dk_at dksX5_heldToward_0 6 rfl rfl)
theorem dX5_heldToward_9 : decode cX5_heldToward 9 = .ok (.if_icmp .ge 56, 3) := dk_162 0 56 (dk_at dksX5_heldToward_0 9 rfl rfl)
theorem dX5_heldToward_12 : decode cX5_heldToward 12 = .ok (.iload_n 1, 1) := dk_27 (dk_at dksX5_heldToward_0 12 rfl rfl)
theorem dX5_heldToward_13 : decode cX5_heldToward 13 = .ok (.aload_n 0, 1) := dk_42 (dk_at dksX5_heldToward_0 13 rfl rfl)
theorem dX5_heldToward_14 : decode cX5_heldToward 14 = .ok (.getfield 18, 3) := dk_180 0 18 (dk_at dksX5_heldToward_0 14 rfl rfl)
theorem dX5_heldToward_17 : decode cX5_heldToward 17 = .ok (.iload_n 3, 1) := dk_29 (dk_at dksX5_heldToward_0 17 rfl rfl)
theorem dX5_heldToward_18 : decode cX5_heldToward 18 = .ok (.iaload, 1) := dk_46 (dk_at dksX5_heldToward_0 18 rfl rfl)
theorem dX5_heldToward_19 : decode cX5_heldToward 19 = .ok (.invokestatic 291, 3) := dk_184 1 35 (dk_at dksX5_heldToward_0 19 rfl rfl)
theorem dX5_heldToward_22 : decode cX5_heldToward 22 = .ok (.ifCond .eq 37, 3) := dk_153 0 37 (dk_at dksX5_heldToward_1 0 rfl rfl)
theorem dX5_heldToward_25 : decode cX5_heldToward 25 = .ok (.aload_n 0, 1) := dk_42 (dk_at dksX5_heldToward_1 3 rfl rfl)
theorem dX5_heldToward_26 : decode cX5_heldToward 26 = .ok (.iload_n 3, 1) := dk_29 (dk_at dksX5_heldToward_1 4 rfl rfl)
theorem dX5_heldToward_27 : decode cX5_heldToward 27 = .ok (.aload_n 0, 1) := dk_42 (dk_at dksX5_heldToward_1 5 rfl rfl)
theorem dX5_heldToward_28 : decode cX5_heldToward 28 = .ok (.getfield 9, 3) := dk_180 0 9 (dk_at dksX5_heldToward_1 6 rfl rfl)
theorem dX5_heldToward_31 : decode cX5_heldToward 31 = .ok (.aload_n 0, 1) := dk_42 (dk_at dksX5_heldToward_1 9 rfl rfl)
theorem dX5_heldToward_32 : decode cX5_heldToward 32 = .ok (.getfield 18, 3) := dk_180 0 18 (dk_at dksX5_heldToward_1 10 rfl rfl)
theorem dX5_heldToward_35 : decode cX5_heldToward 35 = .ok (.iload_n 3, 1) := dk_29 (dk_at dksX5_heldToward_1 13 rfl rfl)
theorem dX5_heldToward_36 : decode cX5_heldToward 36 = .ok (.iaload, 1) := dk_46 (dk_at dksX5_heldToward_1 14 rfl rfl)
theorem dX5_heldToward_37 : decode cX5_heldToward 37 = .ok (.iaload, 1) := dk_46 (dk_at dksX5_heldToward_1 15 rfl rfl)
theorem dX5_heldToward_38 : decode cX5_heldToward 38 = .ok (.aload_n 0, 1) := dk_42 (dk_at dksX5_heldToward_1 16 rfl rfl)
theorem dX5_heldToward_39 : decode cX5_heldToward 39 = .ok (.getfield 153, 3) := dk_180 0 153 (dk_at dksX5_heldToward_1 17 rfl rfl)
theorem dX5_heldToward_42 : decode cX5_heldToward 42 = .ok (.invokevirtual 279, 3) := dk_182 1 23 (dk_at dksX5_heldToward_1 20 rfl rfl)
theorem dX5_heldToward_45 : decode cX5_heldToward 45 = .ok (.ifCond .eq 14, 3) := dk_153 0 14 (dk_at dksX5_heldToward_2 0 rfl rfl)
theorem dX5_heldToward_48 : decode cX5_heldToward 48 = .ok (.iload_n 2, 1) := dk_28 (dk_at dksX5_heldToward_2 3 rfl rfl)
theorem dX5_heldToward_49 : decode cX5_heldToward 49 = .ok (.iconst 1, 1) := dk_4 (dk_at dksX5_heldToward_2 4 rfl rfl)
theorem dX5_heldToward_50 : decode cX5_heldToward 50 = .ok (.aload_n 0, 1) := dk_42 (dk_at dksX5_heldToward_2 5 rfl rfl)
theorem dX5_heldToward_51 : decode cX5_heldToward 51 = .ok (.getfield 21, 3) := dk_180 0 21 (dk_at dksX5_heldToward_2 6 rfl rfl)
theorem dX5_heldToward_54 : decode cX5_heldToward 54 = .ok (.iload_n 3, 1) := dk_29 (dk_at dksX5_heldToward_2 9 rfl rfl)
theorem dX5_heldToward_55 : decode cX5_heldToward 55 = .ok (.iaload, 1) := dk_46 (dk_at dksX5_heldToward_2 10 rfl rfl)
theorem dX5_heldToward_56 : decode cX5_heldToward 56 = .ok (.ishl, 1) := dk_120 (dk_at dksX5_heldToward_2 11 rfl rfl)
theorem dX5_heldToward_57 : decode cX5_heldToward 57 = .ok (.ior, 1) := dk_128 (dk_at dksX5_heldToward_2 12 rfl rfl)
theorem dX5_heldToward_58 : decode cX5_heldToward 58 = .ok (.istore_n 2, 1) := dk_61 (dk_at dksX5_heldToward_2 13 rfl rfl)
theorem dX5_heldToward_59 : decode cX5_heldToward 59 = .ok (.iinc 3 1, 3) := dk_132 3 1 (dk_at dksX5_heldToward_2 14 rfl rfl)
theorem dX5_heldToward_62 : decode cX5_heldToward 62 = .ok (.goto (-58), 3) := dk_167 255 198 (dk_at dksX5_heldToward_2 17 rfl rfl)
theorem dX5_heldToward_65 : decode cX5_heldToward 65 = .ok (.iload_n 2, 1) := dk_28 (dk_at dksX5_heldToward_2 20 rfl rfl)
theorem dX5_heldToward_66 : decode cX5_heldToward 66 = .ok (.ireturn, 1) := dk_172 (dk_at dksX5_heldToward_2 21 rfl rfl)
abbrev cX5_judge : ByteArray := prog_25_method_75_code
def yX5_judge : MethodName := ⟨RX5, "judge", "(II)I"⟩
def dkwX5_judge_7 : List UInt8 := [16, 10, 108, 21, 5, 182, 1, 32, 184, 1, 59, 54, 4, 132, 5, 1, 167, 255, 158, 16, 254, 172]
abbrev dktX5_judge_7 : List UInt8 := dkwX5_judge_7 ++ []
def dkwX5_judge_6 : List UInt8 := [162, 0, 36, 42, 28, 21, 4, 42, 21, 5, 182, 1, 53, 182, 1, 56, 154, 0, 20, 21, 4, 42, 27]
abbrev dktX5_judge_6 : List UInt8 := dkwX5_judge_6 ++ dktX5_judge_7
def dkwX5_judge_5 : List UInt8 := [163, 0, 17, 21, 6, 16, 99, 159, 0, 13, 21, 6, 21, 4, 159, 0, 6, 21, 5, 172, 21, 5, 29]
abbrev dktX5_judge_5 : List UInt8 := dkwX5_judge_5 ++ dktX5_judge_6
def dkwX5_judge_4 : List UInt8 := [16, 10, 112, 46, 162, 0, 83, 42, 27, 16, 10, 112, 21, 5, 182, 1, 32, 54, 6, 21, 5, 29]
abbrev dktX5_judge_4 : List UInt8 := dkwX5_judge_4 ++ dktX5_judge_5
def dkwX5_judge_3 : List UInt8 := [180, 0, 9, 28, 46, 54, 4, 3, 54, 5, 21, 5, 16, 31, 162, 0, 97, 21, 5, 42, 180, 0, 123, 27]
abbrev dktX5_judge_3 : List UInt8 := dkwX5_judge_3 ++ dktX5_judge_4
def dkwX5_judge_2 : List UInt8 := [156, 0, 12, 42, 27, 16, 10, 112, 182, 1, 38, 172, 42, 27, 16, 10, 108, 182, 1, 41, 62, 42]
abbrev dktX5_judge_2 : List UInt8 := dkwX5_judge_2 ++ dktX5_judge_3
def dkwX5_judge_1 : List UInt8 := [182, 1, 38, 156, 0, 12, 42, 27, 16, 10, 108, 182, 1, 38, 172, 42, 27, 16, 10, 112, 182, 1, 38]
abbrev dktX5_judge_1 : List UInt8 := dkwX5_judge_1 ++ dktX5_judge_2
def dkwX5_judge_0 : List UInt8 := [27, 184, 1, 96, 153, 0, 11, 42, 28, 182, 0, 146, 154, 0, 5, 2, 172, 42, 27, 16, 10, 108]
abbrev dktX5_judge_0 : List UInt8 := dkwX5_judge_0 ++ dktX5_judge_1
theorem dksX5_judge_0 : cX5_judge.data.toList.drop 0 = dktX5_judge_0 := by decide +kernel
theorem dksX5_judge_1 : cX5_judge.data.toList.drop 22 = dktX5_judge_1 := dk_seg dksX5_judge_0 22 rfl rfl
theorem dksX5_judge_2 : cX5_judge.data.toList.drop 45 = dktX5_judge_2 := dk_seg dksX5_judge_1 23 rfl rfl
theorem dksX5_judge_3 : cX5_judge.data.toList.drop 67 = dktX5_judge_3 := dk_seg dksX5_judge_2 22 rfl rfl
theorem dksX5_judge_4 : cX5_judge.data.toList.drop 91 = dktX5_judge_4 := dk_seg dksX5_judge_3 24 rfl rfl
theorem dksX5_judge_5 : cX5_judge.data.toList.drop 113 = dktX5_judge_5 := dk_seg dksX5_judge_4 22 rfl rfl
theorem dksX5_judge_6 : cX5_judge.data.toList.drop 136 = dktX5_judge_6 := dk_seg dksX5_judge_5 23 rfl rfl
theorem dksX5_judge_7 : cX5_judge.data.toList.drop 159 = dktX5_judge_7 := dk_seg dksX5_judge_6 23 rfl rfl
theorem dX5_judge_0 : decode cX5_judge 0 = .ok (.iload_n 1, 1) := dk_27 (dk_at dksX5_judge_0 0 rfl rfl)
theorem dX5_judge_1 : decode cX5_judge 1 = .ok (.invokestatic 352, 3) := dk_184 1 96 (dk_at dksX5_judge_0 1 rfl rfl)
theorem dX5_judge_4 : decode cX5_judge 4 = .ok (.ifCond .eq 11, 3) := dk_153 0 11 (dk_at dksX5_judge_0 4 rfl rfl)
theorem dX5_judge_7 : decode cX5_judge 7 = .ok (.aload_n 0, 1) := dk_42 (dk_at dksX5_judge_0 7 rfl rfl)
theorem dX5_judge_8 : decode cX5_judge 8 = .ok (.iload_n 2, 1) := dk_28 (dk_at dksX5_judge_0 8 rfl rfl)
theorem dX5_judge_9 : decode cX5_judge 9 = .ok (.invokevirtual 146, 3) := dk_182 0 146 (dk_at dksX5_judge_0 9 rfl rfl)
theorem dX5_judge_12 : decode cX5_judge 12 = .ok (.ifCond .ne 5, 3) := dk_154 0 5 (dk_at dksX5_judge_0 12 rfl rfl)
theorem dX5_judge_15 : decode cX5_judge 15 = .ok (.iconst (-1), 1) := dk_2 (dk_at dksX5_judge_0 15 rfl rfl)
theorem dX5_judge_16 : decode cX5_judge 16 = .ok (.ireturn, 1) := dk_172 (dk_at dksX5_judge_0 16 rfl rfl)
theorem dX5_judge_17 : decode cX5_judge 17 = .ok (.aload_n 0, 1) := dk_42 (dk_at dksX5_judge_0 17 rfl rfl)
theorem dX5_judge_18 : decode cX5_judge 18 = .ok (.iload_n 1, 1) := dk_27 (dk_at dksX5_judge_0 18 rfl rfl)
theorem dX5_judge_19 : decode cX5_judge 19 = .ok (.bipush 10, 2) := dk_16 10 (dk_at dksX5_judge_0 19 rfl rfl)
theorem dX5_judge_21 : decode cX5_judge 21 = .ok (.idiv, 1) := dk_108 (dk_at dksX5_judge_0 21 rfl rfl)
theorem dX5_judge_22 : decode cX5_judge 22 = .ok (.invokevirtual 294, 3) := dk_182 1 38 (dk_at dksX5_judge_1 0 rfl rfl)
theorem dX5_judge_25 : decode cX5_judge 25 = .ok (.ifCond .ge 12, 3) := dk_156 0 12 (dk_at dksX5_judge_1 3 rfl rfl)
theorem dX5_judge_28 : decode cX5_judge 28 = .ok (.aload_n 0, 1) := dk_42 (dk_at dksX5_judge_1 6 rfl rfl)
theorem dX5_judge_29 : decode cX5_judge 29 = .ok (.iload_n 1, 1) := dk_27 (dk_at dksX5_judge_1 7 rfl rfl)
theorem dX5_judge_30 : decode cX5_judge 30 = .ok (.bipush 10, 2) := dk_16 10 (dk_at dksX5_judge_1 8 rfl rfl)
theorem dX5_judge_32 : decode cX5_judge 32 = .ok (.idiv, 1) := dk_108 (dk_at dksX5_judge_1 10 rfl rfl)
theorem dX5_judge_33 : decode cX5_judge 33 = .ok (.invokevirtual 294, 3) := dk_182 1 38 (dk_at dksX5_judge_1 11 rfl rfl)
theorem dX5_judge_36 : decode cX5_judge 36 = .ok (.ireturn, 1) := dk_172 (dk_at dksX5_judge_1 14 rfl rfl)
theorem dX5_judge_37 : decode cX5_judge 37 = .ok (.aload_n 0, 1) := dk_42 (dk_at dksX5_judge_1 15 rfl rfl)
theorem dX5_judge_38 : decode cX5_judge 38 = .ok (.iload_n 1, 1) := dk_27 (dk_at dksX5_judge_1 16 rfl rfl)
theorem dX5_judge_39 : decode cX5_judge 39 = .ok (.bipush 10, 2) := dk_16 10 (dk_at dksX5_judge_1 17 rfl rfl)
theorem dX5_judge_41 : decode cX5_judge 41 = .ok (.irem, 1) := dk_112 (dk_at dksX5_judge_1 19 rfl rfl)
theorem dX5_judge_42 : decode cX5_judge 42 = .ok (.invokevirtual 294, 3) := dk_182 1 38 (dk_at dksX5_judge_1 20 rfl rfl)
theorem dX5_judge_45 : decode cX5_judge 45 = .ok (.ifCond .ge 12, 3) := dk_156 0 12 (dk_at dksX5_judge_2 0 rfl rfl)
theorem dX5_judge_48 : decode cX5_judge 48 = .ok (.aload_n 0, 1) := dk_42 (dk_at dksX5_judge_2 3 rfl rfl)
theorem dX5_judge_49 : decode cX5_judge 49 = .ok (.iload_n 1, 1) := dk_27 (dk_at dksX5_judge_2 4 rfl rfl)
theorem dX5_judge_50 : decode cX5_judge 50 = .ok (.bipush 10, 2) := dk_16 10 (dk_at dksX5_judge_2 5 rfl rfl)
theorem dX5_judge_52 : decode cX5_judge 52 = .ok (.irem, 1) := dk_112 (dk_at dksX5_judge_2 7 rfl rfl)
theorem dX5_judge_53 : decode cX5_judge 53 = .ok (.invokevirtual 294, 3) := dk_182 1 38 (dk_at dksX5_judge_2 8 rfl rfl)
theorem dX5_judge_56 : decode cX5_judge 56 = .ok (.ireturn, 1) := dk_172 (dk_at dksX5_judge_2 11 rfl rfl)
theorem dX5_judge_57 : decode cX5_judge 57 = .ok (.aload_n 0, 1) := dk_42 (dk_at dksX5_judge_2 12 rfl rfl)
theorem dX5_judge_58 : decode cX5_judge 58 = .ok (.iload_n 1, 1) := dk_27 (dk_at dksX5_judge_2 13 rfl rfl)
theorem dX5_judge_59 : decode cX5_judge 59 = .ok (.bipush 10, 2) := dk_16 10 (dk_at dksX5_judge_2 14 rfl rfl)
theorem dX5_judge_61 : decode cX5_judge 61 = .ok (.idiv, 1) := dk_108 (dk_at dksX5_judge_2 16 rfl rfl)
theorem dX5_judge_62 : decode cX5_judge 62 = .ok (.invokevirtual 297, 3) := dk_182 1 41 (dk_at dksX5_judge_2 17 rfl rfl)
theorem dX5_judge_65 : decode cX5_judge 65 = .ok (.istore_n 3, 1) := dk_62 (dk_at dksX5_judge_2 20 rfl rfl)
theorem dX5_judge_66 : decode cX5_judge 66 = .ok (.aload_n 0, 1) := dk_42 (dk_at dksX5_judge_2 21 rfl rfl)
theorem dX5_judge_67 : decode cX5_judge 67 = .ok (.getfield 9, 3) := dk_180 0 9 (dk_at dksX5_judge_3 0 rfl rfl)
theorem dX5_judge_70 : decode cX5_judge 70 = .ok (.iload_n 2, 1) := dk_28 (dk_at dksX5_judge_3 3 rfl rfl)
theorem dX5_judge_71 : decode cX5_judge 71 = .ok (.iaload, 1) := dk_46 (dk_at dksX5_judge_3 4 rfl rfl)
theorem dX5_judge_72 : decode cX5_judge 72 = .ok (.istore 4, 2) := dk_54 4 (dk_at dksX5_judge_3 5 rfl rfl)
theorem dX5_judge_74 : decode cX5_judge 74 = .ok (.iconst 0, 1) := dk_3 (dk_at dksX5_judge_3 7 rfl rfl)
theorem dX5_judge_75 : decode cX5_judge 75 = .ok (.istore 5, 2) := dk_54 5 (dk_at dksX5_judge_3 8 rfl rfl)
theorem dX5_judge_77 : decode cX5_judge 77 = .ok (.iload 5, 2) := dk_21 5 (dk_at dksX5_judge_3 10 rfl rfl)
theorem dX5_judge_79 : decode cX5_judge 79 = .ok (.bipush 31, 2) := dk_16 31 (dk_at dksX5_judge_3 12 rfl rfl)
theorem dX5_judge_81 : decode cX5_judge 81 = .ok (.if_icmp .ge 97, 3) := dk_162 0 97 (dk_at dksX5_judge_3 14 rfl rfl)
theorem dX5_judge_84 : decode cX5_judge 84 = .ok (.iload 5, 2) := dk_21 5 (dk_at dksX5_judge_3 17 rfl rfl)
theorem dX5_judge_86 : decode cX5_judge 86 = .ok (.aload_n 0, 1) := dk_42 (dk_at dksX5_judge_3 19 rfl rfl)
theorem dX5_judge_87 : decode cX5_judge 87 = .ok (.getfield 123, 3) := dk_180 0 123 (dk_at dksX5_judge_3 20 rfl rfl)
theorem dX5_judge_90 : decode cX5_judge 90 = .ok (.iload_n 1, 1) := dk_27 (dk_at dksX5_judge_3 23 rfl rfl)
theorem dX5_judge_91 : decode cX5_judge 91 = .ok (.bipush 10, 2) := dk_16 10 (dk_at dksX5_judge_4 0 rfl rfl)
theorem dX5_judge_93 : decode cX5_judge 93 = .ok (.irem, 1) := dk_112 (dk_at dksX5_judge_4 2 rfl rfl)
theorem dX5_judge_94 : decode cX5_judge 94 = .ok (.iaload, 1) := dk_46 (dk_at dksX5_judge_4 3 rfl rfl)
theorem dX5_judge_95 : decode cX5_judge 95 = .ok (.if_icmp .ge 83, 3) := dk_162 0 83 (dk_at dksX5_judge_4 4 rfl rfl)
theorem dX5_judge_98 : decode cX5_judge 98 = .ok (.aload_n 0, 1) := dk_42 (dk_at dksX5_judge_4 7 rfl rfl)
theorem dX5_judge_99 : decode cX5_judge 99 = .ok (.iload_n 1, 1) := dk_27 (dk_at dksX5_judge_4 8 rfl rfl)
theorem dX5_judge_100 : decode cX5_judge 100 = .ok (.bipush 10, 2) := dk_16 10 (dk_at dksX5_judge_4 9 rfl rfl)
theorem dX5_judge_102 : decode cX5_judge 102 = .ok (.irem, 1) := dk_112 (dk_at dksX5_judge_4 11 rfl rfl)
theorem dX5_judge_103 : decode cX5_judge 103 = .ok (.iload 5, 2) := dk_21 5 (dk_at dksX5_judge_4 12 rfl rfl)
theorem dX5_judge_105 : decode cX5_judge 105 = .ok (.invokevirtual 288, 3) := dk_182 1 32 (dk_at dksX5_judge_4 14 rfl rfl)
theorem dX5_judge_108 : decode cX5_judge 108 = .ok (.istore 6, 2) := dk_54 6 (dk_at dksX5_judge_4 17 rfl rfl)
theorem dX5_judge_110 : decode cX5_judge 110 = .ok (.iload 5, 2) := dk_21 5 (dk_at dksX5_judge_4 19 rfl rfl)
theorem dX5_judge_112 : decode cX5_judge 112 = .ok (.iload_n 3, 1) := dk_29 (dk_at dksX5_judge_4 21 rfl rfl)
theorem dX5_judge_113 : decode cX5_judge 113 = .ok (.if_icmp .gt 17, 3) := dk_163 0 17 (dk_at dksX5_judge_5 0 rfl rfl)
theorem dX5_judge_116 : decode cX5_judge 116 = .ok (.iload 6, 2) := dk_21 6 (dk_at dksX5_judge_5 3 rfl rfl)
theorem dX5_judge_118 : decode cX5_judge 118 = .ok (.bipush 99, 2) := dk_16 99 (dk_at dksX5_judge_5 5 rfl rfl)
theorem dX5_judge_120 : decode cX5_judge 120 = .ok (.if_icmp .eq 13, 3) := dk_159 0 13 (dk_at dksX5_judge_5 7 rfl rfl)
theorem dX5_judge_123 : decode cX5_judge 123 = .ok (.iload 6, 2) := dk_21 6 (dk_at dksX5_judge_5 10 rfl rfl)
theorem dX5_judge_125 : decode cX5_judge 125 = .ok (.iload 4, 2) := dk_21 4 (dk_at dksX5_judge_5 12 rfl rfl)
theorem dX5_judge_127 : decode cX5_judge 127 = .ok (.if_icmp .eq 6, 3) := dk_159 0 6 (dk_at dksX5_judge_5 14 rfl rfl)
theorem dX5_judge_130 : decode cX5_judge 130 = .ok (.iload 5, 2) := dk_21 5 (dk_at dksX5_judge_5 17 rfl rfl)
theorem dX5_judge_132 : decode cX5_judge 132 = .ok (.ireturn, 1) := dk_172 (dk_at dksX5_judge_5 19 rfl rfl)
theorem dX5_judge_133 : decode cX5_judge 133 = .ok (.iload 5, 2) := dk_21 5 (dk_at dksX5_judge_5 20 rfl rfl)
theorem dX5_judge_135 : decode cX5_judge 135 = .ok (.iload_n 3, 1) := dk_29 (dk_at dksX5_judge_5 22 rfl rfl)
theorem dX5_judge_136 : decode cX5_judge 136 = .ok (.if_icmp .ge 36, 3) := dk_162 0 36 (dk_at dksX5_judge_6 0 rfl rfl)
theorem dX5_judge_139 : decode cX5_judge 139 = .ok (.aload_n 0, 1) := dk_42 (dk_at dksX5_judge_6 3 rfl rfl)
theorem dX5_judge_140 : decode cX5_judge 140 = .ok (.iload_n 2, 1) := dk_28 (dk_at dksX5_judge_6 4 rfl rfl)
theorem dX5_judge_141 : decode cX5_judge 141 = .ok (.iload 4, 2) := dk_21 4 (dk_at dksX5_judge_6 5 rfl rfl)
theorem dX5_judge_143 : decode cX5_judge 143 = .ok (.aload_n 0, 1) := dk_42 (dk_at dksX5_judge_6 7 rfl rfl)
theorem dX5_judge_144 : decode cX5_judge 144 = .ok (.iload 5, 2) := dk_21 5 (dk_at dksX5_judge_6 8 rfl rfl)
theorem dX5_judge_146 : decode cX5_judge 146 = .ok (.invokevirtual 309, 3) := dk_182 1 53 (dk_at dksX5_judge_6 10 rfl rfl)
theorem dX5_judge_149 : decode cX5_judge 149 = .ok (.invokevirtual 312, 3) := dk_182 1 56 (dk_at dksX5_judge_6 13 rfl rfl)
theorem dX5_judge_152 : decode cX5_judge 152 = .ok (.ifCond .ne 20, 3) := dk_154 0 20 (dk_at dksX5_judge_6 16 rfl rfl)
theorem dX5_judge_155 : decode cX5_judge 155 = .ok (.iload 4, 2) := dk_21 4 (dk_at dksX5_judge_6 19 rfl rfl)
theorem dX5_judge_157 : decode cX5_judge 157 = .ok (.aload_n 0, 1) := dk_42 (dk_at dksX5_judge_6 21 rfl rfl)
theorem dX5_judge_158 : decode cX5_judge 158 = .ok (.iload_n 1, 1) := dk_27 (dk_at dksX5_judge_6 22 rfl rfl)
theorem dX5_judge_159 : decode cX5_judge 159 = .ok (.bipush 10, 2) := dk_16 10 (dk_at dksX5_judge_7 0 rfl rfl)
theorem dX5_judge_161 : decode cX5_judge 161 = .ok (.idiv, 1) := dk_108 (dk_at dksX5_judge_7 2 rfl rfl)
theorem dX5_judge_162 : decode cX5_judge 162 = .ok (.iload 5, 2) := dk_21 5 (dk_at dksX5_judge_7 3 rfl rfl)
theorem dX5_judge_164 : decode cX5_judge 164 = .ok (.invokevirtual 288, 3) := dk_182 1 32 (dk_at dksX5_judge_7 5 rfl rfl)
theorem dX5_judge_167 : decode cX5_judge 167 = .ok (.invokestatic 315, 3) := dk_184 1 59 (dk_at dksX5_judge_7 8 rfl rfl)
theorem dX5_judge_170 : decode cX5_judge 170 = .ok (.istore 4, 2) := dk_54 4 (dk_at dksX5_judge_7 11 rfl rfl)
theorem dX5_judge_172 : decode cX5_judge 172 = .ok (.iinc 5 1, 3) := dk_132 5 1 (dk_at dksX5_judge_7 13 rfl rfl)
theorem dX5_judge_175 : decode cX5_judge 175 = .ok (.goto (-98), 3) := dk_167 255 158 (dk_at dksX5_judge_7 16 rfl rfl)
theorem dX5_judge_178 : decode cX5_judge 178 = .ok (.bipush (-2), 2) := dk_16 254 (dk_at dksX5_judge_7 19 rfl rfl)
theorem dX5_judge_180 : decode cX5_judge 180 = .ok (.ireturn, 1) := dk_172 (dk_at dksX5_judge_7 21 rfl rfl)
abbrev cX5_areShelves : ByteArray := prog_25_method_74_code
def yX5_areShelves : MethodName := ⟨RX5, "areShelves", "(I)Z"⟩
def dkwX5_areShelves_1 : List UInt8 := [4, 167, 0, 4, 3, 172]
abbrev dktX5_areShelves_1 : List UInt8 := dkwX5_areShelves_1 ++ []
def dkwX5_areShelves_0 : List UInt8 := [26, 155, 0, 27, 26, 16, 10, 108, 184, 0, 164, 153, 0, 17, 26, 16, 10, 112, 184, 0, 164, 153, 0, 7]
abbrev dktX5_areShelves_0 : List UInt8 := dkwX5_areShelves_0 ++ dktX5_areShelves_1
theorem dksX5_areShelves_0 : cX5_areShelves.data.toList.drop 0 = dktX5_areShelves_0 := by decide +kernel
theorem dksX5_areShelves_1 : cX5_areShelves.data.toList.drop 24 = dktX5_areShelves_1 := dk_seg dksX5_areShelves_0 24 rfl rfl
theorem dX5_areShelves_0 : decode cX5_areShelves 0 = .ok (.iload_n 0, 1) := dk_26 (dk_at dksX5_areShelves_0 0 rfl rfl)
theorem dX5_areShelves_1 : decode cX5_areShelves 1 = .ok (.ifCond .lt 27, 3) := dk_155 0 27 (dk_at dksX5_areShelves_0 1 rfl rfl)
theorem dX5_areShelves_4 : decode cX5_areShelves 4 = .ok (.iload_n 0, 1) := dk_26 (dk_at dksX5_areShelves_0 4 rfl rfl)
theorem dX5_areShelves_5 : decode cX5_areShelves 5 = .ok (.bipush 10, 2) := dk_16 10 (dk_at dksX5_areShelves_0 5 rfl rfl)
theorem dX5_areShelves_7 : decode cX5_areShelves 7 = .ok (.idiv, 1) := dk_108 (dk_at dksX5_areShelves_0 7 rfl rfl)
theorem dX5_areShelves_8 : decode cX5_areShelves 8 = .ok (.invokestatic 164, 3) := dk_184 0 164 (dk_at dksX5_areShelves_0 8 rfl rfl)
theorem dX5_areShelves_11 : decode cX5_areShelves 11 = .ok (.ifCond .eq 17, 3) := dk_153 0 17 (dk_at dksX5_areShelves_0 11 rfl rfl)
theorem dX5_areShelves_14 : decode cX5_areShelves 14 = .ok (.iload_n 0, 1) := dk_26 (dk_at dksX5_areShelves_0 14 rfl rfl)
theorem dX5_areShelves_15 : decode cX5_areShelves 15 = .ok (.bipush 10, 2) := dk_16 10 (dk_at dksX5_areShelves_0 15 rfl rfl)
theorem dX5_areShelves_17 : decode cX5_areShelves 17 = .ok (.irem, 1) := dk_112 (dk_at dksX5_areShelves_0 17 rfl rfl)
theorem dX5_areShelves_18 : decode cX5_areShelves 18 = .ok (.invokestatic 164, 3) := dk_184 0 164 (dk_at dksX5_areShelves_0 18 rfl rfl)
theorem dX5_areShelves_21 : decode cX5_areShelves 21 = .ok (.ifCond .eq 7, 3) := dk_153 0 7 (dk_at dksX5_areShelves_0 21 rfl rfl)
theorem dX5_areShelves_24 : decode cX5_areShelves 24 = .ok (.iconst 1, 1) := dk_4 (dk_at dksX5_areShelves_1 0 rfl rfl)
theorem dX5_areShelves_25 : decode cX5_areShelves 25 = .ok (.goto 4, 3) := dk_167 0 4 (dk_at dksX5_areShelves_1 1 rfl rfl)
theorem dX5_areShelves_28 : decode cX5_areShelves 28 = .ok (.iconst 0, 1) := dk_3 (dk_at dksX5_areShelves_1 4 rfl rfl)
theorem dX5_areShelves_29 : decode cX5_areShelves 29 = .ok (.ireturn, 1) := dk_172 (dk_at dksX5_areShelves_1 5 rfl rfl)
abbrev cX5_can : ByteArray := prog_25_method_77_code
def yX5_can : MethodName := ⟨RX5, "can", "(II)I"⟩
def dkwX5_can_2 : List UInt8 := [3, 172]
abbrev dktX5_can_2 : List UInt8 := dkwX5_can_2 ++ []
def dkwX5_can_1 : List UInt8 := [156, 0, 11, 42, 27, 182, 1, 38, 167, 0, 17, 42, 27, 28, 182, 1, 99, 153, 0, 7, 4, 167, 0, 4]
abbrev dktX5_can_1 : List UInt8 := dkwX5_can_1 ++ dktX5_can_2
def dkwX5_can_0 : List UInt8 := [27, 184, 0, 164, 153, 0, 11, 42, 28, 182, 0, 146, 154, 0, 5, 2, 172, 42, 27, 182, 1, 38]
abbrev dktX5_can_0 : List UInt8 := dkwX5_can_0 ++ dktX5_can_1
theorem dksX5_can_0 : cX5_can.data.toList.drop 0 = dktX5_can_0 := by decide +kernel
theorem dksX5_can_1 : cX5_can.data.toList.drop 22 = dktX5_can_1 := dk_seg dksX5_can_0 22 rfl rfl
theorem dksX5_can_2 : cX5_can.data.toList.drop 46 = dktX5_can_2 := dk_seg dksX5_can_1 24 rfl rfl
theorem dX5_can_0 : decode cX5_can 0 = .ok (.iload_n 1, 1) := dk_27 (dk_at dksX5_can_0 0 rfl rfl)
theorem dX5_can_1 : decode cX5_can 1 = .ok (.invokestatic 164, 3) := dk_184 0 164 (dk_at dksX5_can_0 1 rfl rfl)
theorem dX5_can_4 : decode cX5_can 4 = .ok (.ifCond .eq 11, 3) := dk_153 0 11 (dk_at dksX5_can_0 4 rfl rfl)
theorem dX5_can_7 : decode cX5_can 7 = .ok (.aload_n 0, 1) := dk_42 (dk_at dksX5_can_0 7 rfl rfl)
theorem dX5_can_8 : decode cX5_can 8 = .ok (.iload_n 2, 1) := dk_28 (dk_at dksX5_can_0 8 rfl rfl)
theorem dX5_can_9 : decode cX5_can 9 = .ok (.invokevirtual 146, 3) := dk_182 0 146 (dk_at dksX5_can_0 9 rfl rfl)
theorem dX5_can_12 : decode cX5_can 12 = .ok (.ifCond .ne 5, 3) := dk_154 0 5 (dk_at dksX5_can_0 12 rfl rfl)
theorem dX5_can_15 : decode cX5_can 15 = .ok (.iconst (-1), 1) := dk_2 (dk_at dksX5_can_0 15 rfl rfl)
theorem dX5_can_16 : decode cX5_can 16 = .ok (.ireturn, 1) := dk_172 (dk_at dksX5_can_0 16 rfl rfl)
theorem dX5_can_17 : decode cX5_can 17 = .ok (.aload_n 0, 1) := dk_42 (dk_at dksX5_can_0 17 rfl rfl)
theorem dX5_can_18 : decode cX5_can 18 = .ok (.iload_n 1, 1) := dk_27 (dk_at dksX5_can_0 18 rfl rfl)
theorem dX5_can_19 : decode cX5_can 19 = .ok (.invokevirtual 294, 3) := dk_182 1 38 (dk_at dksX5_can_0 19 rfl rfl)
theorem dX5_can_22 : decode cX5_can 22 = .ok (.ifCond .ge 11, 3) := dk_156 0 11 (dk_at dksX5_can_1 0 rfl rfl)
theorem dX5_can_25 : decode cX5_can 25 = .ok (.aload_n 0, 1) := dk_42 (dk_at dksX5_can_1 3 rfl rfl)
theorem dX5_can_26 : decode cX5_can 26 = .ok (.iload_n 1, 1) := dk_27 (dk_at dksX5_can_1 4 rfl rfl)
theorem dX5_can_27 : decode cX5_can 27 = .ok (.invokevirtual 294, 3) := dk_182 1 38 (dk_at dksX5_can_1 5 rfl rfl)
theorem dX5_can_30 : decode cX5_can 30 = .ok (.goto 17, 3) := dk_167 0 17 (dk_at dksX5_can_1 8 rfl rfl)
theorem dX5_can_33 : decode cX5_can 33 = .ok (.aload_n 0, 1) := dk_42 (dk_at dksX5_can_1 11 rfl rfl)
theorem dX5_can_34 : decode cX5_can 34 = .ok (.iload_n 1, 1) := dk_27 (dk_at dksX5_can_1 12 rfl rfl)
theorem dX5_can_35 : decode cX5_can 35 = .ok (.iload_n 2, 1) := dk_28 (dk_at dksX5_can_1 13 rfl rfl)
theorem dX5_can_36 : decode cX5_can 36 = .ok (.invokevirtual 355, 3) := dk_182 1 99 (dk_at dksX5_can_1 14 rfl rfl)
theorem dX5_can_39 : decode cX5_can 39 = .ok (.ifCond .eq 7, 3) := dk_153 0 7 (dk_at dksX5_can_1 17 rfl rfl)
theorem dX5_can_42 : decode cX5_can 42 = .ok (.iconst 1, 1) := dk_4 (dk_at dksX5_can_1 20 rfl rfl)
theorem dX5_can_43 : decode cX5_can 43 = .ok (.goto 4, 3) := dk_167 0 4 (dk_at dksX5_can_1 21 rfl rfl)
theorem dX5_can_46 : decode cX5_can 46 = .ok (.iconst 0, 1) := dk_3 (dk_at dksX5_can_2 0 rfl rfl)
theorem dX5_can_47 : decode cX5_can 47 = .ok (.ireturn, 1) := dk_172 (dk_at dksX5_can_2 1 rfl rfl)
abbrev cX5_canBe : ByteArray := prog_25_method_76_code
def yX5_canBe : MethodName := ⟨RX5, "canBe", "(II)Z"⟩
def dkwX5_canBe_3 : List UInt8 := [172, 42, 28, 29, 42, 21, 4, 182, 1, 53, 182, 1, 72, 62, 132, 4, 1, 167, 255, 181, 4, 172]
abbrev dktX5_canBe_3 : List UInt8 := dkwX5_canBe_3 ++ []
def dkwX5_canBe_2 : List UInt8 := [29, 21, 5, 184, 0, 150, 153, 0, 10, 4, 21, 5, 120, 167, 0, 4, 3, 126, 62, 29, 154, 0, 5, 3]
abbrev dktX5_canBe_2 : List UInt8 := dkwX5_canBe_2 ++ dktX5_canBe_3
def dkwX5_canBe_1 : List UInt8 := [180, 0, 123, 27, 46, 162, 0, 63, 42, 27, 21, 4, 182, 1, 32, 54, 5, 21, 5, 16, 99, 159, 0, 22]
abbrev dktX5_canBe_1 : List UInt8 := dkwX5_canBe_1 ++ dktX5_canBe_2
def dkwX5_canBe_0 : List UInt8 := [4, 42, 180, 0, 9, 28, 46, 120, 62, 3, 54, 4, 21, 4, 16, 31, 162, 0, 74, 21, 4, 42]
abbrev dktX5_canBe_0 : List UInt8 := dkwX5_canBe_0 ++ dktX5_canBe_1
theorem dksX5_canBe_0 : cX5_canBe.data.toList.drop 0 = dktX5_canBe_0 := by decide +kernel
theorem dksX5_canBe_1 : cX5_canBe.data.toList.drop 22 = dktX5_canBe_1 := dk_seg dksX5_canBe_0 22 rfl rfl
theorem dksX5_canBe_2 : cX5_canBe.data.toList.drop 46 = dktX5_canBe_2 := dk_seg dksX5_canBe_1 24 rfl rfl
theorem dksX5_canBe_3 : cX5_canBe.data.toList.drop 70 = dktX5_canBe_3 := dk_seg dksX5_canBe_2 24 rfl rfl
theorem dX5_canBe_0 : decode cX5_canBe 0 = .ok (.iconst 1, 1) := dk_4 (dk_at dksX5_canBe_0 0 rfl rfl)
theorem dX5_canBe_1 : decode cX5_canBe 1 = .ok (.aload_n 0, 1) := dk_42 (dk_at dksX5_canBe_0 1 rfl rfl)
theorem dX5_canBe_2 : decode cX5_canBe 2 = .ok (.getfield 9, 3) := dk_180 0 9 (dk_at dksX5_canBe_0 2 rfl rfl)
theorem dX5_canBe_5 : decode cX5_canBe 5 = .ok (.iload_n 2, 1) := dk_28 (dk_at dksX5_canBe_0 5 rfl rfl)
theorem dX5_canBe_6 : decode cX5_canBe 6 = .ok (.iaload, 1) := dk_46 (dk_at dksX5_canBe_0 6 rfl rfl)
theorem dX5_canBe_7 : decode cX5_canBe 7 = .ok (.ishl, 1) := dk_120 (dk_at dksX5_canBe_0 7 rfl rfl)
theorem dX5_canBe_8 : decode cX5_canBe 8 = .ok (.istore_n 3, 1) := dk_62 (dk_at dksX5_canBe_0 8 rfl rfl)
theorem dX5_canBe_9 : decode cX5_canBe 9 = .ok (.iconst 0, 1) := dk_3 (dk_at dksX5_canBe_0 9 rfl rfl)
theorem dX5_canBe_10 : decode cX5_canBe 10 = .ok (.istore 4, 2) := dk_54 4 (dk_at dksX5_canBe_0 10 rfl rfl)
theorem dX5_canBe_12 : decode cX5_canBe 12 = .ok (.iload 4, 2) := dk_21 4 (dk_at dksX5_canBe_0 12 rfl rfl)
theorem dX5_canBe_14 : decode cX5_canBe 14 = .ok (.bipush 31, 2) := dk_16 31 (dk_at dksX5_canBe_0 14 rfl rfl)
theorem dX5_canBe_16 : decode cX5_canBe 16 = .ok (.if_icmp .ge 74, 3) := dk_162 0 74 (dk_at dksX5_canBe_0 16 rfl rfl)
theorem dX5_canBe_19 : decode cX5_canBe 19 = .ok (.iload 4, 2) := dk_21 4 (dk_at dksX5_canBe_0 19 rfl rfl)
theorem dX5_canBe_21 : decode cX5_canBe 21 = .ok (.aload_n 0, 1) := dk_42 (dk_at dksX5_canBe_0 21 rfl rfl)
theorem dX5_canBe_22 : decode cX5_canBe 22 = .ok (.getfield 123, 3) := dk_180 0 123 (dk_at dksX5_canBe_1 0 rfl rfl)
theorem dX5_canBe_25 : decode cX5_canBe 25 = .ok (.iload_n 1, 1) := dk_27 (dk_at dksX5_canBe_1 3 rfl rfl)
theorem dX5_canBe_26 : decode cX5_canBe 26 = .ok (.iaload, 1) := dk_46 (dk_at dksX5_canBe_1 4 rfl rfl)
theorem dX5_canBe_27 : decode cX5_canBe 27 = .ok (.if_icmp .ge 63, 3) := dk_162 0 63 (dk_at dksX5_canBe_1 5 rfl rfl)
theorem dX5_canBe_30 : decode cX5_canBe 30 = .ok (.aload_n 0, 1) := dk_42 (dk_at dksX5_canBe_1 8 rfl rfl)
theorem dX5_canBe_31 : decode cX5_canBe 31 = .ok (.iload_n 1, 1) := dk_27 (dk_at dksX5_canBe_1 9 rfl rfl)
theorem dX5_canBe_32 : decode cX5_canBe 32 = .ok (.iload 4, 2) := dk_21 4 (dk_at dksX5_canBe_1 10 rfl rfl)
theorem dX5_canBe_34 : decode cX5_canBe 34 = .ok (.invokevirtual 288, 3) := dk_182 1 32 (dk_at dksX5_canBe_1 12 rfl rfl)
theorem dX5_canBe_37 : decode cX5_canBe 37 = .ok (.istore 5, 2) := dk_54 5 (dk_at dksX5_canBe_1 15 rfl rfl)
theorem dX5_canBe_39 : decode cX5_canBe 39 = .ok (.iload 5, 2) := dk_21 5 (dk_at dksX5_canBe_1 17 rfl rfl)
theorem dX5_canBe_41 : decode cX5_canBe 41 = .ok (.bipush 99, 2) := dk_16 99 (dk_at dksX5_canBe_1 19 rfl rfl)
theorem dX5_canBe_43 : decode cX5_canBe 43 = .ok (.if_icmp .eq 22, 3) := dk_159 0 22 (dk_at dksX5_canBe_1 21 rfl rfl)
theorem dX5_canBe_46 : decode cX5_canBe 46 = .ok (.iload_n 3, 1) := dk_29 (dk_at dksX5_canBe_2 0 rfl rfl)
theorem dX5_canBe_47 : decode cX5_canBe 47 = .ok (.iload 5, 2) := dk_21 5 (dk_at dksX5_canBe_2 1 rfl rfl)
theorem dX5_canBe_49 : decode cX5_canBe 49 = .ok (.invokestatic 150, 3) := dk_184 0 150 (dk_at dksX5_canBe_2 3 rfl rfl)
theorem dX5_canBe_52 : decode cX5_canBe 52 = .ok (.ifCond .eq 10, 3) := dk_153 0 10 (dk_at dksX5_canBe_2 6 rfl rfl)
theorem dX5_canBe_55 : decode cX5_canBe 55 = .ok (.iconst 1, 1) := dk_4 (dk_at dksX5_canBe_2 9 rfl rfl)
theorem dX5_canBe_56 : decode cX5_canBe 56 = .ok (.iload 5, 2) := dk_21 5 (dk_at dksX5_canBe_2 10 rfl rfl)
theorem dX5_canBe_58 : decode cX5_canBe 58 = .ok (.ishl, 1) := dk_120 (dk_at dksX5_canBe_2 12 rfl rfl)
theorem dX5_canBe_59 : decode cX5_canBe 59 = .ok (.goto 4, 3) := dk_167 0 4 (dk_at dksX5_canBe_2 13 rfl rfl)
theorem dX5_canBe_62 : decode cX5_canBe 62 = .ok (.iconst 0, 1) := dk_3 (dk_at dksX5_canBe_2 16 rfl rfl)
theorem dX5_canBe_63 : decode cX5_canBe 63 = .ok (.iand, 1) := dk_126 (dk_at dksX5_canBe_2 17 rfl rfl)
theorem dX5_canBe_64 : decode cX5_canBe 64 = .ok (.istore_n 3, 1) := dk_62 (dk_at dksX5_canBe_2 18 rfl rfl)
theorem dX5_canBe_65 : decode cX5_canBe 65 = .ok (.iload_n 3, 1) := dk_29 (dk_at dksX5_canBe_2 19 rfl rfl)
theorem dX5_canBe_66 : decode cX5_canBe 66 = .ok (.ifCond .ne 5, 3) := dk_154 0 5 (dk_at dksX5_canBe_2 20 rfl rfl)
theorem dX5_canBe_69 : decode cX5_canBe 69 = .ok (.iconst 0, 1) := dk_3 (dk_at dksX5_canBe_2 23 rfl rfl)
theorem dX5_canBe_70 : decode cX5_canBe 70 = .ok (.ireturn, 1) := dk_172 (dk_at dksX5_canBe_3 0 rfl rfl)
theorem dX5_canBe_71 : decode cX5_canBe 71 = .ok (.aload_n 0, 1) := dk_42 (dk_at dksX5_canBe_3 1 rfl rfl)
theorem dX5_canBe_72 : decode cX5_canBe 72 = .ok (.iload_n 2, 1) := dk_28 (dk_at dksX5_canBe_3 2 rfl rfl)
theorem dX5_canBe_73 : decode cX5_canBe 73 = .ok (.iload_n 3, 1) := dk_29 (dk_at dksX5_canBe_3 3 rfl rfl)
theorem dX5_canBe_74 : decode cX5_canBe 74 = .ok (.aload_n 0, 1) := dk_42 (dk_at dksX5_canBe_3 4 rfl rfl)
theorem dX5_canBe_75 : decode cX5_canBe 75 = .ok (.iload 4, 2) := dk_21 4 (dk_at dksX5_canBe_3 5 rfl rfl)
theorem dX5_canBe_77 : decode cX5_canBe 77 = .ok (.invokevirtual 309, 3) := dk_182 1 53 (dk_at dksX5_canBe_3 7 rfl rfl)
theorem dX5_canBe_80 : decode cX5_canBe 80 = .ok (.invokevirtual 328, 3) := dk_182 1 72 (dk_at dksX5_canBe_3 10 rfl rfl)
theorem dX5_canBe_83 : decode cX5_canBe 83 = .ok (.istore_n 3, 1) := dk_62 (dk_at dksX5_canBe_3 13 rfl rfl)
theorem dX5_canBe_84 : decode cX5_canBe 84 = .ok (.iinc 4 1, 3) := dk_132 4 1 (dk_at dksX5_canBe_3 14 rfl rfl)
theorem dX5_canBe_87 : decode cX5_canBe 87 = .ok (.goto (-75), 3) := dk_167 255 181 (dk_at dksX5_canBe_3 17 rfl rfl)
theorem dX5_canBe_90 : decode cX5_canBe 90 = .ok (.iconst 1, 1) := dk_4 (dk_at dksX5_canBe_3 20 rfl rfl)
theorem dX5_canBe_91 : decode cX5_canBe 91 = .ok (.ireturn, 1) := dk_172 (dk_at dksX5_canBe_3 21 rfl rfl)
abbrev cX5_who : ByteArray := prog_25_method_78_code
def yX5_who : MethodName := ⟨RX5, "who", "(I)I"⟩
def dkwX5_who_2 : List UInt8 := [128, 61, 132, 3, 1, 167, 255, 230, 28, 172]
abbrev dktX5_who_2 : List UInt8 := dkwX5_who_2 ++ []
def dkwX5_who_1 : List UInt8 := [61, 3, 62, 29, 42, 180, 0, 140, 162, 0, 24, 42, 27, 29, 182, 1, 99, 153, 0, 9, 28, 4, 29, 120]
abbrev dktX5_who_1 : List UInt8 := dkwX5_who_1 ++ dktX5_who_2
def dkwX5_who_0 : List UInt8 := [27, 184, 0, 164, 154, 0, 5, 2, 172, 42, 27, 182, 1, 38, 156, 0, 9, 42, 27, 182, 1, 38, 172, 3]
abbrev dktX5_who_0 : List UInt8 := dkwX5_who_0 ++ dktX5_who_1
theorem dksX5_who_0 : cX5_who.data.toList.drop 0 = dktX5_who_0 := by decide +kernel
theorem dksX5_who_1 : cX5_who.data.toList.drop 24 = dktX5_who_1 := dk_seg dksX5_who_0 24 rfl rfl
theorem dksX5_who_2 : cX5_who.data.toList.drop 48 = dktX5_who_2 := dk_seg dksX5_who_1 24 rfl rfl
theorem dX5_who_0 : decode cX5_who 0 = .ok (.iload_n 1, 1) := dk_27 (dk_at dksX5_who_0 0 rfl rfl)
theorem dX5_who_1 : decode cX5_who 1 = .ok (.invokestatic 164, 3) := dk_184 0 164 (dk_at dksX5_who_0 1 rfl rfl)
theorem dX5_who_4 : decode cX5_who 4 = .ok (.ifCond .ne 5, 3) := dk_154 0 5 (dk_at dksX5_who_0 4 rfl rfl)
theorem dX5_who_7 : decode cX5_who 7 = .ok (.iconst (-1), 1) := dk_2 (dk_at dksX5_who_0 7 rfl rfl)
theorem dX5_who_8 : decode cX5_who 8 = .ok (.ireturn, 1) := dk_172 (dk_at dksX5_who_0 8 rfl rfl)
theorem dX5_who_9 : decode cX5_who 9 = .ok (.aload_n 0, 1) := dk_42 (dk_at dksX5_who_0 9 rfl rfl)
theorem dX5_who_10 : decode cX5_who 10 = .ok (.iload_n 1, 1) := dk_27 (dk_at dksX5_who_0 10 rfl rfl)
theorem dX5_who_11 : decode cX5_who 11 = .ok (.invokevirtual 294, 3) := dk_182 1 38 (dk_at dksX5_who_0 11 rfl rfl)
theorem dX5_who_14 : decode cX5_who 14 = .ok (.ifCond .ge 9, 3) := dk_156 0 9 (dk_at dksX5_who_0 14 rfl rfl)
theorem dX5_who_17 : decode cX5_who 17 = .ok (.aload_n 0, 1) := dk_42 (dk_at dksX5_who_0 17 rfl rfl)
theorem dX5_who_18 : decode cX5_who 18 = .ok (.iload_n 1, 1) := dk_27 (dk_at dksX5_who_0 18 rfl rfl)
theorem dX5_who_19 : decode cX5_who 19 = .ok (.invokevirtual 294, 3) := dk_182 1 38 (dk_at dksX5_who_0 19 rfl rfl)
theorem dX5_who_22 : decode cX5_who 22 = .ok (.ireturn, 1) := dk_172 (dk_at dksX5_who_0 22 rfl rfl)
theorem dX5_who_23 : decode cX5_who 23 = .ok (.iconst 0, 1) := dk_3 (dk_at dksX5_who_0 23 rfl rfl)
theorem dX5_who_24 : decode cX5_who 24 = .ok (.istore_n 2, 1) := dk_61 (dk_at dksX5_who_1 0 rfl rfl)
theorem dX5_who_25 : decode cX5_who 25 = .ok (.iconst 0, 1) := dk_3 (dk_at dksX5_who_1 1 rfl rfl)
theorem dX5_who_26 : decode cX5_who 26 = .ok (.istore_n 3, 1) := dk_62 (dk_at dksX5_who_1 2 rfl rfl)
theorem dX5_who_27 : decode cX5_who 27 = .ok (.iload_n 3, 1) := dk_29 (dk_at dksX5_who_1 3 rfl rfl)
theorem dX5_who_28 : decode cX5_who 28 = .ok (.aload_n 0, 1) := dk_42 (dk_at dksX5_who_1 4 rfl rfl)
theorem dX5_who_29 : decode cX5_who 29 = .ok (.getfield 140, 3) := dk_180 0 140 (dk_at dksX5_who_1 5 rfl rfl)
theorem dX5_who_32 : decode cX5_who 32 = .ok (.if_icmp .ge 24, 3) := dk_162 0 24 (dk_at dksX5_who_1 8 rfl rfl)
theorem dX5_who_35 : decode cX5_who 35 = .ok (.aload_n 0, 1) := dk_42 (dk_at dksX5_who_1 11 rfl rfl)
theorem dX5_who_36 : decode cX5_who 36 = .ok (.iload_n 1, 1) := dk_27 (dk_at dksX5_who_1 12 rfl rfl)
theorem dX5_who_37 : decode cX5_who 37 = .ok (.iload_n 3, 1) := dk_29 (dk_at dksX5_who_1 13 rfl rfl)
theorem dX5_who_38 : decode cX5_who 38 = .ok (.invokevirtual 355, 3) := dk_182 1 99 (dk_at dksX5_who_1 14 rfl rfl)
theorem dX5_who_41 : decode cX5_who 41 = .ok (.ifCond .eq 9, 3) := dk_153 0 9 (dk_at dksX5_who_1 17 rfl rfl)
theorem dX5_who_44 : decode cX5_who 44 = .ok (.iload_n 2, 1) := dk_28 (dk_at dksX5_who_1 20 rfl rfl)
theorem dX5_who_45 : decode cX5_who 45 = .ok (.iconst 1, 1) := dk_4 (dk_at dksX5_who_1 21 rfl rfl)
theorem dX5_who_46 : decode cX5_who 46 = .ok (.iload_n 3, 1) := dk_29 (dk_at dksX5_who_1 22 rfl rfl)
theorem dX5_who_47 : decode cX5_who 47 = .ok (.ishl, 1) := dk_120 (dk_at dksX5_who_1 23 rfl rfl)
theorem dX5_who_48 : decode cX5_who 48 = .ok (.ior, 1) := dk_128 (dk_at dksX5_who_2 0 rfl rfl)
theorem dX5_who_49 : decode cX5_who 49 = .ok (.istore_n 2, 1) := dk_61 (dk_at dksX5_who_2 1 rfl rfl)
theorem dX5_who_50 : decode cX5_who 50 = .ok (.iinc 3 1, 3) := dk_132 3 1 (dk_at dksX5_who_2 2 rfl rfl)
theorem dX5_who_53 : decode cX5_who 53 = .ok (.goto (-26), 3) := dk_167 255 230 (dk_at dksX5_who_2 5 rfl rfl)
theorem dX5_who_56 : decode cX5_who 56 = .ok (.iload_n 2, 1) := dk_28 (dk_at dksX5_who_2 8 rfl rfl)
theorem dX5_who_57 : decode cX5_who 57 = .ok (.ireturn, 1) := dk_172 (dk_at dksX5_who_2 9 rfl rfl)
abbrev cX5_feeds : ByteArray := prog_25_method_81_code
def yX5_feeds : MethodName := ⟨RX5, "feeds", "(II)I"⟩
def dkwX5_feeds_5 : List UInt8 := [16, 254, 172]
abbrev dktX5_feeds_5 : List UInt8 := dkwX5_feeds_5 ++ []
def dkwX5_feeds_4 : List UInt8 := [42, 180, 1, 108, 167, 0, 22, 28, 42, 180, 1, 102, 162, 0, 12, 42, 180, 0, 96, 28, 46, 167, 0, 5]
abbrev dktX5_feeds_4 : List UInt8 := dkwX5_feeds_4 ++ dktX5_feeds_5
def dkwX5_feeds_3 : List UInt8 := [184, 1, 78, 181, 1, 102, 42, 2, 181, 1, 108, 42, 27, 27, 3, 29, 3, 182, 1, 111, 28, 156, 0, 10]
abbrev dktX5_feeds_3 : List UInt8 := dkwX5_feeds_3 ++ dktX5_feeds_4
def dkwX5_feeds_2 : List UInt8 := [153, 0, 15, 29, 4, 42, 180, 0, 9, 21, 4, 46, 120, 128, 62, 132, 4, 1, 167, 255, 212, 42, 29]
abbrev dktX5_feeds_2 : List UInt8 := dkwX5_feeds_2 ++ dktX5_feeds_3
def dkwX5_feeds_1 : List UInt8 := [180, 0, 140, 162, 0, 41, 42, 21, 4, 42, 180, 0, 9, 21, 4, 46, 42, 180, 0, 153, 182, 1, 56]
abbrev dktX5_feeds_1 : List UInt8 := dkwX5_feeds_1 ++ dktX5_feeds_2
def dkwX5_feeds_0 : List UInt8 := [27, 184, 0, 150, 153, 0, 8, 28, 2, 162, 0, 5, 2, 172, 3, 62, 3, 54, 4, 21, 4, 42]
abbrev dktX5_feeds_0 : List UInt8 := dkwX5_feeds_0 ++ dktX5_feeds_1
theorem dksX5_feeds_0 : cX5_feeds.data.toList.drop 0 = dktX5_feeds_0 := by decide +kernel
theorem dksX5_feeds_1 : cX5_feeds.data.toList.drop 22 = dktX5_feeds_1 := dk_seg dksX5_feeds_0 22 rfl rfl
theorem dksX5_feeds_2 : cX5_feeds.data.toList.drop 45 = dktX5_feeds_2 := dk_seg dksX5_feeds_1 23 rfl rfl
theorem dksX5_feeds_3 : cX5_feeds.data.toList.drop 68 = dktX5_feeds_3 := dk_seg dksX5_feeds_2 23 rfl rfl
theorem dksX5_feeds_4 : cX5_feeds.data.toList.drop 92 = dktX5_feeds_4 := dk_seg dksX5_feeds_3 24 rfl rfl
theorem dksX5_feeds_5 : cX5_feeds.data.toList.drop 116 = dktX5_feeds_5 := dk_seg dksX5_feeds_4 24 rfl rfl
theorem dX5_feeds_0 : decode cX5_feeds 0 = .ok (.iload_n 1, 1) := dk_27 (dk_at dksX5_feeds_0 0 rfl rfl)
theorem dX5_feeds_1 : decode cX5_feeds 1 = .ok (.invokestatic 150, 3) := dk_184 0 150 (dk_at dksX5_feeds_0 1 rfl rfl)
theorem dX5_feeds_4 : decode cX5_feeds 4 = .ok (.ifCond .eq 8, 3) := dk_153 0 8 (dk_at dksX5_feeds_0 4 rfl rfl)
theorem dX5_feeds_7 : decode cX5_feeds 7 = .ok (.iload_n 2, 1) := dk_28 (dk_at dksX5_feeds_0 7 rfl rfl)
theorem dX5_feeds_8 : decode cX5_feeds 8 = .ok (.iconst (-1), 1) := dk_2 (dk_at dksX5_feeds_0 8 rfl rfl)
theorem dX5_feeds_9 : decode cX5_feeds 9 = .ok (.if_icmp .ge 5, 3) := dk_162 0 5 (dk_at dksX5_feeds_0 9 rfl rfl)
theorem dX5_feeds_12 : decode cX5_feeds 12 = .ok (.iconst (-1), 1) := dk_2 (dk_at dksX5_feeds_0 12 rfl rfl)
theorem dX5_feeds_13 : decode cX5_feeds 13 = .ok (.ireturn, 1) := dk_172 (dk_at dksX5_feeds_0 13 rfl rfl)
theorem dX5_feeds_14 : decode cX5_feeds 14 = .ok (.iconst 0, 1) := dk_3 (dk_at dksX5_feeds_0 14 rfl rfl)
theorem dX5_feeds_15 : decode cX5_feeds 15 = .ok (.istore_n 3, 1) := dk_62 (dk_at dksX5_feeds_0 15 rfl rfl)
theorem dX5_feeds_16 : decode cX5_feeds 16 = .ok (.iconst 0, 1) := dk_3 (dk_at dksX5_feeds_0 16 rfl rfl)
theorem dX5_feeds_17 : decode cX5_feeds 17 = .ok (.istore 4, 2) := dk_54 4 (dk_at dksX5_feeds_0 17 rfl rfl)
theorem dX5_feeds_19 : decode cX5_feeds 19 = .ok (.iload 4, 2) := dk_21 4 (dk_at dksX5_feeds_0 19 rfl rfl)
theorem dX5_feeds_21 : decode cX5_feeds 21 = .ok (.aload_n 0, 1) := dk_42 (dk_at dksX5_feeds_0 21 rfl rfl)
theorem dX5_feeds_22 : decode cX5_feeds 22 = .ok (.getfield 140, 3) := dk_180 0 140 (dk_at dksX5_feeds_1 0 rfl rfl)
theorem dX5_feeds_25 : decode cX5_feeds 25 = .ok (.if_icmp .ge 41, 3) := dk_162 0 41 (dk_at dksX5_feeds_1 3 rfl rfl)
theorem dX5_feeds_28 : decode cX5_feeds 28 = .ok (.aload_n 0, 1) := dk_42 (dk_at dksX5_feeds_1 6 rfl rfl)
theorem dX5_feeds_29 : decode cX5_feeds 29 = .ok (.iload 4, 2) := dk_21 4 (dk_at dksX5_feeds_1 7 rfl rfl)
theorem dX5_feeds_31 : decode cX5_feeds 31 = .ok (.aload_n 0, 1) := dk_42 (dk_at dksX5_feeds_1 9 rfl rfl)
theorem dX5_feeds_32 : decode cX5_feeds 32 = .ok (.getfield 9, 3) := dk_180 0 9 (dk_at dksX5_feeds_1 10 rfl rfl)
theorem dX5_feeds_35 : decode cX5_feeds 35 = .ok (.iload 4, 2) := dk_21 4 (dk_at dksX5_feeds_1 13 rfl rfl)
theorem dX5_feeds_37 : decode cX5_feeds 37 = .ok (.iaload, 1) := dk_46 (dk_at dksX5_feeds_1 15 rfl rfl)
theorem dX5_feeds_38 : decode cX5_feeds 38 = .ok (.aload_n 0, 1) := dk_42 (dk_at dksX5_feeds_1 16 rfl rfl)
theorem dX5_feeds_39 : decode cX5_feeds 39 = .ok (.getfield 153, 3) := dk_180 0 153 (dk_at dksX5_feeds_1 17 rfl rfl)
theorem dX5_feeds_42 : decode cX5_feeds 42 = .ok (.invokevirtual 312, 3) := dk_182 1 56 (dk_at dksX5_feeds_1 20 rfl rfl)
theorem dX5_feeds_45 : decode cX5_feeds 45 = .ok (.ifCond .eq 15, 3) := dk_153 0 15 (dk_at dksX5_feeds_2 0 rfl rfl)
theorem dX5_feeds_48 : decode cX5_feeds 48 = .ok (.iload_n 3, 1) := dk_29 (dk_at dksX5_feeds_2 3 rfl rfl)
theorem dX5_feeds_49 : decode cX5_feeds 49 = .ok (.iconst 1, 1) := dk_4 (dk_at dksX5_feeds_2 4 rfl rfl)
theorem dX5_feeds_50 : decode cX5_feeds 50 = .ok (.aload_n 0, 1) := dk_42 (dk_at dksX5_feeds_2 5 rfl rfl)
theorem dX5_feeds_51 : decode cX5_feeds 51 = .ok (.getfield 9, 3) := dk_180 0 9 (dk_at dksX5_feeds_2 6 rfl rfl)
theorem dX5_feeds_54 : decode cX5_feeds 54 = .ok (.iload 4, 2) := dk_21 4 (dk_at dksX5_feeds_2 9 rfl rfl)
theorem dX5_feeds_56 : decode cX5_feeds 56 = .ok (.iaload, 1) := dk_46 (dk_at dksX5_feeds_2 11 rfl rfl)
theorem dX5_feeds_57 : decode cX5_feeds 57 = .ok (.ishl, 1) := dk_120 (dk_at dksX5_feeds_2 12 rfl rfl)
theorem dX5_feeds_58 : decode cX5_feeds 58 = .ok (.ior, 1) := dk_128 (dk_at dksX5_feeds_2 13 rfl rfl)
theorem dX5_feeds_59 : decode cX5_feeds 59 = .ok (.istore_n 3, 1) := dk_62 (dk_at dksX5_feeds_2 14 rfl rfl)
theorem dX5_feeds_60 : decode cX5_feeds 60 = .ok (.iinc 4 1, 3) := dk_132 4 1 (dk_at dksX5_feeds_2 15 rfl rfl)
theorem dX5_feeds_63 : decode cX5_feeds 63 = .ok (.goto (-44), 3) := dk_167 255 212 (dk_at dksX5_feeds_2 18 rfl rfl)
theorem dX5_feeds_66 : decode cX5_feeds 66 = .ok (.aload_n 0, 1) := dk_42 (dk_at dksX5_feeds_2 21 rfl rfl)
theorem dX5_feeds_67 : decode cX5_feeds 67 = .ok (.iload_n 3, 1) := dk_29 (dk_at dksX5_feeds_2 22 rfl rfl)
theorem dX5_feeds_68 : decode cX5_feeds 68 = .ok (.invokestatic 334, 3) := dk_184 1 78 (dk_at dksX5_feeds_3 0 rfl rfl)
theorem dX5_feeds_71 : decode cX5_feeds 71 = .ok (.putfield 358, 3) := dk_181 1 102 (dk_at dksX5_feeds_3 3 rfl rfl)
theorem dX5_feeds_74 : decode cX5_feeds 74 = .ok (.aload_n 0, 1) := dk_42 (dk_at dksX5_feeds_3 6 rfl rfl)
theorem dX5_feeds_75 : decode cX5_feeds 75 = .ok (.iconst (-1), 1) := dk_2 (dk_at dksX5_feeds_3 7 rfl rfl)
theorem dX5_feeds_76 : decode cX5_feeds 76 = .ok (.putfield 364, 3) := dk_181 1 108 (dk_at dksX5_feeds_3 8 rfl rfl)
theorem dX5_feeds_79 : decode cX5_feeds 79 = .ok (.aload_n 0, 1) := dk_42 (dk_at dksX5_feeds_3 11 rfl rfl)
theorem dX5_feeds_80 : decode cX5_feeds 80 = .ok (.iload_n 1, 1) := dk_27 (dk_at dksX5_feeds_3 12 rfl rfl)
theorem dX5_feeds_81 : decode cX5_feeds 81 = .ok (.iload_n 1, 1) := dk_27 (dk_at dksX5_feeds_3 13 rfl rfl)
theorem dX5_feeds_82 : decode cX5_feeds 82 = .ok (.iconst 0, 1) := dk_3 (dk_at dksX5_feeds_3 14 rfl rfl)
theorem dX5_feeds_83 : decode cX5_feeds 83 = .ok (.iload_n 3, 1) := dk_29 (dk_at dksX5_feeds_3 15 rfl rfl)
theorem dX5_feeds_84 : decode cX5_feeds 84 = .ok (.iconst 0, 1) := dk_3 (dk_at dksX5_feeds_3 16 rfl rfl)
theorem dX5_feeds_85 : decode cX5_feeds 85 = .ok (.invokevirtual 367, 3) := dk_182 1 111 (dk_at dksX5_feeds_3 17 rfl rfl)
theorem dX5_feeds_88 : decode cX5_feeds 88 = .ok (.iload_n 2, 1) := dk_28 (dk_at dksX5_feeds_3 20 rfl rfl)
theorem dX5_feeds_89 : decode cX5_feeds 89 = .ok (.ifCond .ge 10, 3) := dk_156 0 10 (dk_at dksX5_feeds_3 21 rfl rfl)
theorem dX5_feeds_92 : decode cX5_feeds 92 = .ok (.aload_n 0, 1) := dk_42 (dk_at dksX5_feeds_4 0 rfl rfl)
theorem dX5_feeds_93 : decode cX5_feeds 93 = .ok (.getfield 364, 3) := dk_180 1 108 (dk_at dksX5_feeds_4 1 rfl rfl)
theorem dX5_feeds_96 : decode cX5_feeds 96 = .ok (.goto 22, 3) := dk_167 0 22 (dk_at dksX5_feeds_4 4 rfl rfl)
theorem dX5_feeds_99 : decode cX5_feeds 99 = .ok (.iload_n 2, 1) := dk_28 (dk_at dksX5_feeds_4 7 rfl rfl)
theorem dX5_feeds_100 : decode cX5_feeds 100 = .ok (.aload_n 0, 1) := dk_42 (dk_at dksX5_feeds_4 8 rfl rfl)
theorem dX5_feeds_101 : decode cX5_feeds 101 = .ok (.getfield 358, 3) := dk_180 1 102 (dk_at dksX5_feeds_4 9 rfl rfl)
theorem dX5_feeds_104 : decode cX5_feeds 104 = .ok (.if_icmp .ge 12, 3) := dk_162 0 12 (dk_at dksX5_feeds_4 12 rfl rfl)
theorem dX5_feeds_107 : decode cX5_feeds 107 = .ok (.aload_n 0, 1) := dk_42 (dk_at dksX5_feeds_4 15 rfl rfl)
theorem dX5_feeds_108 : decode cX5_feeds 108 = .ok (.getfield 96, 3) := dk_180 0 96 (dk_at dksX5_feeds_4 16 rfl rfl)
theorem dX5_feeds_111 : decode cX5_feeds 111 = .ok (.iload_n 2, 1) := dk_28 (dk_at dksX5_feeds_4 19 rfl rfl)
theorem dX5_feeds_112 : decode cX5_feeds 112 = .ok (.iaload, 1) := dk_46 (dk_at dksX5_feeds_4 20 rfl rfl)
theorem dX5_feeds_113 : decode cX5_feeds 113 = .ok (.goto 5, 3) := dk_167 0 5 (dk_at dksX5_feeds_4 21 rfl rfl)
theorem dX5_feeds_116 : decode cX5_feeds 116 = .ok (.bipush (-2), 2) := dk_16 254 (dk_at dksX5_feeds_5 0 rfl rfl)
theorem dX5_feeds_118 : decode cX5_feeds 118 = .ok (.ireturn, 1) := dk_172 (dk_at dksX5_feeds_5 2 rfl rfl)
abbrev cX5_goRound : ByteArray := prog_25_method_80_code
def yX5_goRound : MethodName := ⟨RX5, "goRound", "(IIIII)V"⟩
def dkwX5_goRound_5 : List UInt8 := [21, 5, 28, 21, 6, 184, 1, 105, 96, 182, 1, 111, 132, 6, 1, 167, 255, 197, 177]
abbrev dktX5_goRound_5 : List UInt8 := dkwX5_goRound_5 ++ []
def dkwX5_goRound_4 : List UInt8 := [42, 180, 0, 93, 29, 21, 6, 79, 42, 27, 21, 6, 29, 4, 96, 21, 4, 4, 21, 6, 120, 2, 130, 126]
abbrev dktX5_goRound_4 : List UInt8 := dkwX5_goRound_4 ++ dktX5_goRound_5
def dkwX5_goRound_3 : List UInt8 := [177, 3, 54, 6, 21, 6, 16, 25, 162, 0, 58, 21, 4, 21, 6, 184, 1, 35, 154, 0, 6, 167, 0, 39]
abbrev dktX5_goRound_3 : List UInt8 := dkwX5_goRound_3 ++ dktX5_goRound_4
def dkwX5_goRound_2 : List UInt8 := [29, 162, 0, 23, 42, 180, 0, 96, 21, 7, 42, 180, 0, 93, 21, 7, 46, 79, 132, 7, 1, 167, 255, 233]
abbrev dktX5_goRound_2 : List UInt8 := dkwX5_goRound_2 ++ dktX5_goRound_3
def dkwX5_goRound_1 : List UInt8 := [155, 0, 13, 21, 6, 42, 180, 1, 108, 161, 0, 4, 177, 42, 21, 6, 181, 1, 108, 3, 54, 7, 21, 7]
abbrev dktX5_goRound_1 : List UInt8 := dkwX5_goRound_1 ++ dktX5_goRound_2
def dkwX5_goRound_0 : List UInt8 := [29, 42, 180, 1, 102, 160, 0, 66, 21, 5, 28, 27, 184, 1, 105, 96, 54, 6, 42, 180, 1, 108]
abbrev dktX5_goRound_0 : List UInt8 := dkwX5_goRound_0 ++ dktX5_goRound_1
theorem dksX5_goRound_0 : cX5_goRound.data.toList.drop 0 = dktX5_goRound_0 := by decide +kernel
theorem dksX5_goRound_1 : cX5_goRound.data.toList.drop 22 = dktX5_goRound_1 := dk_seg dksX5_goRound_0 22 rfl rfl
theorem dksX5_goRound_2 : cX5_goRound.data.toList.drop 46 = dktX5_goRound_2 := dk_seg dksX5_goRound_1 24 rfl rfl
theorem dksX5_goRound_3 : cX5_goRound.data.toList.drop 70 = dktX5_goRound_3 := dk_seg dksX5_goRound_2 24 rfl rfl
theorem dksX5_goRound_4 : cX5_goRound.data.toList.drop 94 = dktX5_goRound_4 := dk_seg dksX5_goRound_3 24 rfl rfl
theorem dksX5_goRound_5 : cX5_goRound.data.toList.drop 118 = dktX5_goRound_5 := dk_seg dksX5_goRound_4 24 rfl rfl
theorem dX5_goRound_0 : decode cX5_goRound 0 = .ok (.iload_n 3, 1) := dk_29 (dk_at dksX5_goRound_0 0 rfl rfl)
theorem dX5_goRound_1 : decode cX5_goRound 1 = .ok (.aload_n 0, 1) := dk_42 (dk_at dksX5_goRound_0 1 rfl rfl)
theorem dX5_goRound_2 : decode cX5_goRound 2 = .ok (.getfield 358, 3) := dk_180 1 102 (dk_at dksX5_goRound_0 2 rfl rfl)
theorem dX5_goRound_5 : decode cX5_goRound 5 = .ok (.if_icmp .ne 66, 3) := dk_160 0 66 (dk_at dksX5_goRound_0 5 rfl rfl)
theorem dX5_goRound_8 : decode cX5_goRound 8 = .ok (.iload 5, 2) := dk_21 5 (dk_at dksX5_goRound_0 8 rfl rfl)
theorem dX5_goRound_10 : decode cX5_goRound 10 = .ok (.iload_n 2, 1) := dk_28 (dk_at dksX5_goRound_0 10 rfl rfl)
theorem dX5_goRound_11 : decode cX5_goRound 11 = .ok (.iload_n 1, 1) := dk_27 (dk_at dksX5_goRound_0 11 rfl rfl)
theorem dX5_goRound_12 : decode cX5_goRound 12 = .ok (.invokestatic 361, 3) := dk_184 1 105 (dk_at dksX5_goRound_0 12 rfl rfl)
theorem dX5_goRound_15 : decode cX5_goRound 15 = .ok (.iadd, 1) := dk_96 (dk_at dksX5_goRound_0 15 rfl rfl)
theorem dX5_goRound_16 : decode cX5_goRound 16 = .ok (.istore 6, 2) := dk_54 6 (dk_at dksX5_goRound_0 16 rfl rfl)
theorem dX5_goRound_18 : decode cX5_goRound 18 = .ok (.aload_n 0, 1) := dk_42 (dk_at dksX5_goRound_0 18 rfl rfl)
theorem dX5_goRound_19 : decode cX5_goRound 19 = .ok (.getfield 364, 3) := dk_180 1 108 (dk_at dksX5_goRound_0 19 rfl rfl)
theorem dX5_goRound_22 : decode cX5_goRound 22 = .ok (.ifCond .lt 13, 3) := dk_155 0 13 (dk_at dksX5_goRound_1 0 rfl rfl)
theorem dX5_goRound_25 : decode cX5_goRound 25 = .ok (.iload 6, 2) := dk_21 6 (dk_at dksX5_goRound_1 3 rfl rfl)
theorem dX5_goRound_27 : decode cX5_goRound 27 = .ok (.aload_n 0, 1) := dk_42 (dk_at dksX5_goRound_1 5 rfl rfl)
theorem dX5_goRound_28 : decode cX5_goRound 28 = .ok (.getfield 364, 3) := dk_180 1 108 (dk_at dksX5_goRound_1 6 rfl rfl)
theorem dX5_goRound_31 : decode cX5_goRound 31 = .ok (.if_icmp .lt 4, 3) := dk_161 0 4 (dk_at dksX5_goRound_1 9 rfl rfl)
theorem dX5_goRound_34 : decode cX5_goRound 34 = .ok (.return_, 1) := dk_177 (dk_at dksX5_goRound_1 12 rfl rfl)
theorem dX5_goRound_35 : decode cX5_goRound 35 = .ok (.aload_n 0, 1) := dk_42 (dk_at dksX5_goRound_1 13 rfl rfl)
theorem dX5_goRound_36 : decode cX5_goRound 36 = .ok (.iload 6, 2) := dk_21 6 (dk_at dksX5_goRound_1 14 rfl rfl)
theorem dX5_goRound_38 : decode cX5_goRound 38 = .ok (.putfield 364, 3) := dk_181 1 108 (dk_at dksX5_goRound_1 16 rfl rfl)
theorem dX5_goRound_41 : decode cX5_goRound 41 = .ok (.iconst 0, 1) := dk_3 (dk_at dksX5_goRound_1 19 rfl rfl)
theorem dX5_goRound_42 : decode cX5_goRound 42 = .ok (.istore 7, 2) := dk_54 7 (dk_at dksX5_goRound_1 20 rfl rfl)
theorem dX5_goRound_44 : decode cX5_goRound 44 = .ok (.iload 7, 2) := dk_21 7 (dk_at dksX5_goRound_1 22 rfl rfl)
theorem dX5_goRound_46 : decode cX5_goRound 46 = .ok (.iload_n 3, 1) := dk_29 (dk_at dksX5_goRound_2 0 rfl rfl)
theorem dX5_goRound_47 : decode cX5_goRound 47 = .ok (.if_icmp .ge 23, 3) := dk_162 0 23 (dk_at dksX5_goRound_2 1 rfl rfl)
theorem dX5_goRound_50 : decode cX5_goRound 50 = .ok (.aload_n 0, 1) := dk_42 (dk_at dksX5_goRound_2 4 rfl rfl)
theorem dX5_goRound_51 : decode cX5_goRound 51 = .ok (.getfield 96, 3) := dk_180 0 96 (dk_at dksX5_goRound_2 5 rfl rfl)
theorem dX5_goRound_54 : decode cX5_goRound 54 = .ok (.iload 7, 2) := dk_21 7 (dk_at dksX5_goRound_2 8 rfl rfl)
theorem dX5_goRound_56 : decode cX5_goRound 56 = .ok (.aload_n 0, 1) := dk_42 (dk_at dksX5_goRound_2 10 rfl rfl)
theorem dX5_goRound_57 : decode cX5_goRound 57 = .ok (.getfield 93, 3) := dk_180 0 93 (dk_at dksX5_goRound_2 11 rfl rfl)
theorem dX5_goRound_60 : decode cX5_goRound 60 = .ok (.iload 7, 2) := dk_21 7 (dk_at dksX5_goRound_2 14 rfl rfl)
theorem dX5_goRound_62 : decode cX5_goRound 62 = .ok (.iaload, 1) := dk_46 (dk_at dksX5_goRound_2 16 rfl rfl)
theorem dX5_goRound_63 : decode cX5_goRound 63 = .ok (.iastore, 1) := dk_79 (dk_at dksX5_goRound_2 17 rfl rfl)
theorem dX5_goRound_64 : decode cX5_goRound 64 = .ok (.iinc 7 1, 3) := dk_132 7 1 (dk_at dksX5_goRound_2 18 rfl rfl)
theorem dX5_goRound_67 : decode cX5_goRound 67 = .ok (.goto (-23), 3) := dk_167 255 233 (dk_at dksX5_goRound_2 21 rfl rfl)
theorem dX5_goRound_70 : decode cX5_goRound 70 = .ok (.return_, 1) := dk_177 (dk_at dksX5_goRound_3 0 rfl rfl)
theorem dX5_goRound_71 : decode cX5_goRound 71 = .ok (.iconst 0, 1) := dk_3 (dk_at dksX5_goRound_3 1 rfl rfl)
theorem dX5_goRound_72 : decode cX5_goRound 72 = .ok (.istore 6, 2) := dk_54 6 (dk_at dksX5_goRound_3 2 rfl rfl)
theorem dX5_goRound_74 : decode cX5_goRound 74 = .ok (.iload 6, 2) := dk_21 6 (dk_at dksX5_goRound_3 4 rfl rfl)
theorem dX5_goRound_76 : decode cX5_goRound 76 = .ok (.bipush 25, 2) := dk_16 25 (dk_at dksX5_goRound_3 6 rfl rfl)
theorem dX5_goRound_78 : decode cX5_goRound 78 = .ok (.if_icmp .ge 58, 3) := dk_162 0 58 (dk_at dksX5_goRound_3 8 rfl rfl)
theorem dX5_goRound_81 : decode cX5_goRound 81 = .ok (.iload 4, 2) := dk_21 4 (dk_at dksX5_goRound_3 11 rfl rfl)
theorem dX5_goRound_83 : decode cX5_goRound 83 = .ok (.iload 6, 2) := dk_21 6 (dk_at dksX5_goRound_3 13 rfl rfl)
theorem dX5_goRound_85 : decode cX5_goRound 85 = .ok (.invokestatic 291, 3) := dk_184 1 35 (dk_at dksX5_goRound_3 15 rfl rfl)
theorem dX5_goRound_88 : decode cX5_goRound 88 = .ok (.ifCond .ne 6, 3) := dk_154 0 6 (dk_at dksX5_goRound_3 18 rfl rfl)
theorem dX5_goRound_91 : decode cX5_goRound 91 = .ok (.goto 39, 3) := dk_167 0 39 (dk_at dksX5_goRound_3 21 rfl rfl)
theorem dX5_goRound_94 : decode cX5_goRound 94 = .ok (.aload_n 0, 1) := dk_42 (dk_at dksX5_goRound_4 0 rfl rfl)
theorem dX5_goRound_95 : decode cX5_goRound 95 = .ok (.getfield 93, 3) := dk_180 0 93 (dk_at dksX5_goRound_4 1 rfl rfl)
theorem dX5_goRound_98 : decode cX5_goRound 98 = .ok (.iload_n 3, 1) := dk_29 (dk_at dksX5_goRound_4 4 rfl rfl)
theorem dX5_goRound_99 : decode cX5_goRound 99 = .ok (.iload 6, 2) := dk_21 6 (dk_at dksX5_goRound_4 5 rfl rfl)
theorem dX5_goRound_101 : decode cX5_goRound 101 = .ok (.iastore, 1) := dk_79 (dk_at dksX5_goRound_4 7 rfl rfl)
theorem dX5_goRound_102 : decode cX5_goRound 102 = .ok (.aload_n 0, 1) := dk_42 (dk_at dksX5_goRound_4 8 rfl rfl)
theorem dX5_goRound_103 : decode cX5_goRound 103 = .ok (.iload_n 1, 1) := dk_27 (dk_at dksX5_goRound_4 9 rfl rfl)
theorem dX5_goRound_104 : decode cX5_goRound 104 = .ok (.iload 6, 2) := dk_21 6 (dk_at dksX5_goRound_4 10 rfl rfl)
theorem dX5_goRound_106 : decode cX5_goRound 106 = .ok (.iload_n 3, 1) := dk_29 (dk_at dksX5_goRound_4 12 rfl rfl)
theorem dX5_goRound_107 : decode cX5_goRound 107 = .ok (.iconst 1, 1) := dk_4 (dk_at dksX5_goRound_4 13 rfl rfl)
theorem dX5_goRound_108 : decode cX5_goRound 108 = .ok (.iadd, 1) := dk_96 (dk_at dksX5_goRound_4 14 rfl rfl)
theorem dX5_goRound_109 : decode cX5_goRound 109 = .ok (.iload 4, 2) := dk_21 4 (dk_at dksX5_goRound_4 15 rfl rfl)
theorem dX5_goRound_111 : decode cX5_goRound 111 = .ok (.iconst 1, 1) := dk_4 (dk_at dksX5_goRound_4 17 rfl rfl)
theorem dX5_goRound_112 : decode cX5_goRound 112 = .ok (.iload 6, 2) := dk_21 6 (dk_at dksX5_goRound_4 18 rfl rfl)
theorem dX5_goRound_114 : decode cX5_goRound 114 = .ok (.ishl, 1) := dk_120 (dk_at dksX5_goRound_4 20 rfl rfl)
theorem dX5_goRound_115 : decode cX5_goRound 115 = .ok (.iconst (-1), 1) := dk_2 (dk_at dksX5_goRound_4 21 rfl rfl)
theorem dX5_goRound_116 : decode cX5_goRound 116 = .ok (.ixor, 1) := dk_130 (dk_at dksX5_goRound_4 22 rfl rfl)
theorem dX5_goRound_117 : decode cX5_goRound 117 = .ok (.iand, 1) := dk_126 (dk_at dksX5_goRound_4 23 rfl rfl)
theorem dX5_goRound_118 : decode cX5_goRound 118 = .ok (.iload 5, 2) := dk_21 5 (dk_at dksX5_goRound_5 0 rfl rfl)
theorem dX5_goRound_120 : decode cX5_goRound 120 = .ok (.iload_n 2, 1) := dk_28 (dk_at dksX5_goRound_5 2 rfl rfl)
theorem dX5_goRound_121 : decode cX5_goRound 121 = .ok (.iload 6, 2) := dk_21 6 (dk_at dksX5_goRound_5 3 rfl rfl)
theorem dX5_goRound_123 : decode cX5_goRound 123 = .ok (.invokestatic 361, 3) := dk_184 1 105 (dk_at dksX5_goRound_5 5 rfl rfl)
theorem dX5_goRound_126 : decode cX5_goRound 126 = .ok (.iadd, 1) := dk_96 (dk_at dksX5_goRound_5 8 rfl rfl)
theorem dX5_goRound_127 : decode cX5_goRound 127 = .ok (.invokevirtual 367, 3) := dk_182 1 111 (dk_at dksX5_goRound_5 9 rfl rfl)
theorem dX5_goRound_130 : decode cX5_goRound 130 = .ok (.iinc 6 1, 3) := dk_132 6 1 (dk_at dksX5_goRound_5 12 rfl rfl)
theorem dX5_goRound_133 : decode cX5_goRound 133 = .ok (.goto (-59), 3) := dk_167 255 197 (dk_at dksX5_goRound_5 15 rfl rfl)
theorem dX5_goRound_136 : decode cX5_goRound 136 = .ok (.return_, 1) := dk_177 (dk_at dksX5_goRound_5 18 rfl rfl)
abbrev cX5_farOf : ByteArray := prog_25_method_79_code
def yX5_farOf : MethodName := ⟨RX5, "farOf", "(II)I"⟩
def dkwX5_farOf_1 : List UInt8 := [167, 0, 4, 28, 29, 156, 0, 8, 29, 116, 167, 0, 4, 29, 96, 172]
abbrev dktX5_farOf_1 : List UInt8 := dkwX5_farOf_1 ++ []
def dkwX5_farOf_0 : List UInt8 := [26, 8, 112, 27, 8, 112, 100, 61, 26, 8, 108, 27, 8, 108, 100, 62, 28, 156, 0, 8, 28, 116]
abbrev dktX5_farOf_0 : List UInt8 := dkwX5_farOf_0 ++ dktX5_farOf_1
theorem dksX5_farOf_0 : cX5_farOf.data.toList.drop 0 = dktX5_farOf_0 := by decide +kernel
theorem dksX5_farOf_1 : cX5_farOf.data.toList.drop 22 = dktX5_farOf_1 := dk_seg dksX5_farOf_0 22 rfl rfl
theorem dX5_farOf_0 : decode cX5_farOf 0 = .ok (.iload_n 0, 1) := dk_26 (dk_at dksX5_farOf_0 0 rfl rfl)
theorem dX5_farOf_1 : decode cX5_farOf 1 = .ok (.iconst 5, 1) := dk_8 (dk_at dksX5_farOf_0 1 rfl rfl)
theorem dX5_farOf_2 : decode cX5_farOf 2 = .ok (.irem, 1) := dk_112 (dk_at dksX5_farOf_0 2 rfl rfl)
theorem dX5_farOf_3 : decode cX5_farOf 3 = .ok (.iload_n 1, 1) := dk_27 (dk_at dksX5_farOf_0 3 rfl rfl)
theorem dX5_farOf_4 : decode cX5_farOf 4 = .ok (.iconst 5, 1) := dk_8 (dk_at dksX5_farOf_0 4 rfl rfl)
theorem dX5_farOf_5 : decode cX5_farOf 5 = .ok (.irem, 1) := dk_112 (dk_at dksX5_farOf_0 5 rfl rfl)
theorem dX5_farOf_6 : decode cX5_farOf 6 = .ok (.isub, 1) := dk_100 (dk_at dksX5_farOf_0 6 rfl rfl)
theorem dX5_farOf_7 : decode cX5_farOf 7 = .ok (.istore_n 2, 1) := dk_61 (dk_at dksX5_farOf_0 7 rfl rfl)
theorem dX5_farOf_8 : decode cX5_farOf 8 = .ok (.iload_n 0, 1) := dk_26 (dk_at dksX5_farOf_0 8 rfl rfl)
theorem dX5_farOf_9 : decode cX5_farOf 9 = .ok (.iconst 5, 1) := dk_8 (dk_at dksX5_farOf_0 9 rfl rfl)
theorem dX5_farOf_10 : decode cX5_farOf 10 = .ok (.idiv, 1) := dk_108 (dk_at dksX5_farOf_0 10 rfl rfl)
theorem dX5_farOf_11 : decode cX5_farOf 11 = .ok (.iload_n 1, 1) := dk_27 (dk_at dksX5_farOf_0 11 rfl rfl)
theorem dX5_farOf_12 : decode cX5_farOf 12 = .ok (.iconst 5, 1) := dk_8 (dk_at dksX5_farOf_0 12 rfl rfl)
theorem dX5_farOf_13 : decode cX5_farOf 13 = .ok (.idiv, 1) := dk_108 (dk_at dksX5_farOf_0 13 rfl rfl)
theorem dX5_farOf_14 : decode cX5_farOf 14 = .ok (.isub, 1) := dk_100 (dk_at dksX5_farOf_0 14 rfl rfl)
theorem dX5_farOf_15 : decode cX5_farOf 15 = .ok (.istore_n 3, 1) := dk_62 (dk_at dksX5_farOf_0 15 rfl rfl)
theorem dX5_farOf_16 : decode cX5_farOf 16 = .ok (.iload_n 2, 1) := dk_28 (dk_at dksX5_farOf_0 16 rfl rfl)
theorem dX5_farOf_17 : decode cX5_farOf 17 = .ok (.ifCond .ge 8, 3) := dk_156 0 8 (dk_at dksX5_farOf_0 17 rfl rfl)
theorem dX5_farOf_20 : decode cX5_farOf 20 = .ok (.iload_n 2, 1) := dk_28 (dk_at dksX5_farOf_0 20 rfl rfl)
theorem dX5_farOf_21 : decode cX5_farOf 21 = .ok (.ineg, 1) := dk_116 (dk_at dksX5_farOf_0 21 rfl rfl)
theorem dX5_farOf_22 : decode cX5_farOf 22 = .ok (.goto 4, 3) := dk_167 0 4 (dk_at dksX5_farOf_1 0 rfl rfl)
theorem dX5_farOf_25 : decode cX5_farOf 25 = .ok (.iload_n 2, 1) := dk_28 (dk_at dksX5_farOf_1 3 rfl rfl)
theorem dX5_farOf_26 : decode cX5_farOf 26 = .ok (.iload_n 3, 1) := dk_29 (dk_at dksX5_farOf_1 4 rfl rfl)
theorem dX5_farOf_27 : decode cX5_farOf 27 = .ok (.ifCond .ge 8, 3) := dk_156 0 8 (dk_at dksX5_farOf_1 5 rfl rfl)
theorem dX5_farOf_30 : decode cX5_farOf 30 = .ok (.iload_n 3, 1) := dk_29 (dk_at dksX5_farOf_1 8 rfl rfl)
theorem dX5_farOf_31 : decode cX5_farOf 31 = .ok (.ineg, 1) := dk_116 (dk_at dksX5_farOf_1 9 rfl rfl)
theorem dX5_farOf_32 : decode cX5_farOf 32 = .ok (.goto 4, 3) := dk_167 0 4 (dk_at dksX5_farOf_1 10 rfl rfl)
theorem dX5_farOf_35 : decode cX5_farOf 35 = .ok (.iload_n 3, 1) := dk_29 (dk_at dksX5_farOf_1 13 rfl rfl)
theorem dX5_farOf_36 : decode cX5_farOf 36 = .ok (.iadd, 1) := dk_96 (dk_at dksX5_farOf_1 14 rfl rfl)
theorem dX5_farOf_37 : decode cX5_farOf 37 = .ok (.ireturn, 1) := dk_172 (dk_at dksX5_farOf_1 15 rfl rfl)
abbrev cX5_odds : ByteArray := prog_25_method_84_code
def yX5_odds : MethodName := ⟨RX5, "odds", "(II)J"⟩
def dkwX5_odds_2 : List UInt8 := [180, 1, 114, 28, 184, 1, 126, 173]
abbrev dktX5_odds_2 : List UInt8 := dkwX5_odds_2 ++ []
def dkwX5_odds_1 : List UInt8 := [181, 1, 118, 42, 9, 181, 1, 114, 42, 27, 42, 27, 182, 1, 75, 3, 182, 1, 121, 42, 180, 1, 118, 42]
abbrev dktX5_odds_1 : List UInt8 := dkwX5_odds_1 ++ dktX5_odds_2
def dkwX5_odds_0 : List UInt8 := [42, 27, 182, 0, 146, 153, 0, 12, 28, 3, 4, 184, 0, 136, 154, 0, 7, 20, 1, 124, 173, 42, 9]
abbrev dktX5_odds_0 : List UInt8 := dkwX5_odds_0 ++ dktX5_odds_1
theorem dksX5_odds_0 : cX5_odds.data.toList.drop 0 = dktX5_odds_0 := by decide +kernel
theorem dksX5_odds_1 : cX5_odds.data.toList.drop 23 = dktX5_odds_1 := dk_seg dksX5_odds_0 23 rfl rfl
theorem dksX5_odds_2 : cX5_odds.data.toList.drop 47 = dktX5_odds_2 := dk_seg dksX5_odds_1 24 rfl rfl
theorem dX5_odds_0 : decode cX5_odds 0 = .ok (.aload_n 0, 1) := dk_42 (dk_at dksX5_odds_0 0 rfl rfl)
theorem dX5_odds_1 : decode cX5_odds 1 = .ok (.iload_n 1, 1) := dk_27 (dk_at dksX5_odds_0 1 rfl rfl)
theorem dX5_odds_2 : decode cX5_odds 2 = .ok (.invokevirtual 146, 3) := dk_182 0 146 (dk_at dksX5_odds_0 2 rfl rfl)
theorem dX5_odds_5 : decode cX5_odds 5 = .ok (.ifCond .eq 12, 3) := dk_153 0 12 (dk_at dksX5_odds_0 5 rfl rfl)
theorem dX5_odds_8 : decode cX5_odds 8 = .ok (.iload_n 2, 1) := dk_28 (dk_at dksX5_odds_0 8 rfl rfl)
theorem dX5_odds_9 : decode cX5_odds 9 = .ok (.iconst 0, 1) := dk_3 (dk_at dksX5_odds_0 9 rfl rfl)
theorem dX5_odds_10 : decode cX5_odds 10 = .ok (.iconst 1, 1) := dk_4 (dk_at dksX5_odds_0 10 rfl rfl)
theorem dX5_odds_11 : decode cX5_odds 11 = .ok (.invokestatic 136, 3) := dk_184 0 136 (dk_at dksX5_odds_0 11 rfl rfl)
theorem dX5_odds_14 : decode cX5_odds 14 = .ok (.ifCond .ne 7, 3) := dk_154 0 7 (dk_at dksX5_odds_0 14 rfl rfl)
theorem dX5_odds_17 : decode cX5_odds 17 = .ok (.ldc2_w 380, 3) := dk_20 1 124 (dk_at dksX5_odds_0 17 rfl rfl)
theorem dX5_odds_20 : decode cX5_odds 20 = .ok (.lreturn, 1) := dk_173 (dk_at dksX5_odds_0 20 rfl rfl)
theorem dX5_odds_21 : decode cX5_odds 21 = .ok (.aload_n 0, 1) := dk_42 (dk_at dksX5_odds_0 21 rfl rfl)
theorem dX5_odds_22 : decode cX5_odds 22 = .ok (.lconst 0, 1) := dk_9 (dk_at dksX5_odds_0 22 rfl rfl)
theorem dX5_odds_23 : decode cX5_odds 23 = .ok (.putfield 374, 3) := dk_181 1 118 (dk_at dksX5_odds_1 0 rfl rfl)
theorem dX5_odds_26 : decode cX5_odds 26 = .ok (.aload_n 0, 1) := dk_42 (dk_at dksX5_odds_1 3 rfl rfl)
theorem dX5_odds_27 : decode cX5_odds 27 = .ok (.lconst 0, 1) := dk_9 (dk_at dksX5_odds_1 4 rfl rfl)
theorem dX5_odds_28 : decode cX5_odds 28 = .ok (.putfield 370, 3) := dk_181 1 114 (dk_at dksX5_odds_1 5 rfl rfl)
theorem dX5_odds_31 : decode cX5_odds 31 = .ok (.aload_n 0, 1) := dk_42 (dk_at dksX5_odds_1 8 rfl rfl)
theorem dX5_odds_32 : decode cX5_odds 32 = .ok (.iload_n 1, 1) := dk_27 (dk_at dksX5_odds_1 9 rfl rfl)
theorem dX5_odds_33 : decode cX5_odds 33 = .ok (.aload_n 0, 1) := dk_42 (dk_at dksX5_odds_1 10 rfl rfl)
theorem dX5_odds_34 : decode cX5_odds 34 = .ok (.iload_n 1, 1) := dk_27 (dk_at dksX5_odds_1 11 rfl rfl)
theorem dX5_odds_35 : decode cX5_odds 35 = .ok (.invokevirtual 331, 3) := dk_182 1 75 (dk_at dksX5_odds_1 12 rfl rfl)
theorem dX5_odds_38 : decode cX5_odds 38 = .ok (.iconst 0, 1) := dk_3 (dk_at dksX5_odds_1 15 rfl rfl)
theorem dX5_odds_39 : decode cX5_odds 39 = .ok (.invokevirtual 377, 3) := dk_182 1 121 (dk_at dksX5_odds_1 16 rfl rfl)
theorem dX5_odds_42 : decode cX5_odds 42 = .ok (.aload_n 0, 1) := dk_42 (dk_at dksX5_odds_1 19 rfl rfl)
theorem dX5_odds_43 : decode cX5_odds 43 = .ok (.getfield 374, 3) := dk_180 1 118 (dk_at dksX5_odds_1 20 rfl rfl)
theorem dX5_odds_46 : decode cX5_odds 46 = .ok (.aload_n 0, 1) := dk_42 (dk_at dksX5_odds_1 23 rfl rfl)
theorem dX5_odds_47 : decode cX5_odds 47 = .ok (.getfield 370, 3) := dk_180 1 114 (dk_at dksX5_odds_2 0 rfl rfl)
theorem dX5_odds_50 : decode cX5_odds 50 = .ok (.iload_n 2, 1) := dk_28 (dk_at dksX5_odds_2 3 rfl rfl)
theorem dX5_odds_51 : decode cX5_odds 51 = .ok (.invokestatic 382, 3) := dk_184 1 126 (dk_at dksX5_odds_2 4 rfl rfl)
theorem dX5_odds_54 : decode cX5_odds 54 = .ok (.lreturn, 1) := dk_173 (dk_at dksX5_odds_2 7 rfl rfl)
abbrev cX5_goForgot : ByteArray := prog_25_method_82_code
def yX5_goForgot : MethodName := ⟨RX5, "goForgot", "(III)V"⟩
def dkwX5_goForgot_4 : List UInt8 := [79, 42, 27, 28, 29, 4, 96, 182, 1, 121, 42, 180, 0, 36, 29, 21, 4, 79, 177]
abbrev dktX5_goForgot_4 : List UInt8 := dkwX5_goForgot_4 ++ []
def dkwX5_goForgot_3 : List UInt8 := [54, 4, 42, 180, 0, 36, 29, 3, 79, 42, 27, 28, 29, 4, 96, 182, 1, 121, 42, 180, 0, 36, 29, 4]
abbrev dktX5_goForgot_3 : List UInt8 := dkwX5_goForgot_3 ++ dktX5_goForgot_4
def dkwX5_goForgot_2 : List UInt8 := [29, 184, 1, 35, 154, 0, 13, 42, 27, 28, 29, 4, 96, 182, 1, 121, 177, 42, 180, 0, 36, 29, 46]
abbrev dktX5_goForgot_2 : List UInt8 := dkwX5_goForgot_2 ++ dktX5_goForgot_3
def dkwX5_goForgot_1 : List UInt8 := [27, 46, 42, 180, 0, 153, 182, 1, 56, 154, 0, 13, 42, 89, 180, 1, 118, 10, 97, 181, 1, 118, 177, 28]
abbrev dktX5_goForgot_1 : List UInt8 := dkwX5_goForgot_1 ++ dktX5_goForgot_2
def dkwX5_goForgot_0 : List UInt8 := [29, 42, 180, 0, 143, 160, 0, 42, 42, 89, 180, 1, 114, 10, 97, 181, 1, 114, 42, 27, 42, 180, 0, 9]
abbrev dktX5_goForgot_0 : List UInt8 := dkwX5_goForgot_0 ++ dktX5_goForgot_1
theorem dksX5_goForgot_0 : cX5_goForgot.data.toList.drop 0 = dktX5_goForgot_0 := by decide +kernel
theorem dksX5_goForgot_1 : cX5_goForgot.data.toList.drop 24 = dktX5_goForgot_1 := dk_seg dksX5_goForgot_0 24 rfl rfl
theorem dksX5_goForgot_2 : cX5_goForgot.data.toList.drop 48 = dktX5_goForgot_2 := dk_seg dksX5_goForgot_1 24 rfl rfl
theorem dksX5_goForgot_3 : cX5_goForgot.data.toList.drop 71 = dktX5_goForgot_3 := dk_seg dksX5_goForgot_2 23 rfl rfl
theorem dksX5_goForgot_4 : cX5_goForgot.data.toList.drop 95 = dktX5_goForgot_4 := dk_seg dksX5_goForgot_3 24 rfl rfl
theorem dX5_goForgot_0 : decode cX5_goForgot 0 = .ok (.iload_n 3, 1) := dk_29 (dk_at dksX5_goForgot_0 0 rfl rfl)
theorem dX5_goForgot_1 : decode cX5_goForgot 1 = .ok (.aload_n 0, 1) := dk_42 (dk_at dksX5_goForgot_0 1 rfl rfl)
theorem dX5_goForgot_2 : decode cX5_goForgot 2 = .ok (.getfield 143, 3) := dk_180 0 143 (dk_at dksX5_goForgot_0 2 rfl rfl)
theorem dX5_goForgot_5 : decode cX5_goForgot 5 = .ok (.if_icmp .ne 42, 3) := dk_160 0 42 (dk_at dksX5_goForgot_0 5 rfl rfl)
theorem dX5_goForgot_8 : decode cX5_goForgot 8 = .ok (.aload_n 0, 1) := dk_42 (dk_at dksX5_goForgot_0 8 rfl rfl)
theorem dX5_goForgot_9 : decode cX5_goForgot 9 = .ok (.dup, 1) := dk_89 (dk_at dksX5_goForgot_0 9 rfl rfl)
theorem dX5_goForgot_10 : decode cX5_goForgot 10 = .ok (.getfield 370, 3) := dk_180 1 114 (dk_at dksX5_goForgot_0 10 rfl rfl)
theorem dX5_goForgot_13 : decode cX5_goForgot 13 = .ok (.lconst 1, 1) := dk_10 (dk_at dksX5_goForgot_0 13 rfl rfl)
theorem dX5_goForgot_14 : decode cX5_goForgot 14 = .ok (.ladd, 1) := dk_97 (dk_at dksX5_goForgot_0 14 rfl rfl)
theorem dX5_goForgot_15 : decode cX5_goForgot 15 = .ok (.putfield 370, 3) := dk_181 1 114 (dk_at dksX5_goForgot_0 15 rfl rfl)
theorem dX5_goForgot_18 : decode cX5_goForgot 18 = .ok (.aload_n 0, 1) := dk_42 (dk_at dksX5_goForgot_0 18 rfl rfl)
theorem dX5_goForgot_19 : decode cX5_goForgot 19 = .ok (.iload_n 1, 1) := dk_27 (dk_at dksX5_goForgot_0 19 rfl rfl)
theorem dX5_goForgot_20 : decode cX5_goForgot 20 = .ok (.aload_n 0, 1) := dk_42 (dk_at dksX5_goForgot_0 20 rfl rfl)
theorem dX5_goForgot_21 : decode cX5_goForgot 21 = .ok (.getfield 9, 3) := dk_180 0 9 (dk_at dksX5_goForgot_0 21 rfl rfl)
theorem dX5_goForgot_24 : decode cX5_goForgot 24 = .ok (.iload_n 1, 1) := dk_27 (dk_at dksX5_goForgot_1 0 rfl rfl)
theorem dX5_goForgot_25 : decode cX5_goForgot 25 = .ok (.iaload, 1) := dk_46 (dk_at dksX5_goForgot_1 1 rfl rfl)
theorem dX5_goForgot_26 : decode cX5_goForgot 26 = .ok (.aload_n 0, 1) := dk_42 (dk_at dksX5_goForgot_1 2 rfl rfl)
theorem dX5_goForgot_27 : decode cX5_goForgot 27 = .ok (.getfield 153, 3) := dk_180 0 153 (dk_at dksX5_goForgot_1 3 rfl rfl)
theorem dX5_goForgot_30 : decode cX5_goForgot 30 = .ok (.invokevirtual 312, 3) := dk_182 1 56 (dk_at dksX5_goForgot_1 6 rfl rfl)
theorem dX5_goForgot_33 : decode cX5_goForgot 33 = .ok (.ifCond .ne 13, 3) := dk_154 0 13 (dk_at dksX5_goForgot_1 9 rfl rfl)
theorem dX5_goForgot_36 : decode cX5_goForgot 36 = .ok (.aload_n 0, 1) := dk_42 (dk_at dksX5_goForgot_1 12 rfl rfl)
theorem dX5_goForgot_37 : decode cX5_goForgot 37 = .ok (.dup, 1) := dk_89 (dk_at dksX5_goForgot_1 13 rfl rfl)
theorem dX5_goForgot_38 : decode cX5_goForgot 38 = .ok (.getfield 374, 3) := dk_180 1 118 (dk_at dksX5_goForgot_1 14 rfl rfl)
theorem dX5_goForgot_41 : decode cX5_goForgot 41 = .ok (.lconst 1, 1) := dk_10 (dk_at dksX5_goForgot_1 17 rfl rfl)
theorem dX5_goForgot_42 : decode cX5_goForgot 42 = .ok (.ladd, 1) := dk_97 (dk_at dksX5_goForgot_1 18 rfl rfl)
theorem dX5_goForgot_43 : decode cX5_goForgot 43 = .ok (.putfield 374, 3) := dk_181 1 118 (dk_at dksX5_goForgot_1 19 rfl rfl)
theorem dX5_goForgot_46 : decode cX5_goForgot 46 = .ok (.return_, 1) := dk_177 (dk_at dksX5_goForgot_1 22 rfl rfl)
theorem dX5_goForgot_47 : decode cX5_goForgot 47 = .ok (.iload_n 2, 1) := dk_28 (dk_at dksX5_goForgot_1 23 rfl rfl)
theorem dX5_goForgot_48 : decode cX5_goForgot 48 = .ok (.iload_n 3, 1) := dk_29 (dk_at dksX5_goForgot_2 0 rfl rfl)
theorem dX5_goForgot_49 : decode cX5_goForgot 49 = .ok (.invokestatic 291, 3) := dk_184 1 35 (dk_at dksX5_goForgot_2 1 rfl rfl)
theorem dX5_goForgot_52 : decode cX5_goForgot 52 = .ok (.ifCond .ne 13, 3) := dk_154 0 13 (dk_at dksX5_goForgot_2 4 rfl rfl)
theorem dX5_goForgot_55 : decode cX5_goForgot 55 = .ok (.aload_n 0, 1) := dk_42 (dk_at dksX5_goForgot_2 7 rfl rfl)
theorem dX5_goForgot_56 : decode cX5_goForgot 56 = .ok (.iload_n 1, 1) := dk_27 (dk_at dksX5_goForgot_2 8 rfl rfl)
theorem dX5_goForgot_57 : decode cX5_goForgot 57 = .ok (.iload_n 2, 1) := dk_28 (dk_at dksX5_goForgot_2 9 rfl rfl)
theorem dX5_goForgot_58 : decode cX5_goForgot 58 = .ok (.iload_n 3, 1) := dk_29 (dk_at dksX5_goForgot_2 10 rfl rfl)
theorem dX5_goForgot_59 : decode cX5_goForgot 59 = .ok (.iconst 1, 1) := dk_4 (dk_at dksX5_goForgot_2 11 rfl rfl)
theorem dX5_goForgot_60 : decode cX5_goForgot 60 = .ok (.iadd, 1) := dk_96 (dk_at dksX5_goForgot_2 12 rfl rfl)
theorem dX5_goForgot_61 : decode cX5_goForgot 61 = .ok (.invokevirtual 377, 3) := dk_182 1 121 (dk_at dksX5_goForgot_2 13 rfl rfl)
theorem dX5_goForgot_64 : decode cX5_goForgot 64 = .ok (.return_, 1) := dk_177 (dk_at dksX5_goForgot_2 16 rfl rfl)
theorem dX5_goForgot_65 : decode cX5_goForgot 65 = .ok (.aload_n 0, 1) := dk_42 (dk_at dksX5_goForgot_2 17 rfl rfl)
theorem dX5_goForgot_66 : decode cX5_goForgot 66 = .ok (.getfield 36, 3) := dk_180 0 36 (dk_at dksX5_goForgot_2 18 rfl rfl)
theorem dX5_goForgot_69 : decode cX5_goForgot 69 = .ok (.iload_n 3, 1) := dk_29 (dk_at dksX5_goForgot_2 21 rfl rfl)
theorem dX5_goForgot_70 : decode cX5_goForgot 70 = .ok (.iaload, 1) := dk_46 (dk_at dksX5_goForgot_2 22 rfl rfl)
theorem dX5_goForgot_71 : decode cX5_goForgot 71 = .ok (.istore 4, 2) := dk_54 4 (dk_at dksX5_goForgot_3 0 rfl rfl)
theorem dX5_goForgot_73 : decode cX5_goForgot 73 = .ok (.aload_n 0, 1) := dk_42 (dk_at dksX5_goForgot_3 2 rfl rfl)
theorem dX5_goForgot_74 : decode cX5_goForgot 74 = .ok (.getfield 36, 3) := dk_180 0 36 (dk_at dksX5_goForgot_3 3 rfl rfl)
theorem dX5_goForgot_77 : decode cX5_goForgot 77 = .ok (.iload_n 3, 1) := dk_29 (dk_at dksX5_goForgot_3 6 rfl rfl)
theorem dX5_goForgot_78 : decode cX5_goForgot 78 = .ok (.iconst 0, 1) := dk_3 (dk_at dksX5_goForgot_3 7 rfl rfl)
theorem dX5_goForgot_79 : decode cX5_goForgot 79 = .ok (.iastore, 1) := dk_79 (dk_at dksX5_goForgot_3 8 rfl rfl)
theorem dX5_goForgot_80 : decode cX5_goForgot 80 = .ok (.aload_n 0, 1) := dk_42 (dk_at dksX5_goForgot_3 9 rfl rfl)
theorem dX5_goForgot_81 : decode cX5_goForgot 81 = .ok (.iload_n 1, 1) := dk_27 (dk_at dksX5_goForgot_3 10 rfl rfl)
theorem dX5_goForgot_82 : decode cX5_goForgot 82 = .ok (.iload_n 2, 1) := dk_28 (dk_at dksX5_goForgot_3 11 rfl rfl)
theorem dX5_goForgot_83 : decode cX5_goForgot 83 = .ok (.iload_n 3, 1) := dk_29 (dk_at dksX5_goForgot_3 12 rfl rfl)
theorem dX5_goForgot_84 : decode cX5_goForgot 84 = .ok (.iconst 1, 1) := dk_4 (dk_at dksX5_goForgot_3 13 rfl rfl)
theorem dX5_goForgot_85 : decode cX5_goForgot 85 = .ok (.iadd, 1) := dk_96 (dk_at dksX5_goForgot_3 14 rfl rfl)
theorem dX5_goForgot_86 : decode cX5_goForgot 86 = .ok (.invokevirtual 377, 3) := dk_182 1 121 (dk_at dksX5_goForgot_3 15 rfl rfl)
theorem dX5_goForgot_89 : decode cX5_goForgot 89 = .ok (.aload_n 0, 1) := dk_42 (dk_at dksX5_goForgot_3 18 rfl rfl)
theorem dX5_goForgot_90 : decode cX5_goForgot 90 = .ok (.getfield 36, 3) := dk_180 0 36 (dk_at dksX5_goForgot_3 19 rfl rfl)
theorem dX5_goForgot_93 : decode cX5_goForgot 93 = .ok (.iload_n 3, 1) := dk_29 (dk_at dksX5_goForgot_3 22 rfl rfl)
theorem dX5_goForgot_94 : decode cX5_goForgot 94 = .ok (.iconst 1, 1) := dk_4 (dk_at dksX5_goForgot_3 23 rfl rfl)
theorem dX5_goForgot_95 : decode cX5_goForgot 95 = .ok (.iastore, 1) := dk_79 (dk_at dksX5_goForgot_4 0 rfl rfl)
theorem dX5_goForgot_96 : decode cX5_goForgot 96 = .ok (.aload_n 0, 1) := dk_42 (dk_at dksX5_goForgot_4 1 rfl rfl)
theorem dX5_goForgot_97 : decode cX5_goForgot 97 = .ok (.iload_n 1, 1) := dk_27 (dk_at dksX5_goForgot_4 2 rfl rfl)
theorem dX5_goForgot_98 : decode cX5_goForgot 98 = .ok (.iload_n 2, 1) := dk_28 (dk_at dksX5_goForgot_4 3 rfl rfl)
theorem dX5_goForgot_99 : decode cX5_goForgot 99 = .ok (.iload_n 3, 1) := dk_29 (dk_at dksX5_goForgot_4 4 rfl rfl)
theorem dX5_goForgot_100 : decode cX5_goForgot 100 = .ok (.iconst 1, 1) := dk_4 (dk_at dksX5_goForgot_4 5 rfl rfl)
theorem dX5_goForgot_101 : decode cX5_goForgot 101 = .ok (.iadd, 1) := dk_96 (dk_at dksX5_goForgot_4 6 rfl rfl)
theorem dX5_goForgot_102 : decode cX5_goForgot 102 = .ok (.invokevirtual 377, 3) := dk_182 1 121 (dk_at dksX5_goForgot_4 7 rfl rfl)
theorem dX5_goForgot_105 : decode cX5_goForgot 105 = .ok (.aload_n 0, 1) := dk_42 (dk_at dksX5_goForgot_4 10 rfl rfl)
theorem dX5_goForgot_106 : decode cX5_goForgot 106 = .ok (.getfield 36, 3) := dk_180 0 36 (dk_at dksX5_goForgot_4 11 rfl rfl)
theorem dX5_goForgot_109 : decode cX5_goForgot 109 = .ok (.iload_n 3, 1) := dk_29 (dk_at dksX5_goForgot_4 14 rfl rfl)
theorem dX5_goForgot_110 : decode cX5_goForgot 110 = .ok (.iload 4, 2) := dk_21 4 (dk_at dksX5_goForgot_4 15 rfl rfl)
theorem dX5_goForgot_112 : decode cX5_goForgot 112 = .ok (.iastore, 1) := dk_79 (dk_at dksX5_goForgot_4 17 rfl rfl)
theorem dX5_goForgot_113 : decode cX5_goForgot 113 = .ok (.return_, 1) := dk_177 (dk_at dksX5_goForgot_4 18 rfl rfl)
abbrev cX5_lowest : ByteArray := prog_25_method_83_code
def yX5_lowest : MethodName := ⟨RX5, "lowest", "(JJI)J"⟩
def dkwX5_lowest_2 : List UInt8 := [22, 5, 109, 167, 0, 7, 32, 22, 5, 109, 173]
abbrev dktX5_lowest_2 : List UInt8 := dkwX5_lowest_2 ++ []
def dkwX5_lowest_1 : List UInt8 := [22, 5, 22, 7, 113, 55, 9, 22, 7, 55, 5, 22, 9, 55, 7, 167, 255, 234, 21, 4, 154, 0, 10, 30]
abbrev dktX5_lowest_1 : List UInt8 := dkwX5_lowest_1 ++ dktX5_lowest_2
def dkwX5_lowest_0 : List UInt8 := [30, 9, 148, 154, 0, 7, 21, 4, 133, 173, 30, 55, 5, 32, 55, 7, 22, 7, 9, 148, 153, 0, 21]
abbrev dktX5_lowest_0 : List UInt8 := dkwX5_lowest_0 ++ dktX5_lowest_1
theorem dksX5_lowest_0 : cX5_lowest.data.toList.drop 0 = dktX5_lowest_0 := by decide +kernel
theorem dksX5_lowest_1 : cX5_lowest.data.toList.drop 23 = dktX5_lowest_1 := dk_seg dksX5_lowest_0 23 rfl rfl
theorem dksX5_lowest_2 : cX5_lowest.data.toList.drop 47 = dktX5_lowest_2 := dk_seg dksX5_lowest_1 24 rfl rfl
theorem dX5_lowest_0 : decode cX5_lowest 0 = .ok (.lload_n 0, 1) := dk_30 (dk_at dksX5_lowest_0 0 rfl rfl)
theorem dX5_lowest_1 : decode cX5_lowest 1 = .ok (.lconst 0, 1) := dk_9 (dk_at dksX5_lowest_0 1 rfl rfl)
theorem dX5_lowest_2 : decode cX5_lowest 2 = .ok (.lcmp, 1) := dk_148 (dk_at dksX5_lowest_0 2 rfl rfl)
theorem dX5_lowest_3 : decode cX5_lowest 3 = .ok (.ifCond .ne 7, 3) := dk_154 0 7 (dk_at dksX5_lowest_0 3 rfl rfl)
theorem dX5_lowest_6 : decode cX5_lowest 6 = .ok (.iload 4, 2) := dk_21 4 (dk_at dksX5_lowest_0 6 rfl rfl)
theorem dX5_lowest_8 : decode cX5_lowest 8 = .ok (.i2l, 1) := dk_133 (dk_at dksX5_lowest_0 8 rfl rfl)
theorem dX5_lowest_9 : decode cX5_lowest 9 = .ok (.lreturn, 1) := dk_173 (dk_at dksX5_lowest_0 9 rfl rfl)
theorem dX5_lowest_10 : decode cX5_lowest 10 = .ok (.lload_n 0, 1) := dk_30 (dk_at dksX5_lowest_0 10 rfl rfl)
theorem dX5_lowest_11 : decode cX5_lowest 11 = .ok (.lstore 5, 2) := dk_55 5 (dk_at dksX5_lowest_0 11 rfl rfl)
theorem dX5_lowest_13 : decode cX5_lowest 13 = .ok (.lload_n 2, 1) := dk_32 (dk_at dksX5_lowest_0 13 rfl rfl)
theorem dX5_lowest_14 : decode cX5_lowest 14 = .ok (.lstore 7, 2) := dk_55 7 (dk_at dksX5_lowest_0 14 rfl rfl)
theorem dX5_lowest_16 : decode cX5_lowest 16 = .ok (.lload 7, 2) := dk_22 7 (dk_at dksX5_lowest_0 16 rfl rfl)
theorem dX5_lowest_18 : decode cX5_lowest 18 = .ok (.lconst 0, 1) := dk_9 (dk_at dksX5_lowest_0 18 rfl rfl)
theorem dX5_lowest_19 : decode cX5_lowest 19 = .ok (.lcmp, 1) := dk_148 (dk_at dksX5_lowest_0 19 rfl rfl)
theorem dX5_lowest_20 : decode cX5_lowest 20 = .ok (.ifCond .eq 21, 3) := dk_153 0 21 (dk_at dksX5_lowest_0 20 rfl rfl)
theorem dX5_lowest_23 : decode cX5_lowest 23 = .ok (.lload 5, 2) := dk_22 5 (dk_at dksX5_lowest_1 0 rfl rfl)
theorem dX5_lowest_25 : decode cX5_lowest 25 = .ok (.lload 7, 2) := dk_22 7 (dk_at dksX5_lowest_1 2 rfl rfl)
theorem dX5_lowest_27 : decode cX5_lowest 27 = .ok (.lrem, 1) := dk_113 (dk_at dksX5_lowest_1 4 rfl rfl)
theorem dX5_lowest_28 : decode cX5_lowest 28 = .ok (.lstore 9, 2) := dk_55 9 (dk_at dksX5_lowest_1 5 rfl rfl)
theorem dX5_lowest_30 : decode cX5_lowest 30 = .ok (.lload 7, 2) := dk_22 7 (dk_at dksX5_lowest_1 7 rfl rfl)
theorem dX5_lowest_32 : decode cX5_lowest 32 = .ok (.lstore 5, 2) := dk_55 5 (dk_at dksX5_lowest_1 9 rfl rfl)
theorem dX5_lowest_34 : decode cX5_lowest 34 = .ok (.lload 9, 2) := dk_22 9 (dk_at dksX5_lowest_1 11 rfl rfl)
theorem dX5_lowest_36 : decode cX5_lowest 36 = .ok (.lstore 7, 2) := dk_55 7 (dk_at dksX5_lowest_1 13 rfl rfl)
theorem dX5_lowest_38 : decode cX5_lowest 38 = .ok (.goto (-22), 3) := dk_167 255 234 (dk_at dksX5_lowest_1 15 rfl rfl)
theorem dX5_lowest_41 : decode cX5_lowest 41 = .ok (.iload 4, 2) := dk_21 4 (dk_at dksX5_lowest_1 18 rfl rfl)
theorem dX5_lowest_43 : decode cX5_lowest 43 = .ok (.ifCond .ne 10, 3) := dk_154 0 10 (dk_at dksX5_lowest_1 20 rfl rfl)
theorem dX5_lowest_46 : decode cX5_lowest 46 = .ok (.lload_n 0, 1) := dk_30 (dk_at dksX5_lowest_1 23 rfl rfl)
theorem dX5_lowest_47 : decode cX5_lowest 47 = .ok (.lload 5, 2) := dk_22 5 (dk_at dksX5_lowest_2 0 rfl rfl)
theorem dX5_lowest_49 : decode cX5_lowest 49 = .ok (.ldiv, 1) := dk_109 (dk_at dksX5_lowest_2 2 rfl rfl)
theorem dX5_lowest_50 : decode cX5_lowest 50 = .ok (.goto 7, 3) := dk_167 0 7 (dk_at dksX5_lowest_2 3 rfl rfl)
theorem dX5_lowest_53 : decode cX5_lowest 53 = .ok (.lload_n 2, 1) := dk_32 (dk_at dksX5_lowest_2 6 rfl rfl)
theorem dX5_lowest_54 : decode cX5_lowest 54 = .ok (.lload 5, 2) := dk_22 5 (dk_at dksX5_lowest_2 7 rfl rfl)
theorem dX5_lowest_56 : decode cX5_lowest 56 = .ok (.ldiv, 1) := dk_109 (dk_at dksX5_lowest_2 9 rfl rfl)
theorem dX5_lowest_57 : decode cX5_lowest 57 = .ok (.lreturn, 1) := dk_173 (dk_at dksX5_lowest_2 10 rfl rfl)
abbrev cX5_rued : ByteArray := prog_25_method_85_code
def yX5_rued : MethodName := ⟨RX5, "rued", "(II)I"⟩
def dkwX5_rued_6 : List UInt8 := [184, 1, 35, 154, 0, 12, 21, 5, 4, 21, 6, 120, 128, 54, 5, 132, 6, 1, 167, 255, 205, 21, 5, 172]
abbrev dktX5_rued_6 : List UInt8 := dkwX5_rued_6 ++ []
def dkwX5_rued_5 : List UInt8 := [180, 0, 18, 21, 6, 46, 27, 160, 0, 31, 42, 180, 0, 39, 21, 6, 46, 154, 0, 21, 29, 21, 6]
abbrev dktX5_rued_5 : List UInt8 := dkwX5_rued_5 ++ dktX5_rued_6
def dkwX5_rued_4 : List UInt8 := [54, 4, 132, 5, 1, 167, 255, 190, 3, 54, 5, 3, 54, 6, 21, 6, 42, 180, 0, 143, 162, 0, 48, 42]
abbrev dktX5_rued_4 : List UInt8 := dkwX5_rued_4 ++ dktX5_rued_5
def dkwX5_rued_3 : List UInt8 := [182, 1, 47, 128, 62, 132, 6, 1, 167, 255, 220, 42, 27, 21, 4, 42, 21, 5, 182, 1, 53, 182, 1, 72]
abbrev dktX5_rued_3 : List UInt8 := dkwX5_rued_3 ++ dktX5_rued_4
def dkwX5_rued_2 : List UInt8 := [162, 0, 35, 21, 4, 21, 6, 184, 1, 35, 153, 0, 19, 29, 42, 27, 21, 6, 42, 21, 5, 182, 1, 53]
abbrev dktX5_rued_2 : List UInt8 := dkwX5_rued_2 ++ dktX5_rued_3
def dkwX5_rued_1 : List UInt8 := [180, 0, 9, 27, 46, 120, 54, 4, 3, 54, 5, 21, 5, 28, 163, 0, 66, 3, 54, 6, 21, 6, 16, 25]
abbrev dktX5_rued_1 : List UInt8 := dkwX5_rued_1 ++ dktX5_rued_2
def dkwX5_rued_0 : List UInt8 := [42, 27, 182, 0, 146, 153, 0, 13, 28, 3, 16, 8, 184, 0, 136, 154, 0, 5, 2, 172, 3, 62, 4, 42]
abbrev dktX5_rued_0 : List UInt8 := dkwX5_rued_0 ++ dktX5_rued_1
theorem dksX5_rued_0 : cX5_rued.data.toList.drop 0 = dktX5_rued_0 := by decide +kernel
theorem dksX5_rued_1 : cX5_rued.data.toList.drop 24 = dktX5_rued_1 := dk_seg dksX5_rued_0 24 rfl rfl
theorem dksX5_rued_2 : cX5_rued.data.toList.drop 48 = dktX5_rued_2 := dk_seg dksX5_rued_1 24 rfl rfl
theorem dksX5_rued_3 : cX5_rued.data.toList.drop 72 = dktX5_rued_3 := dk_seg dksX5_rued_2 24 rfl rfl
theorem dksX5_rued_4 : cX5_rued.data.toList.drop 96 = dktX5_rued_4 := dk_seg dksX5_rued_3 24 rfl rfl
theorem dksX5_rued_5 : cX5_rued.data.toList.drop 120 = dktX5_rued_5 := dk_seg dksX5_rued_4 24 rfl rfl
theorem dksX5_rued_6 : cX5_rued.data.toList.drop 143 = dktX5_rued_6 := dk_seg dksX5_rued_5 23 rfl rfl
theorem dX5_rued_0 : decode cX5_rued 0 = .ok (.aload_n 0, 1) := dk_42 (dk_at dksX5_rued_0 0 rfl rfl)
theorem dX5_rued_1 : decode cX5_rued 1 = .ok (.iload_n 1, 1) := dk_27 (dk_at dksX5_rued_0 1 rfl rfl)
theorem dX5_rued_2 : decode cX5_rued 2 = .ok (.invokevirtual 146, 3) := dk_182 0 146 (dk_at dksX5_rued_0 2 rfl rfl)
theorem dX5_rued_5 : decode cX5_rued 5 = .ok (.ifCond .eq 13, 3) := dk_153 0 13 (dk_at dksX5_rued_0 5 rfl rfl)
theorem dX5_rued_8 : decode cX5_rued 8 = .ok (.iload_n 2, 1) := dk_28 (dk_at dksX5_rued_0 8 rfl rfl)
theorem dX5_rued_9 : decode cX5_rued 9 = .ok (.iconst 0, 1) := dk_3 (dk_at dksX5_rued_0 9 rfl rfl)
theorem dX5_rued_10 : decode cX5_rued 10 = .ok (.bipush 8, 2) := dk_16 8 (dk_at dksX5_rued_0 10 rfl rfl)
theorem dX5_rued_12 : decode cX5_rued 12 = .ok (.invokestatic 136, 3) := dk_184 0 136 (dk_at dksX5_rued_0 12 rfl rfl)
theorem dX5_rued_15 : decode cX5_rued 15 = .ok (.ifCond .ne 5, 3) := dk_154 0 5 (dk_at dksX5_rued_0 15 rfl rfl)
theorem dX5_rued_18 : decode cX5_rued 18 = .ok (.iconst (-1), 1) := dk_2 (dk_at dksX5_rued_0 18 rfl rfl)
theorem dX5_rued_19 : decode cX5_rued 19 = .ok (.ireturn, 1) := dk_172 (dk_at dksX5_rued_0 19 rfl rfl)
theorem dX5_rued_20 : decode cX5_rued 20 = .ok (.iconst 0, 1) := dk_3 (dk_at dksX5_rued_0 20 rfl rfl)
theorem dX5_rued_21 : decode cX5_rued 21 = .ok (.istore_n 3, 1) := dk_62 (dk_at dksX5_rued_0 21 rfl rfl)
theorem dX5_rued_22 : decode cX5_rued 22 = .ok (.iconst 1, 1) := dk_4 (dk_at dksX5_rued_0 22 rfl rfl)
theorem dX5_rued_23 : decode cX5_rued 23 = .ok (.aload_n 0, 1) := dk_42 (dk_at dksX5_rued_0 23 rfl rfl)
theorem dX5_rued_24 : decode cX5_rued 24 = .ok (.getfield 9, 3) := dk_180 0 9 (dk_at dksX5_rued_1 0 rfl rfl)
theorem dX5_rued_27 : decode cX5_rued 27 = .ok (.iload_n 1, 1) := dk_27 (dk_at dksX5_rued_1 3 rfl rfl)
theorem dX5_rued_28 : decode cX5_rued 28 = .ok (.iaload, 1) := dk_46 (dk_at dksX5_rued_1 4 rfl rfl)
theorem dX5_rued_29 : decode cX5_rued 29 = .ok (.ishl, 1) := dk_120 (dk_at dksX5_rued_1 5 rfl rfl)
theorem dX5_rued_30 : decode cX5_rued 30 = .ok (.istore 4, 2) := dk_54 4 (dk_at dksX5_rued_1 6 rfl rfl)
theorem dX5_rued_32 : decode cX5_rued 32 = .ok (.iconst 0, 1) := dk_3 (dk_at dksX5_rued_1 8 rfl rfl)
theorem dX5_rued_33 : decode cX5_rued 33 = .ok (.istore 5, 2) := dk_54 5 (dk_at dksX5_rued_1 9 rfl rfl)
theorem dX5_rued_35 : decode cX5_rued 35 = .ok (.iload 5, 2) := dk_21 5 (dk_at dksX5_rued_1 11 rfl rfl)
theorem dX5_rued_37 : decode cX5_rued 37 = .ok (.iload_n 2, 1) := dk_28 (dk_at dksX5_rued_1 13 rfl rfl)
theorem dX5_rued_38 : decode cX5_rued 38 = .ok (.if_icmp .gt 66, 3) := dk_163 0 66 (dk_at dksX5_rued_1 14 rfl rfl)
theorem dX5_rued_41 : decode cX5_rued 41 = .ok (.iconst 0, 1) := dk_3 (dk_at dksX5_rued_1 17 rfl rfl)
theorem dX5_rued_42 : decode cX5_rued 42 = .ok (.istore 6, 2) := dk_54 6 (dk_at dksX5_rued_1 18 rfl rfl)
theorem dX5_rued_44 : decode cX5_rued 44 = .ok (.iload 6, 2) := dk_21 6 (dk_at dksX5_rued_1 20 rfl rfl)
theorem dX5_rued_46 : decode cX5_rued 46 = .ok (.bipush 25, 2) := dk_16 25 (dk_at dksX5_rued_1 22 rfl rfl)
theorem dX5_rued_48 : decode cX5_rued 48 = .ok (.if_icmp .ge 35, 3) := dk_162 0 35 (dk_at dksX5_rued_2 0 rfl rfl)
theorem dX5_rued_51 : decode cX5_rued 51 = .ok (.iload 4, 2) := dk_21 4 (dk_at dksX5_rued_2 3 rfl rfl)
theorem dX5_rued_53 : decode cX5_rued 53 = .ok (.iload 6, 2) := dk_21 6 (dk_at dksX5_rued_2 5 rfl rfl)
theorem dX5_rued_55 : decode cX5_rued 55 = .ok (.invokestatic 291, 3) := dk_184 1 35 (dk_at dksX5_rued_2 7 rfl rfl)
theorem dX5_rued_58 : decode cX5_rued 58 = .ok (.ifCond .eq 19, 3) := dk_153 0 19 (dk_at dksX5_rued_2 10 rfl rfl)
theorem dX5_rued_61 : decode cX5_rued 61 = .ok (.iload_n 3, 1) := dk_29 (dk_at dksX5_rued_2 13 rfl rfl)
theorem dX5_rued_62 : decode cX5_rued 62 = .ok (.aload_n 0, 1) := dk_42 (dk_at dksX5_rued_2 14 rfl rfl)
theorem dX5_rued_63 : decode cX5_rued 63 = .ok (.iload_n 1, 1) := dk_27 (dk_at dksX5_rued_2 15 rfl rfl)
theorem dX5_rued_64 : decode cX5_rued 64 = .ok (.iload 6, 2) := dk_21 6 (dk_at dksX5_rued_2 16 rfl rfl)
theorem dX5_rued_66 : decode cX5_rued 66 = .ok (.aload_n 0, 1) := dk_42 (dk_at dksX5_rued_2 18 rfl rfl)
theorem dX5_rued_67 : decode cX5_rued 67 = .ok (.iload 5, 2) := dk_21 5 (dk_at dksX5_rued_2 19 rfl rfl)
theorem dX5_rued_69 : decode cX5_rued 69 = .ok (.invokevirtual 309, 3) := dk_182 1 53 (dk_at dksX5_rued_2 21 rfl rfl)
theorem dX5_rued_72 : decode cX5_rued 72 = .ok (.invokevirtual 303, 3) := dk_182 1 47 (dk_at dksX5_rued_3 0 rfl rfl)
theorem dX5_rued_75 : decode cX5_rued 75 = .ok (.ior, 1) := dk_128 (dk_at dksX5_rued_3 3 rfl rfl)
theorem dX5_rued_76 : decode cX5_rued 76 = .ok (.istore_n 3, 1) := dk_62 (dk_at dksX5_rued_3 4 rfl rfl)
theorem dX5_rued_77 : decode cX5_rued 77 = .ok (.iinc 6 1, 3) := dk_132 6 1 (dk_at dksX5_rued_3 5 rfl rfl)
theorem dX5_rued_80 : decode cX5_rued 80 = .ok (.goto (-36), 3) := dk_167 255 220 (dk_at dksX5_rued_3 8 rfl rfl)
theorem dX5_rued_83 : decode cX5_rued 83 = .ok (.aload_n 0, 1) := dk_42 (dk_at dksX5_rued_3 11 rfl rfl)
theorem dX5_rued_84 : decode cX5_rued 84 = .ok (.iload_n 1, 1) := dk_27 (dk_at dksX5_rued_3 12 rfl rfl)
theorem dX5_rued_85 : decode cX5_rued 85 = .ok (.iload 4, 2) := dk_21 4 (dk_at dksX5_rued_3 13 rfl rfl)
theorem dX5_rued_87 : decode cX5_rued 87 = .ok (.aload_n 0, 1) := dk_42 (dk_at dksX5_rued_3 15 rfl rfl)
theorem dX5_rued_88 : decode cX5_rued 88 = .ok (.iload 5, 2) := dk_21 5 (dk_at dksX5_rued_3 16 rfl rfl)
theorem dX5_rued_90 : decode cX5_rued 90 = .ok (.invokevirtual 309, 3) := dk_182 1 53 (dk_at dksX5_rued_3 18 rfl rfl)
theorem dX5_rued_93 : decode cX5_rued 93 = .ok (.invokevirtual 328, 3) := dk_182 1 72 (dk_at dksX5_rued_3 21 rfl rfl)
theorem dX5_rued_96 : decode cX5_rued 96 = .ok (.istore 4, 2) := dk_54 4 (dk_at dksX5_rued_4 0 rfl rfl)
theorem dX5_rued_98 : decode cX5_rued 98 = .ok (.iinc 5 1, 3) := dk_132 5 1 (dk_at dksX5_rued_4 2 rfl rfl)
theorem dX5_rued_101 : decode cX5_rued 101 = .ok (.goto (-66), 3) := dk_167 255 190 (dk_at dksX5_rued_4 5 rfl rfl)
theorem dX5_rued_104 : decode cX5_rued 104 = .ok (.iconst 0, 1) := dk_3 (dk_at dksX5_rued_4 8 rfl rfl)
theorem dX5_rued_105 : decode cX5_rued 105 = .ok (.istore 5, 2) := dk_54 5 (dk_at dksX5_rued_4 9 rfl rfl)
theorem dX5_rued_107 : decode cX5_rued 107 = .ok (.iconst 0, 1) := dk_3 (dk_at dksX5_rued_4 11 rfl rfl)
theorem dX5_rued_108 : decode cX5_rued 108 = .ok (.istore 6, 2) := dk_54 6 (dk_at dksX5_rued_4 12 rfl rfl)
theorem dX5_rued_110 : decode cX5_rued 110 = .ok (.iload 6, 2) := dk_21 6 (dk_at dksX5_rued_4 14 rfl rfl)
theorem dX5_rued_112 : decode cX5_rued 112 = .ok (.aload_n 0, 1) := dk_42 (dk_at dksX5_rued_4 16 rfl rfl)
theorem dX5_rued_113 : decode cX5_rued 113 = .ok (.getfield 143, 3) := dk_180 0 143 (dk_at dksX5_rued_4 17 rfl rfl)
theorem dX5_rued_116 : decode cX5_rued 116 = .ok (.if_icmp .ge 48, 3) := dk_162 0 48 (dk_at dksX5_rued_4 20 rfl rfl)
theorem dX5_rued_119 : decode cX5_rued 119 = .ok (.aload_n 0, 1) := dk_42 (dk_at dksX5_rued_4 23 rfl rfl)
theorem dX5_rued_120 : decode cX5_rued 120 = .ok (.getfield 18, 3) := dk_180 0 18 (dk_at dksX5_rued_5 0 rfl rfl)
theorem dX5_rued_123 : decode cX5_rued 123 = .ok (.iload 6, 2) := dk_21 6 (dk_at dksX5_rued_5 3 rfl rfl)
theorem dX5_rued_125 : decode cX5_rued 125 = .ok (.iaload, 1) := dk_46 (dk_at dksX5_rued_5 5 rfl rfl)
theorem dX5_rued_126 : decode cX5_rued 126 = .ok (.iload_n 1, 1) := dk_27 (dk_at dksX5_rued_5 6 rfl rfl)
theorem dX5_rued_127 : decode cX5_rued 127 = .ok (.if_icmp .ne 31, 3) := dk_160 0 31 (dk_at dksX5_rued_5 7 rfl rfl)
theorem dX5_rued_130 : decode cX5_rued 130 = .ok (.aload_n 0, 1) := dk_42 (dk_at dksX5_rued_5 10 rfl rfl)
theorem dX5_rued_131 : decode cX5_rued 131 = .ok (.getfield 39, 3) := dk_180 0 39 (dk_at dksX5_rued_5 11 rfl rfl)
theorem dX5_rued_134 : decode cX5_rued 134 = .ok (.iload 6, 2) := dk_21 6 (dk_at dksX5_rued_5 14 rfl rfl)
theorem dX5_rued_136 : decode cX5_rued 136 = .ok (.iaload, 1) := dk_46 (dk_at dksX5_rued_5 16 rfl rfl)
theorem dX5_rued_137 : decode cX5_rued 137 = .ok (.ifCond .ne 21, 3) := dk_154 0 21 (dk_at dksX5_rued_5 17 rfl rfl)
theorem dX5_rued_140 : decode cX5_rued 140 = .ok (.iload_n 3, 1) := dk_29 (dk_at dksX5_rued_5 20 rfl rfl)
theorem dX5_rued_141 : decode cX5_rued 141 = .ok (.iload 6, 2) := dk_21 6 (dk_at dksX5_rued_5 21 rfl rfl)
theorem dX5_rued_143 : decode cX5_rued 143 = .ok (.invokestatic 291, 3) := dk_184 1 35 (dk_at dksX5_rued_6 0 rfl rfl)
theorem dX5_rued_146 : decode cX5_rued 146 = .ok (.ifCond .ne 12, 3) := dk_154 0 12 (dk_at dksX5_rued_6 3 rfl rfl)
theorem dX5_rued_149 : decode cX5_rued 149 = .ok (.iload 5, 2) := dk_21 5 (dk_at dksX5_rued_6 6 rfl rfl)
theorem dX5_rued_151 : decode cX5_rued 151 = .ok (.iconst 1, 1) := dk_4 (dk_at dksX5_rued_6 8 rfl rfl)
theorem dX5_rued_152 : decode cX5_rued 152 = .ok (.iload 6, 2) := dk_21 6 (dk_at dksX5_rued_6 9 rfl rfl)
theorem dX5_rued_154 : decode cX5_rued 154 = .ok (.ishl, 1) := dk_120 (dk_at dksX5_rued_6 11 rfl rfl)
theorem dX5_rued_155 : decode cX5_rued 155 = .ok (.ior, 1) := dk_128 (dk_at dksX5_rued_6 12 rfl rfl)
theorem dX5_rued_156 : decode cX5_rued 156 = .ok (.istore 5, 2) := dk_54 5 (dk_at dksX5_rued_6 13 rfl rfl)
theorem dX5_rued_158 : decode cX5_rued 158 = .ok (.iinc 6 1, 3) := dk_132 6 1 (dk_at dksX5_rued_6 15 rfl rfl)
theorem dX5_rued_161 : decode cX5_rued 161 = .ok (.goto (-51), 3) := dk_167 255 205 (dk_at dksX5_rued_6 18 rfl rfl)
theorem dX5_rued_164 : decode cX5_rued 164 = .ok (.iload 5, 2) := dk_21 5 (dk_at dksX5_rued_6 21 rfl rfl)
theorem dX5_rued_166 : decode cX5_rued 166 = .ok (.ireturn, 1) := dk_172 (dk_at dksX5_rued_6 23 rfl rfl)
abbrev cX5_byTurns : ByteArray := prog_25_method_90_code
def yX5_byTurns : MethodName := ⟨RX5, "byTurns", "(IIII)I"⟩
def dkwX5_byTurns_6 : List UInt8 := [21, 7, 172]
abbrev dktX5_byTurns_6 : List UInt8 := dkwX5_byTurns_6 ++ []
def dkwX5_byTurns_5 : List UInt8 := [54, 7, 42, 21, 7, 21, 5, 3, 29, 182, 1, 142, 21, 6, 159, 0, 9, 132, 7, 1, 167, 255, 238]
abbrev dktX5_byTurns_5 : List UInt8 := dkwX5_byTurns_5 ++ dktX5_byTurns_6
def dkwX5_byTurns_4 : List UInt8 := [154, 0, 6, 21, 6, 172, 42, 7, 21, 5, 3, 29, 182, 1, 142, 21, 6, 160, 0, 5, 7, 172, 3]
abbrev dktX5_byTurns_4 : List UInt8 := dkwX5_byTurns_4 ++ dktX5_byTurns_5
def dkwX5_byTurns_3 : List UInt8 := [180, 0, 9, 42, 180, 1, 133, 46, 54, 5, 42, 21, 5, 3, 29, 182, 1, 146, 54, 6, 21, 4]
abbrev dktX5_byTurns_3 : List UInt8 := dkwX5_byTurns_3 ++ dktX5_byTurns_4
def dkwX5_byTurns_2 : List UInt8 := [42, 27, 16, 10, 108, 181, 1, 133, 42, 27, 16, 10, 112, 181, 1, 130, 42, 28, 181, 1, 139, 42]
abbrev dktX5_byTurns_2 : List UInt8 := dkwX5_byTurns_2 ++ dktX5_byTurns_3
def dkwX5_byTurns_1 : List UInt8 := [153, 0, 22, 29, 4, 8, 184, 0, 136, 153, 0, 13, 21, 4, 3, 4, 184, 0, 136, 154, 0, 5, 2, 172]
abbrev dktX5_byTurns_1 : List UInt8 := dkwX5_byTurns_1 ++ dktX5_byTurns_2
def dkwX5_byTurns_0 : List UInt8 := [27, 155, 0, 44, 42, 27, 16, 10, 108, 27, 16, 10, 112, 182, 0, 156, 153, 0, 29, 28, 184, 0, 150]
abbrev dktX5_byTurns_0 : List UInt8 := dkwX5_byTurns_0 ++ dktX5_byTurns_1
theorem dksX5_byTurns_0 : cX5_byTurns.data.toList.drop 0 = dktX5_byTurns_0 := by decide +kernel
theorem dksX5_byTurns_1 : cX5_byTurns.data.toList.drop 23 = dktX5_byTurns_1 := dk_seg dksX5_byTurns_0 23 rfl rfl
theorem dksX5_byTurns_2 : cX5_byTurns.data.toList.drop 47 = dktX5_byTurns_2 := dk_seg dksX5_byTurns_1 24 rfl rfl
theorem dksX5_byTurns_3 : cX5_byTurns.data.toList.drop 69 = dktX5_byTurns_3 := dk_seg dksX5_byTurns_2 22 rfl rfl
theorem dksX5_byTurns_4 : cX5_byTurns.data.toList.drop 91 = dktX5_byTurns_4 := dk_seg dksX5_byTurns_3 22 rfl rfl
theorem dksX5_byTurns_5 : cX5_byTurns.data.toList.drop 114 = dktX5_byTurns_5 := dk_seg dksX5_byTurns_4 23 rfl rfl
theorem dksX5_byTurns_6 : cX5_byTurns.data.toList.drop 137 = dktX5_byTurns_6 := dk_seg dksX5_byTurns_5 23 rfl rfl
theorem dX5_byTurns_0 : decode cX5_byTurns 0 = .ok (.iload_n 1, 1) := dk_27 (dk_at dksX5_byTurns_0 0 rfl rfl)
theorem dX5_byTurns_1 : decode cX5_byTurns 1 = .ok (.ifCond .lt 44, 3) := dk_155 0 44 (dk_at dksX5_byTurns_0 1 rfl rfl)
theorem dX5_byTurns_4 : decode cX5_byTurns 4 = .ok (.aload_n 0, 1) := dk_42 (dk_at dksX5_byTurns_0 4 rfl rfl)
theorem dX5_byTurns_5 : decode cX5_byTurns 5 = .ok (.iload_n 1, 1) := dk_27 (dk_at dksX5_byTurns_0 5 rfl rfl)
theorem dX5_byTurns_6 : decode cX5_byTurns 6 = .ok (.bipush 10, 2) := dk_16 10 (dk_at dksX5_byTurns_0 6 rfl rfl)
theorem dX5_byTurns_8 : decode cX5_byTurns 8 = .ok (.idiv, 1) := dk_108 (dk_at dksX5_byTurns_0 8 rfl rfl)
theorem dX5_byTurns_9 : decode cX5_byTurns 9 = .ok (.iload_n 1, 1) := dk_27 (dk_at dksX5_byTurns_0 9 rfl rfl)
theorem dX5_byTurns_10 : decode cX5_byTurns 10 = .ok (.bipush 10, 2) := dk_16 10 (dk_at dksX5_byTurns_0 10 rfl rfl)
theorem dX5_byTurns_12 : decode cX5_byTurns 12 = .ok (.irem, 1) := dk_112 (dk_at dksX5_byTurns_0 12 rfl rfl)
theorem dX5_byTurns_13 : decode cX5_byTurns 13 = .ok (.invokevirtual 156, 3) := dk_182 0 156 (dk_at dksX5_byTurns_0 13 rfl rfl)
theorem dX5_byTurns_16 : decode cX5_byTurns 16 = .ok (.ifCond .eq 29, 3) := dk_153 0 29 (dk_at dksX5_byTurns_0 16 rfl rfl)
theorem dX5_byTurns_19 : decode cX5_byTurns 19 = .ok (.iload_n 2, 1) := dk_28 (dk_at dksX5_byTurns_0 19 rfl rfl)
theorem dX5_byTurns_20 : decode cX5_byTurns 20 = .ok (.invokestatic 150, 3) := dk_184 0 150 (dk_at dksX5_byTurns_0 20 rfl rfl)
theorem dX5_byTurns_23 : decode cX5_byTurns 23 = .ok (.ifCond .eq 22, 3) := dk_153 0 22 (dk_at dksX5_byTurns_1 0 rfl rfl)
theorem dX5_byTurns_26 : decode cX5_byTurns 26 = .ok (.iload_n 3, 1) := dk_29 (dk_at dksX5_byTurns_1 3 rfl rfl)
theorem dX5_byTurns_27 : decode cX5_byTurns 27 = .ok (.iconst 1, 1) := dk_4 (dk_at dksX5_byTurns_1 4 rfl rfl)
theorem dX5_byTurns_28 : decode cX5_byTurns 28 = .ok (.iconst 5, 1) := dk_8 (dk_at dksX5_byTurns_1 5 rfl rfl)
theorem dX5_byTurns_29 : decode cX5_byTurns 29 = .ok (.invokestatic 136, 3) := dk_184 0 136 (dk_at dksX5_byTurns_1 6 rfl rfl)
theorem dX5_byTurns_32 : decode cX5_byTurns 32 = .ok (.ifCond .eq 13, 3) := dk_153 0 13 (dk_at dksX5_byTurns_1 9 rfl rfl)
theorem dX5_byTurns_35 : decode cX5_byTurns 35 = .ok (.iload 4, 2) := dk_21 4 (dk_at dksX5_byTurns_1 12 rfl rfl)
theorem dX5_byTurns_37 : decode cX5_byTurns 37 = .ok (.iconst 0, 1) := dk_3 (dk_at dksX5_byTurns_1 14 rfl rfl)
theorem dX5_byTurns_38 : decode cX5_byTurns 38 = .ok (.iconst 1, 1) := dk_4 (dk_at dksX5_byTurns_1 15 rfl rfl)
theorem dX5_byTurns_39 : decode cX5_byTurns 39 = .ok (.invokestatic 136, 3) := dk_184 0 136 (dk_at dksX5_byTurns_1 16 rfl rfl)
theorem dX5_byTurns_42 : decode cX5_byTurns 42 = .ok (.ifCond .ne 5, 3) := dk_154 0 5 (dk_at dksX5_byTurns_1 19 rfl rfl)
theorem dX5_byTurns_45 : decode cX5_byTurns 45 = .ok (.iconst (-1), 1) := dk_2 (dk_at dksX5_byTurns_1 22 rfl rfl)
theorem dX5_byTurns_46 : decode cX5_byTurns 46 = .ok (.ireturn, 1) := dk_172 (dk_at dksX5_byTurns_1 23 rfl rfl)
theorem dX5_byTurns_47 : decode cX5_byTurns 47 = .ok (.aload_n 0, 1) := dk_42 (dk_at dksX5_byTurns_2 0 rfl rfl)
theorem dX5_byTurns_48 : decode cX5_byTurns 48 = .ok (.iload_n 1, 1) := dk_27 (dk_at dksX5_byTurns_2 1 rfl rfl)
theorem dX5_byTurns_49 : decode cX5_byTurns 49 = .ok (.bipush 10, 2) := dk_16 10 (dk_at dksX5_byTurns_2 2 rfl rfl)
theorem dX5_byTurns_51 : decode cX5_byTurns 51 = .ok (.idiv, 1) := dk_108 (dk_at dksX5_byTurns_2 4 rfl rfl)
theorem dX5_byTurns_52 : decode cX5_byTurns 52 = .ok (.putfield 389, 3) := dk_181 1 133 (dk_at dksX5_byTurns_2 5 rfl rfl)
theorem dX5_byTurns_55 : decode cX5_byTurns 55 = .ok (.aload_n 0, 1) := dk_42 (dk_at dksX5_byTurns_2 8 rfl rfl)
theorem dX5_byTurns_56 : decode cX5_byTurns 56 = .ok (.iload_n 1, 1) := dk_27 (dk_at dksX5_byTurns_2 9 rfl rfl)
theorem dX5_byTurns_57 : decode cX5_byTurns 57 = .ok (.bipush 10, 2) := dk_16 10 (dk_at dksX5_byTurns_2 10 rfl rfl)
theorem dX5_byTurns_59 : decode cX5_byTurns 59 = .ok (.irem, 1) := dk_112 (dk_at dksX5_byTurns_2 12 rfl rfl)
theorem dX5_byTurns_60 : decode cX5_byTurns 60 = .ok (.putfield 386, 3) := dk_181 1 130 (dk_at dksX5_byTurns_2 13 rfl rfl)
theorem dX5_byTurns_63 : decode cX5_byTurns 63 = .ok (.aload_n 0, 1) := dk_42 (dk_at dksX5_byTurns_2 16 rfl rfl)
theorem dX5_byTurns_64 : decode cX5_byTurns 64 = .ok (.iload_n 2, 1) := dk_28 (dk_at dksX5_byTurns_2 17 rfl rfl)
theorem dX5_byTurns_65 : decode cX5_byTurns 65 = .ok (.putfield 395, 3) := dk_181 1 139 (dk_at dksX5_byTurns_2 18 rfl rfl)
theorem dX5_byTurns_68 : decode cX5_byTurns 68 = .ok (.aload_n 0, 1) := dk_42 (dk_at dksX5_byTurns_2 21 rfl rfl)
theorem dX5_byTurns_69 : decode cX5_byTurns 69 = .ok (.getfield 9, 3) := dk_180 0 9 (dk_at dksX5_byTurns_3 0 rfl rfl)
theorem dX5_byTurns_72 : decode cX5_byTurns 72 = .ok (.aload_n 0, 1) := dk_42 (dk_at dksX5_byTurns_3 3 rfl rfl)
theorem dX5_byTurns_73 : decode cX5_byTurns 73 = .ok (.getfield 389, 3) := dk_180 1 133 (dk_at dksX5_byTurns_3 4 rfl rfl)
theorem dX5_byTurns_76 : decode cX5_byTurns 76 = .ok (.iaload, 1) := dk_46 (dk_at dksX5_byTurns_3 7 rfl rfl)
theorem dX5_byTurns_77 : decode cX5_byTurns 77 = .ok (.istore 5, 2) := dk_54 5 (dk_at dksX5_byTurns_3 8 rfl rfl)
theorem dX5_byTurns_79 : decode cX5_byTurns 79 = .ok (.aload_n 0, 1) := dk_42 (dk_at dksX5_byTurns_3 10 rfl rfl)
theorem dX5_byTurns_80 : decode cX5_byTurns 80 = .ok (.iload 5, 2) := dk_21 5 (dk_at dksX5_byTurns_3 11 rfl rfl)
theorem dX5_byTurns_82 : decode cX5_byTurns 82 = .ok (.iconst 0, 1) := dk_3 (dk_at dksX5_byTurns_3 13 rfl rfl)
theorem dX5_byTurns_83 : decode cX5_byTurns 83 = .ok (.iload_n 3, 1) := dk_29 (dk_at dksX5_byTurns_3 14 rfl rfl)
theorem dX5_byTurns_84 : decode cX5_byTurns 84 = .ok (.invokevirtual 402, 3) := dk_182 1 146 (dk_at dksX5_byTurns_3 15 rfl rfl)
theorem dX5_byTurns_87 : decode cX5_byTurns 87 = .ok (.istore 6, 2) := dk_54 6 (dk_at dksX5_byTurns_3 18 rfl rfl)
theorem dX5_byTurns_89 : decode cX5_byTurns 89 = .ok (.iload 4, 2) := dk_21 4 (dk_at dksX5_byTurns_3 20 rfl rfl)
theorem dX5_byTurns_91 : decode cX5_byTurns 91 = .ok (.ifCond .ne 6, 3) := dk_154 0 6 (dk_at dksX5_byTurns_4 0 rfl rfl)
theorem dX5_byTurns_94 : decode cX5_byTurns 94 = .ok (.iload 6, 2) := dk_21 6 (dk_at dksX5_byTurns_4 3 rfl rfl)
theorem dX5_byTurns_96 : decode cX5_byTurns 96 = .ok (.ireturn, 1) := dk_172 (dk_at dksX5_byTurns_4 5 rfl rfl)
theorem dX5_byTurns_97 : decode cX5_byTurns 97 = .ok (.aload_n 0, 1) := dk_42 (dk_at dksX5_byTurns_4 6 rfl rfl)
theorem dX5_byTurns_98 : decode cX5_byTurns 98 = .ok (.iconst 4, 1) := dk_7 (dk_at dksX5_byTurns_4 7 rfl rfl)
theorem dX5_byTurns_99 : decode cX5_byTurns 99 = .ok (.iload 5, 2) := dk_21 5 (dk_at dksX5_byTurns_4 8 rfl rfl)
theorem dX5_byTurns_101 : decode cX5_byTurns 101 = .ok (.iconst 0, 1) := dk_3 (dk_at dksX5_byTurns_4 10 rfl rfl)
theorem dX5_byTurns_102 : decode cX5_byTurns 102 = .ok (.iload_n 3, 1) := dk_29 (dk_at dksX5_byTurns_4 11 rfl rfl)
theorem dX5_byTurns_103 : decode cX5_byTurns 103 = .ok (.invokevirtual 398, 3) := dk_182 1 142 (dk_at dksX5_byTurns_4 12 rfl rfl)
theorem dX5_byTurns_106 : decode cX5_byTurns 106 = .ok (.iload 6, 2) := dk_21 6 (dk_at dksX5_byTurns_4 15 rfl rfl)
theorem dX5_byTurns_108 : decode cX5_byTurns 108 = .ok (.if_icmp .ne 5, 3) := dk_160 0 5 (dk_at dksX5_byTurns_4 17 rfl rfl)
theorem dX5_byTurns_111 : decode cX5_byTurns 111 = .ok (.iconst 4, 1) := dk_7 (dk_at dksX5_byTurns_4 20 rfl rfl)
theorem dX5_byTurns_112 : decode cX5_byTurns 112 = .ok (.ireturn, 1) := dk_172 (dk_at dksX5_byTurns_4 21 rfl rfl)
theorem dX5_byTurns_113 : decode cX5_byTurns 113 = .ok (.iconst 0, 1) := dk_3 (dk_at dksX5_byTurns_4 22 rfl rfl)
theorem dX5_byTurns_114 : decode cX5_byTurns 114 = .ok (.istore 7, 2) := dk_54 7 (dk_at dksX5_byTurns_5 0 rfl rfl)
theorem dX5_byTurns_116 : decode cX5_byTurns 116 = .ok (.aload_n 0, 1) := dk_42 (dk_at dksX5_byTurns_5 2 rfl rfl)
theorem dX5_byTurns_117 : decode cX5_byTurns 117 = .ok (.iload 7, 2) := dk_21 7 (dk_at dksX5_byTurns_5 3 rfl rfl)
theorem dX5_byTurns_119 : decode cX5_byTurns 119 = .ok (.iload 5, 2) := dk_21 5 (dk_at dksX5_byTurns_5 5 rfl rfl)
theorem dX5_byTurns_121 : decode cX5_byTurns 121 = .ok (.iconst 0, 1) := dk_3 (dk_at dksX5_byTurns_5 7 rfl rfl)
theorem dX5_byTurns_122 : decode cX5_byTurns 122 = .ok (.iload_n 3, 1) := dk_29 (dk_at dksX5_byTurns_5 8 rfl rfl)
theorem dX5_byTurns_123 : decode cX5_byTurns 123 = .ok (.invokevirtual 398, 3) := dk_182 1 142 (dk_at dksX5_byTurns_5 9 rfl rfl)
theorem dX5_byTurns_126 : decode cX5_byTurns 126 = .ok (.iload 6, 2) := dk_21 6 (dk_at dksX5_byTurns_5 12 rfl rfl)
theorem dX5_byTurns_128 : decode cX5_byTurns 128 = .ok (.if_icmp .eq 9, 3) := dk_159 0 9 (dk_at dksX5_byTurns_5 14 rfl rfl)
theorem dX5_byTurns_131 : decode cX5_byTurns 131 = .ok (.iinc 7 1, 3) := dk_132 7 1 (dk_at dksX5_byTurns_5 17 rfl rfl)
theorem dX5_byTurns_134 : decode cX5_byTurns 134 = .ok (.goto (-18), 3) := dk_167 255 238 (dk_at dksX5_byTurns_5 20 rfl rfl)
theorem dX5_byTurns_137 : decode cX5_byTurns 137 = .ok (.iload 7, 2) := dk_21 7 (dk_at dksX5_byTurns_6 0 rfl rfl)
theorem dX5_byTurns_139 : decode cX5_byTurns 139 = .ok (.ireturn, 1) := dk_172 (dk_at dksX5_byTurns_6 2 rfl rfl)
abbrev cX5_manBest : ByteArray := prog_25_method_88_code
def yX5_manBest : MethodName := ⟨RX5, "manBest", "(III)I"⟩
def dkwX5_manBest_2 : List UInt8 := [162, 0, 7, 21, 6, 54, 4, 132, 5, 1, 167, 255, 225, 21, 4, 172]
abbrev dktX5_manBest_2 : List UInt8 := dkwX5_manBest_2 ++ []
def dkwX5_manBest_1 : List UInt8 := [54, 5, 21, 5, 7, 162, 0, 31, 42, 21, 5, 27, 28, 29, 182, 1, 142, 54, 6, 21, 6, 21, 4]
abbrev dktX5_manBest_1 : List UInt8 := dkwX5_manBest_1 ++ dktX5_manBest_2
def dkwX5_manBest_0 : List UInt8 := [29, 154, 0, 12, 27, 42, 180, 1, 139, 184, 1, 105, 172, 42, 7, 27, 28, 29, 182, 1, 142, 54, 4, 3]
abbrev dktX5_manBest_0 : List UInt8 := dkwX5_manBest_0 ++ dktX5_manBest_1
theorem dksX5_manBest_0 : cX5_manBest.data.toList.drop 0 = dktX5_manBest_0 := by decide +kernel
theorem dksX5_manBest_1 : cX5_manBest.data.toList.drop 24 = dktX5_manBest_1 := dk_seg dksX5_manBest_0 24 rfl rfl
theorem dksX5_manBest_2 : cX5_manBest.data.toList.drop 47 = dktX5_manBest_2 := dk_seg dksX5_manBest_1 23 rfl rfl
theorem dX5_manBest_0 : decode cX5_manBest 0 = .ok (.iload_n 3, 1) := dk_29 (dk_at dksX5_manBest_0 0 rfl rfl)
theorem dX5_manBest_1 : decode cX5_manBest 1 = .ok (.ifCond .ne 12, 3) := dk_154 0 12 (dk_at dksX5_manBest_0 1 rfl rfl)
theorem dX5_manBest_4 : decode cX5_manBest 4 = .ok (.iload_n 1, 1) := dk_27 (dk_at dksX5_manBest_0 4 rfl rfl)
theorem dX5_manBest_5 : decode cX5_manBest 5 = .ok (.aload_n 0, 1) := dk_42 (dk_at dksX5_manBest_0 5 rfl rfl)
theorem dX5_manBest_6 : decode cX5_manBest 6 = .ok (.getfield 395, 3) := dk_180 1 139 (dk_at dksX5_manBest_0 6 rfl rfl)
theorem dX5_manBest_9 : decode cX5_manBest 9 = .ok (.invokestatic 361, 3) := dk_184 1 105 (dk_at dksX5_manBest_0 9 rfl rfl)
theorem dX5_manBest_12 : decode cX5_manBest 12 = .ok (.ireturn, 1) := dk_172 (dk_at dksX5_manBest_0 12 rfl rfl)
theorem dX5_manBest_13 : decode cX5_manBest 13 = .ok (.aload_n 0, 1) := dk_42 (dk_at dksX5_manBest_0 13 rfl rfl)
theorem dX5_manBest_14 : decode cX5_manBest 14 = .ok (.iconst 4, 1) := dk_7 (dk_at dksX5_manBest_0 14 rfl rfl)
theorem dX5_manBest_15 : decode cX5_manBest 15 = .ok (.iload_n 1, 1) := dk_27 (dk_at dksX5_manBest_0 15 rfl rfl)
theorem dX5_manBest_16 : decode cX5_manBest 16 = .ok (.iload_n 2, 1) := dk_28 (dk_at dksX5_manBest_0 16 rfl rfl)
theorem dX5_manBest_17 : decode cX5_manBest 17 = .ok (.iload_n 3, 1) := dk_29 (dk_at dksX5_manBest_0 17 rfl rfl)
theorem dX5_manBest_18 : decode cX5_manBest 18 = .ok (.invokevirtual 398, 3) := dk_182 1 142 (dk_at dksX5_manBest_0 18 rfl rfl)
theorem dX5_manBest_21 : decode cX5_manBest 21 = .ok (.istore 4, 2) := dk_54 4 (dk_at dksX5_manBest_0 21 rfl rfl)
theorem dX5_manBest_23 : decode cX5_manBest 23 = .ok (.iconst 0, 1) := dk_3 (dk_at dksX5_manBest_0 23 rfl rfl)
theorem dX5_manBest_24 : decode cX5_manBest 24 = .ok (.istore 5, 2) := dk_54 5 (dk_at dksX5_manBest_1 0 rfl rfl)
theorem dX5_manBest_26 : decode cX5_manBest 26 = .ok (.iload 5, 2) := dk_21 5 (dk_at dksX5_manBest_1 2 rfl rfl)
theorem dX5_manBest_28 : decode cX5_manBest 28 = .ok (.iconst 4, 1) := dk_7 (dk_at dksX5_manBest_1 4 rfl rfl)
theorem dX5_manBest_29 : decode cX5_manBest 29 = .ok (.if_icmp .ge 31, 3) := dk_162 0 31 (dk_at dksX5_manBest_1 5 rfl rfl)
theorem dX5_manBest_32 : decode cX5_manBest 32 = .ok (.aload_n 0, 1) := dk_42 (dk_at dksX5_manBest_1 8 rfl rfl)
theorem dX5_manBest_33 : decode cX5_manBest 33 = .ok (.iload 5, 2) := dk_21 5 (dk_at dksX5_manBest_1 9 rfl rfl)
theorem dX5_manBest_35 : decode cX5_manBest 35 = .ok (.iload_n 1, 1) := dk_27 (dk_at dksX5_manBest_1 11 rfl rfl)
theorem dX5_manBest_36 : decode cX5_manBest 36 = .ok (.iload_n 2, 1) := dk_28 (dk_at dksX5_manBest_1 12 rfl rfl)
theorem dX5_manBest_37 : decode cX5_manBest 37 = .ok (.iload_n 3, 1) := dk_29 (dk_at dksX5_manBest_1 13 rfl rfl)
theorem dX5_manBest_38 : decode cX5_manBest 38 = .ok (.invokevirtual 398, 3) := dk_182 1 142 (dk_at dksX5_manBest_1 14 rfl rfl)
theorem dX5_manBest_41 : decode cX5_manBest 41 = .ok (.istore 6, 2) := dk_54 6 (dk_at dksX5_manBest_1 17 rfl rfl)
theorem dX5_manBest_43 : decode cX5_manBest 43 = .ok (.iload 6, 2) := dk_21 6 (dk_at dksX5_manBest_1 19 rfl rfl)
theorem dX5_manBest_45 : decode cX5_manBest 45 = .ok (.iload 4, 2) := dk_21 4 (dk_at dksX5_manBest_1 21 rfl rfl)
theorem dX5_manBest_47 : decode cX5_manBest 47 = .ok (.if_icmp .ge 7, 3) := dk_162 0 7 (dk_at dksX5_manBest_2 0 rfl rfl)
theorem dX5_manBest_50 : decode cX5_manBest 50 = .ok (.iload 6, 2) := dk_21 6 (dk_at dksX5_manBest_2 3 rfl rfl)
theorem dX5_manBest_52 : decode cX5_manBest 52 = .ok (.istore 4, 2) := dk_54 4 (dk_at dksX5_manBest_2 5 rfl rfl)
theorem dX5_manBest_54 : decode cX5_manBest 54 = .ok (.iinc 5 1, 3) := dk_132 5 1 (dk_at dksX5_manBest_2 7 rfl rfl)
theorem dX5_manBest_57 : decode cX5_manBest 57 = .ok (.goto (-31), 3) := dk_167 255 225 (dk_at dksX5_manBest_2 10 rfl rfl)
theorem dX5_manBest_60 : decode cX5_manBest 60 = .ok (.iload 4, 2) := dk_21 4 (dk_at dksX5_manBest_2 13 rfl rfl)
theorem dX5_manBest_62 : decode cX5_manBest 62 = .ok (.ireturn, 1) := dk_172 (dk_at dksX5_manBest_2 15 rfl rfl)
abbrev cX5_byStep : ByteArray := prog_25_method_87_code
def yX5_byStep : MethodName := ⟨RX5, "byStep", "(IIII)I"⟩
def dkwX5_byStep_1 : List UInt8 := [184, 1, 59, 54, 5, 42, 21, 5, 29, 4, 96, 21, 4, 4, 100, 182, 1, 136, 172]
abbrev dktX5_byStep_1 : List UInt8 := dkwX5_byStep_1 ++ []
def dkwX5_byStep_0 : List UInt8 := [42, 42, 180, 1, 133, 28, 42, 29, 182, 1, 53, 182, 1, 56, 153, 0, 7, 28, 167, 0, 8, 28, 27]
abbrev dktX5_byStep_0 : List UInt8 := dkwX5_byStep_0 ++ dktX5_byStep_1
theorem dksX5_byStep_0 : cX5_byStep.data.toList.drop 0 = dktX5_byStep_0 := by decide +kernel
theorem dksX5_byStep_1 : cX5_byStep.data.toList.drop 23 = dktX5_byStep_1 := dk_seg dksX5_byStep_0 23 rfl rfl
theorem dX5_byStep_0 : decode cX5_byStep 0 = .ok (.aload_n 0, 1) := dk_42 (dk_at dksX5_byStep_0 0 rfl rfl)
theorem dX5_byStep_1 : decode cX5_byStep 1 = .ok (.aload_n 0, 1) := dk_42 (dk_at dksX5_byStep_0 1 rfl rfl)
theorem dX5_byStep_2 : decode cX5_byStep 2 = .ok (.getfield 389, 3) := dk_180 1 133 (dk_at dksX5_byStep_0 2 rfl rfl)
theorem dX5_byStep_5 : decode cX5_byStep 5 = .ok (.iload_n 2, 1) := dk_28 (dk_at dksX5_byStep_0 5 rfl rfl)
theorem dX5_byStep_6 : decode cX5_byStep 6 = .ok (.aload_n 0, 1) := dk_42 (dk_at dksX5_byStep_0 6 rfl rfl)
theorem dX5_byStep_7 : decode cX5_byStep 7 = .ok (.iload_n 3, 1) := dk_29 (dk_at dksX5_byStep_0 7 rfl rfl)
theorem dX5_byStep_8 : decode cX5_byStep 8 = .ok (.invokevirtual 309, 3) := dk_182 1 53 (dk_at dksX5_byStep_0 8 rfl rfl)
theorem dX5_byStep_11 : decode cX5_byStep 11 = .ok (.invokevirtual 312, 3) := dk_182 1 56 (dk_at dksX5_byStep_0 11 rfl rfl)
theorem dX5_byStep_14 : decode cX5_byStep 14 = .ok (.ifCond .eq 7, 3) := dk_153 0 7 (dk_at dksX5_byStep_0 14 rfl rfl)
theorem dX5_byStep_17 : decode cX5_byStep 17 = .ok (.iload_n 2, 1) := dk_28 (dk_at dksX5_byStep_0 17 rfl rfl)
theorem dX5_byStep_18 : decode cX5_byStep 18 = .ok (.goto 8, 3) := dk_167 0 8 (dk_at dksX5_byStep_0 18 rfl rfl)
theorem dX5_byStep_21 : decode cX5_byStep 21 = .ok (.iload_n 2, 1) := dk_28 (dk_at dksX5_byStep_0 21 rfl rfl)
theorem dX5_byStep_22 : decode cX5_byStep 22 = .ok (.iload_n 1, 1) := dk_27 (dk_at dksX5_byStep_0 22 rfl rfl)
theorem dX5_byStep_23 : decode cX5_byStep 23 = .ok (.invokestatic 315, 3) := dk_184 1 59 (dk_at dksX5_byStep_1 0 rfl rfl)
theorem dX5_byStep_26 : decode cX5_byStep 26 = .ok (.istore 5, 2) := dk_54 5 (dk_at dksX5_byStep_1 3 rfl rfl)
theorem dX5_byStep_28 : decode cX5_byStep 28 = .ok (.aload_n 0, 1) := dk_42 (dk_at dksX5_byStep_1 5 rfl rfl)
theorem dX5_byStep_29 : decode cX5_byStep 29 = .ok (.iload 5, 2) := dk_21 5 (dk_at dksX5_byStep_1 6 rfl rfl)
theorem dX5_byStep_31 : decode cX5_byStep 31 = .ok (.iload_n 3, 1) := dk_29 (dk_at dksX5_byStep_1 8 rfl rfl)
theorem dX5_byStep_32 : decode cX5_byStep 32 = .ok (.iconst 1, 1) := dk_4 (dk_at dksX5_byStep_1 9 rfl rfl)
theorem dX5_byStep_33 : decode cX5_byStep 33 = .ok (.iadd, 1) := dk_96 (dk_at dksX5_byStep_1 10 rfl rfl)
theorem dX5_byStep_34 : decode cX5_byStep 34 = .ok (.iload 4, 2) := dk_21 4 (dk_at dksX5_byStep_1 11 rfl rfl)
theorem dX5_byStep_36 : decode cX5_byStep 36 = .ok (.iconst 1, 1) := dk_4 (dk_at dksX5_byStep_1 13 rfl rfl)
theorem dX5_byStep_37 : decode cX5_byStep 37 = .ok (.isub, 1) := dk_100 (dk_at dksX5_byStep_1 14 rfl rfl)
theorem dX5_byStep_38 : decode cX5_byStep 38 = .ok (.invokevirtual 392, 3) := dk_182 1 136 (dk_at dksX5_byStep_1 15 rfl rfl)
theorem dX5_byStep_41 : decode cX5_byStep 41 = .ok (.ireturn, 1) := dk_172 (dk_at dksX5_byStep_1 18 rfl rfl)
abbrev cX5_childBest : ByteArray := prog_25_method_89_code
def yX5_childBest : MethodName := ⟨RX5, "childBest", "(III)I"⟩
def dkwX5_childBest_3 : List UInt8 := [21, 6, 167, 0, 5, 21, 4, 172]
abbrev dktX5_childBest_3 : List UInt8 := dkwX5_childBest_3 ++ []
def dkwX5_childBest_2 : List UInt8 := [28, 29, 4, 100, 182, 1, 146, 54, 6, 42, 180, 0, 36, 21, 5, 3, 79, 21, 6, 21, 4, 164, 0, 8]
abbrev dktX5_childBest_2 : List UInt8 := dkwX5_childBest_2 ++ dktX5_childBest_3
def dkwX5_childBest_1 : List UInt8 := [42, 182, 1, 149, 54, 5, 21, 5, 156, 0, 6, 21, 4, 172, 42, 180, 0, 36, 21, 5, 4, 79, 42, 27]
abbrev dktX5_childBest_1 : List UInt8 := dkwX5_childBest_1 ++ dktX5_childBest_2
def dkwX5_childBest_0 : List UInt8 := [29, 154, 0, 12, 27, 42, 180, 1, 139, 184, 1, 105, 172, 42, 27, 28, 29, 4, 100, 182, 1, 146, 54, 4]
abbrev dktX5_childBest_0 : List UInt8 := dkwX5_childBest_0 ++ dktX5_childBest_1
theorem dksX5_childBest_0 : cX5_childBest.data.toList.drop 0 = dktX5_childBest_0 := by decide +kernel
theorem dksX5_childBest_1 : cX5_childBest.data.toList.drop 24 = dktX5_childBest_1 := dk_seg dksX5_childBest_0 24 rfl rfl
theorem dksX5_childBest_2 : cX5_childBest.data.toList.drop 48 = dktX5_childBest_2 := dk_seg dksX5_childBest_1 24 rfl rfl
theorem dksX5_childBest_3 : cX5_childBest.data.toList.drop 72 = dktX5_childBest_3 := dk_seg dksX5_childBest_2 24 rfl rfl
theorem dX5_childBest_0 : decode cX5_childBest 0 = .ok (.iload_n 3, 1) := dk_29 (dk_at dksX5_childBest_0 0 rfl rfl)
theorem dX5_childBest_1 : decode cX5_childBest 1 = .ok (.ifCond .ne 12, 3) := dk_154 0 12 (dk_at dksX5_childBest_0 1 rfl rfl)
theorem dX5_childBest_4 : decode cX5_childBest 4 = .ok (.iload_n 1, 1) := dk_27 (dk_at dksX5_childBest_0 4 rfl rfl)
theorem dX5_childBest_5 : decode cX5_childBest 5 = .ok (.aload_n 0, 1) := dk_42 (dk_at dksX5_childBest_0 5 rfl rfl)
theorem dX5_childBest_6 : decode cX5_childBest 6 = .ok (.getfield 395, 3) := dk_180 1 139 (dk_at dksX5_childBest_0 6 rfl rfl)
theorem dX5_childBest_9 : decode cX5_childBest 9 = .ok (.invokestatic 361, 3) := dk_184 1 105 (dk_at dksX5_childBest_0 9 rfl rfl)
theorem dX5_childBest_12 : decode cX5_childBest 12 = .ok (.ireturn, 1) := dk_172 (dk_at dksX5_childBest_0 12 rfl rfl)
theorem dX5_childBest_13 : decode cX5_childBest 13 = .ok (.aload_n 0, 1) := dk_42 (dk_at dksX5_childBest_0 13 rfl rfl)
theorem dX5_childBest_14 : decode cX5_childBest 14 = .ok (.iload_n 1, 1) := dk_27 (dk_at dksX5_childBest_0 14 rfl rfl)
theorem dX5_childBest_15 : decode cX5_childBest 15 = .ok (.iload_n 2, 1) := dk_28 (dk_at dksX5_childBest_0 15 rfl rfl)
theorem dX5_childBest_16 : decode cX5_childBest 16 = .ok (.iload_n 3, 1) := dk_29 (dk_at dksX5_childBest_0 16 rfl rfl)
theorem dX5_childBest_17 : decode cX5_childBest 17 = .ok (.iconst 1, 1) := dk_4 (dk_at dksX5_childBest_0 17 rfl rfl)
theorem dX5_childBest_18 : decode cX5_childBest 18 = .ok (.isub, 1) := dk_100 (dk_at dksX5_childBest_0 18 rfl rfl)
theorem dX5_childBest_19 : decode cX5_childBest 19 = .ok (.invokevirtual 402, 3) := dk_182 1 146 (dk_at dksX5_childBest_0 19 rfl rfl)
theorem dX5_childBest_22 : decode cX5_childBest 22 = .ok (.istore 4, 2) := dk_54 4 (dk_at dksX5_childBest_0 22 rfl rfl)
theorem dX5_childBest_24 : decode cX5_childBest 24 = .ok (.aload_n 0, 1) := dk_42 (dk_at dksX5_childBest_1 0 rfl rfl)
theorem dX5_childBest_25 : decode cX5_childBest 25 = .ok (.invokevirtual 405, 3) := dk_182 1 149 (dk_at dksX5_childBest_1 1 rfl rfl)
theorem dX5_childBest_28 : decode cX5_childBest 28 = .ok (.istore 5, 2) := dk_54 5 (dk_at dksX5_childBest_1 4 rfl rfl)
theorem dX5_childBest_30 : decode cX5_childBest 30 = .ok (.iload 5, 2) := dk_21 5 (dk_at dksX5_childBest_1 6 rfl rfl)
theorem dX5_childBest_32 : decode cX5_childBest 32 = .ok (.ifCond .ge 6, 3) := dk_156 0 6 (dk_at dksX5_childBest_1 8 rfl rfl)
theorem dX5_childBest_35 : decode cX5_childBest 35 = .ok (.iload 4, 2) := dk_21 4 (dk_at dksX5_childBest_1 11 rfl rfl)
theorem dX5_childBest_37 : decode cX5_childBest 37 = .ok (.ireturn, 1) := dk_172 (dk_at dksX5_childBest_1 13 rfl rfl)
theorem dX5_childBest_38 : decode cX5_childBest 38 = .ok (.aload_n 0, 1) := dk_42 (dk_at dksX5_childBest_1 14 rfl rfl)
theorem dX5_childBest_39 : decode cX5_childBest 39 = .ok (.getfield 36, 3) := dk_180 0 36 (dk_at dksX5_childBest_1 15 rfl rfl)
theorem dX5_childBest_42 : decode cX5_childBest 42 = .ok (.iload 5, 2) := dk_21 5 (dk_at dksX5_childBest_1 18 rfl rfl)
theorem dX5_childBest_44 : decode cX5_childBest 44 = .ok (.iconst 1, 1) := dk_4 (dk_at dksX5_childBest_1 20 rfl rfl)
theorem dX5_childBest_45 : decode cX5_childBest 45 = .ok (.iastore, 1) := dk_79 (dk_at dksX5_childBest_1 21 rfl rfl)
theorem dX5_childBest_46 : decode cX5_childBest 46 = .ok (.aload_n 0, 1) := dk_42 (dk_at dksX5_childBest_1 22 rfl rfl)
theorem dX5_childBest_47 : decode cX5_childBest 47 = .ok (.iload_n 1, 1) := dk_27 (dk_at dksX5_childBest_1 23 rfl rfl)
theorem dX5_childBest_48 : decode cX5_childBest 48 = .ok (.iload_n 2, 1) := dk_28 (dk_at dksX5_childBest_2 0 rfl rfl)
theorem dX5_childBest_49 : decode cX5_childBest 49 = .ok (.iload_n 3, 1) := dk_29 (dk_at dksX5_childBest_2 1 rfl rfl)
theorem dX5_childBest_50 : decode cX5_childBest 50 = .ok (.iconst 1, 1) := dk_4 (dk_at dksX5_childBest_2 2 rfl rfl)
theorem dX5_childBest_51 : decode cX5_childBest 51 = .ok (.isub, 1) := dk_100 (dk_at dksX5_childBest_2 3 rfl rfl)
theorem dX5_childBest_52 : decode cX5_childBest 52 = .ok (.invokevirtual 402, 3) := dk_182 1 146 (dk_at dksX5_childBest_2 4 rfl rfl)
theorem dX5_childBest_55 : decode cX5_childBest 55 = .ok (.istore 6, 2) := dk_54 6 (dk_at dksX5_childBest_2 7 rfl rfl)
theorem dX5_childBest_57 : decode cX5_childBest 57 = .ok (.aload_n 0, 1) := dk_42 (dk_at dksX5_childBest_2 9 rfl rfl)
theorem dX5_childBest_58 : decode cX5_childBest 58 = .ok (.getfield 36, 3) := dk_180 0 36 (dk_at dksX5_childBest_2 10 rfl rfl)
theorem dX5_childBest_61 : decode cX5_childBest 61 = .ok (.iload 5, 2) := dk_21 5 (dk_at dksX5_childBest_2 13 rfl rfl)
theorem dX5_childBest_63 : decode cX5_childBest 63 = .ok (.iconst 0, 1) := dk_3 (dk_at dksX5_childBest_2 15 rfl rfl)
theorem dX5_childBest_64 : decode cX5_childBest 64 = .ok (.iastore, 1) := dk_79 (dk_at dksX5_childBest_2 16 rfl rfl)
theorem dX5_childBest_65 : decode cX5_childBest 65 = .ok (.iload 6, 2) := dk_21 6 (dk_at dksX5_childBest_2 17 rfl rfl)
theorem dX5_childBest_67 : decode cX5_childBest 67 = .ok (.iload 4, 2) := dk_21 4 (dk_at dksX5_childBest_2 19 rfl rfl)
theorem dX5_childBest_69 : decode cX5_childBest 69 = .ok (.if_icmp .le 8, 3) := dk_164 0 8 (dk_at dksX5_childBest_2 21 rfl rfl)
theorem dX5_childBest_72 : decode cX5_childBest 72 = .ok (.iload 6, 2) := dk_21 6 (dk_at dksX5_childBest_3 0 rfl rfl)
theorem dX5_childBest_74 : decode cX5_childBest 74 = .ok (.goto 5, 3) := dk_167 0 5 (dk_at dksX5_childBest_3 2 rfl rfl)
theorem dX5_childBest_77 : decode cX5_childBest 77 = .ok (.iload 4, 2) := dk_21 4 (dk_at dksX5_childBest_3 5 rfl rfl)
theorem dX5_childBest_79 : decode cX5_childBest 79 = .ok (.ireturn, 1) := dk_172 (dk_at dksX5_childBest_3 7 rfl rfl)
abbrev cX5_leastToForget : ByteArray := prog_25_method_86_code
def yX5_leastToForget : MethodName := ⟨RX5, "leastToForget", "()I"⟩
def dkwX5_leastToForget_1 : List UInt8 := [180, 0, 36, 27, 46, 154, 0, 5, 27, 172, 132, 1, 1, 167, 255, 221, 16, 254, 172]
abbrev dktX5_leastToForget_1 : List UInt8 := dkwX5_leastToForget_1 ++ []
def dkwX5_leastToForget_0 : List UInt8 := [3, 60, 27, 42, 180, 0, 143, 162, 0, 33, 42, 180, 0, 21, 27, 46, 42, 180, 1, 130, 160, 0, 14, 42]
abbrev dktX5_leastToForget_0 : List UInt8 := dkwX5_leastToForget_0 ++ dktX5_leastToForget_1
theorem dksX5_leastToForget_0 : cX5_leastToForget.data.toList.drop 0 = dktX5_leastToForget_0 := by decide +kernel
theorem dksX5_leastToForget_1 : cX5_leastToForget.data.toList.drop 24 = dktX5_leastToForget_1 := dk_seg dksX5_leastToForget_0 24 rfl rfl
theorem dX5_leastToForget_0 : decode cX5_leastToForget 0 = .ok (.iconst 0, 1) := dk_3 (dk_at dksX5_leastToForget_0 0 rfl rfl)
theorem dX5_leastToForget_1 : decode cX5_leastToForget 1 = .ok (.istore_n 1, 1) := dk_60 (dk_at dksX5_leastToForget_0 1 rfl rfl)
theorem dX5_leastToForget_2 : decode cX5_leastToForget 2 = .ok (.iload_n 1, 1) := dk_27 (dk_at dksX5_leastToForget_0 2 rfl rfl)
theorem dX5_leastToForget_3 : decode cX5_leastToForget 3 = .ok (.aload_n 0, 1) := dk_42 (dk_at dksX5_leastToForget_0 3 rfl rfl)
theorem dX5_leastToForget_4 : decode cX5_leastToForget 4 = .ok (.getfield 143, 3) := dk_180 0 143 (dk_at dksX5_leastToForget_0 4 rfl rfl)
theorem dX5_leastToForget_7 : decode cX5_leastToForget 7 = .ok (.if_icmp .ge 33, 3) := dk_162 0 33 (dk_at dksX5_leastToForget_0 7 rfl rfl)
theorem dX5_leastToForget_10 : decode cX5_leastToForget 10 = .ok (.aload_n 0, 1) := dk_42 (dk_at dksX5_leastToForget_0 10 rfl rfl)
theorem dX5_leastToForget_11 : decode cX5_leastToForget 11 = .ok (.getfield 21, 3) := dk_180 0 21 (dk_at dksX5_leastToForget_0 11 rfl rfl)
theorem dX5_leastToForget_14 : decode cX5_leastToForget 14 = .ok (.iload_n 1, 1) := dk_27 (dk_at dksX5_leastToForget_0 14 rfl rfl)
theorem dX5_leastToForget_15 : decode cX5_leastToForget 15 = .ok (.iaload, 1) := dk_46 (dk_at dksX5_leastToForget_0 15 rfl rfl)
theorem dX5_leastToForget_16 : decode cX5_leastToForget 16 = .ok (.aload_n 0, 1) := dk_42 (dk_at dksX5_leastToForget_0 16 rfl rfl)
theorem dX5_leastToForget_17 : decode cX5_leastToForget 17 = .ok (.getfield 386, 3) := dk_180 1 130 (dk_at dksX5_leastToForget_0 17 rfl rfl)
theorem dX5_leastToForget_20 : decode cX5_leastToForget 20 = .ok (.if_icmp .ne 14, 3) := dk_160 0 14 (dk_at dksX5_leastToForget_0 20 rfl rfl)
theorem dX5_leastToForget_23 : decode cX5_leastToForget 23 = .ok (.aload_n 0, 1) := dk_42 (dk_at dksX5_leastToForget_0 23 rfl rfl)
theorem dX5_leastToForget_24 : decode cX5_leastToForget 24 = .ok (.getfield 36, 3) := dk_180 0 36 (dk_at dksX5_leastToForget_1 0 rfl rfl)
theorem dX5_leastToForget_27 : decode cX5_leastToForget 27 = .ok (.iload_n 1, 1) := dk_27 (dk_at dksX5_leastToForget_1 3 rfl rfl)
theorem dX5_leastToForget_28 : decode cX5_leastToForget 28 = .ok (.iaload, 1) := dk_46 (dk_at dksX5_leastToForget_1 4 rfl rfl)
theorem dX5_leastToForget_29 : decode cX5_leastToForget 29 = .ok (.ifCond .ne 5, 3) := dk_154 0 5 (dk_at dksX5_leastToForget_1 5 rfl rfl)
theorem dX5_leastToForget_32 : decode cX5_leastToForget 32 = .ok (.iload_n 1, 1) := dk_27 (dk_at dksX5_leastToForget_1 8 rfl rfl)
theorem dX5_leastToForget_33 : decode cX5_leastToForget 33 = .ok (.ireturn, 1) := dk_172 (dk_at dksX5_leastToForget_1 9 rfl rfl)
theorem dX5_leastToForget_34 : decode cX5_leastToForget 34 = .ok (.iinc 1 1, 3) := dk_132 1 1 (dk_at dksX5_leastToForget_1 10 rfl rfl)
theorem dX5_leastToForget_37 : decode cX5_leastToForget 37 = .ok (.goto (-35), 3) := dk_167 255 221 (dk_at dksX5_leastToForget_1 13 rfl rfl)
theorem dX5_leastToForget_40 : decode cX5_leastToForget 40 = .ok (.bipush (-2), 2) := dk_16 254 (dk_at dksX5_leastToForget_1 16 rfl rfl)
theorem dX5_leastToForget_42 : decode cX5_leastToForget 42 = .ok (.ireturn, 1) := dk_172 (dk_at dksX5_leastToForget_1 18 rfl rfl)
abbrev cX5_drawn : ByteArray := prog_25_method_91_code
def yX5_drawn : MethodName := ⟨RX5, "drawn", "(IIII)I"⟩
def dkwX5_drawn_7 : List UInt8 := [167, 255, 160, 21, 4, 156, 0, 8, 21, 6, 167, 0, 5, 21, 7, 172]
abbrev dktX5_drawn_7 : List UInt8 := dkwX5_drawn_7 ++ []
def dkwX5_drawn_6 : List UInt8 := [184, 1, 59, 54, 9, 132, 10, 1, 167, 255, 196, 21, 9, 21, 4, 160, 0, 6, 132, 7, 1, 132, 8, 1]
abbrev dktX5_drawn_6 : List UInt8 := dkwX5_drawn_6 ++ dktX5_drawn_7
def dkwX5_drawn_5 : List UInt8 := [182, 1, 53, 182, 1, 56, 153, 0, 9, 132, 6, 1, 167, 0, 17, 21, 9, 21, 5, 16, 8, 124, 8, 112]
abbrev dktX5_drawn_5 : List UInt8 := dkwX5_drawn_5 ++ dktX5_drawn_6
def dkwX5_drawn_4 : List UInt8 := [162, 0, 57, 21, 5, 19, 1, 152, 104, 17, 48, 57, 96, 54, 5, 42, 29, 21, 9, 42, 21, 10]
abbrev dktX5_drawn_4 : List UInt8 := dkwX5_drawn_4 ++ dktX5_drawn_5
def dkwX5_drawn_3 : List UInt8 := [16, 100, 108, 162, 0, 93, 42, 180, 0, 9, 29, 46, 54, 9, 3, 54, 10, 21, 10, 28, 16, 100, 112]
abbrev dktX5_drawn_3 : List UInt8 := dkwX5_drawn_3 ++ dktX5_drawn_4
def dkwX5_drawn_2 : List UInt8 := [184, 0, 150, 154, 0, 5, 2, 172, 27, 54, 5, 3, 54, 6, 3, 54, 7, 3, 54, 8, 21, 8, 28]
abbrev dktX5_drawn_2 : List UInt8 := dkwX5_drawn_2 ++ dktX5_drawn_3
def dkwX5_drawn_1 : List UInt8 := [184, 0, 136, 153, 0, 25, 42, 29, 182, 0, 146, 153, 0, 17, 21, 4, 2, 159, 0, 13, 21, 4]
abbrev dktX5_drawn_1 : List UInt8 := dkwX5_drawn_1 ++ dktX5_drawn_2
def dkwX5_drawn_0 : List UInt8 := [28, 155, 0, 51, 28, 16, 100, 108, 4, 16, 30, 184, 0, 136, 153, 0, 38, 28, 16, 100, 112, 4, 16, 40]
abbrev dktX5_drawn_0 : List UInt8 := dkwX5_drawn_0 ++ dktX5_drawn_1
theorem dksX5_drawn_0 : cX5_drawn.data.toList.drop 0 = dktX5_drawn_0 := by decide +kernel
theorem dksX5_drawn_1 : cX5_drawn.data.toList.drop 24 = dktX5_drawn_1 := dk_seg dksX5_drawn_0 24 rfl rfl
theorem dksX5_drawn_2 : cX5_drawn.data.toList.drop 46 = dktX5_drawn_2 := dk_seg dksX5_drawn_1 22 rfl rfl
theorem dksX5_drawn_3 : cX5_drawn.data.toList.drop 69 = dktX5_drawn_3 := dk_seg dksX5_drawn_2 23 rfl rfl
theorem dksX5_drawn_4 : cX5_drawn.data.toList.drop 92 = dktX5_drawn_4 := dk_seg dksX5_drawn_3 23 rfl rfl
theorem dksX5_drawn_5 : cX5_drawn.data.toList.drop 114 = dktX5_drawn_5 := dk_seg dksX5_drawn_4 22 rfl rfl
theorem dksX5_drawn_6 : cX5_drawn.data.toList.drop 138 = dktX5_drawn_6 := dk_seg dksX5_drawn_5 24 rfl rfl
theorem dksX5_drawn_7 : cX5_drawn.data.toList.drop 162 = dktX5_drawn_7 := dk_seg dksX5_drawn_6 24 rfl rfl
theorem dX5_drawn_0 : decode cX5_drawn 0 = .ok (.iload_n 2, 1) := dk_28 (dk_at dksX5_drawn_0 0 rfl rfl)
theorem dX5_drawn_1 : decode cX5_drawn 1 = .ok (.ifCond .lt 51, 3) := dk_155 0 51 (dk_at dksX5_drawn_0 1 rfl rfl)
theorem dX5_drawn_4 : decode cX5_drawn 4 = .ok (.iload_n 2, 1) := dk_28 (dk_at dksX5_drawn_0 4 rfl rfl)
theorem dX5_drawn_5 : decode cX5_drawn 5 = .ok (.bipush 100, 2) := dk_16 100 (dk_at dksX5_drawn_0 5 rfl rfl)
theorem dX5_drawn_7 : decode cX5_drawn 7 = .ok (.idiv, 1) := dk_108 (dk_at dksX5_drawn_0 7 rfl rfl)
theorem dX5_drawn_8 : decode cX5_drawn 8 = .ok (.iconst 1, 1) := dk_4 (dk_at dksX5_drawn_0 8 rfl rfl)
theorem dX5_drawn_9 : decode cX5_drawn 9 = .ok (.bipush 30, 2) := dk_16 30 (dk_at dksX5_drawn_0 9 rfl rfl)
theorem dX5_drawn_11 : decode cX5_drawn 11 = .ok (.invokestatic 136, 3) := dk_184 0 136 (dk_at dksX5_drawn_0 11 rfl rfl)
theorem dX5_drawn_14 : decode cX5_drawn 14 = .ok (.ifCond .eq 38, 3) := dk_153 0 38 (dk_at dksX5_drawn_0 14 rfl rfl)
theorem dX5_drawn_17 : decode cX5_drawn 17 = .ok (.iload_n 2, 1) := dk_28 (dk_at dksX5_drawn_0 17 rfl rfl)
theorem dX5_drawn_18 : decode cX5_drawn 18 = .ok (.bipush 100, 2) := dk_16 100 (dk_at dksX5_drawn_0 18 rfl rfl)
theorem dX5_drawn_20 : decode cX5_drawn 20 = .ok (.irem, 1) := dk_112 (dk_at dksX5_drawn_0 20 rfl rfl)
theorem dX5_drawn_21 : decode cX5_drawn 21 = .ok (.iconst 1, 1) := dk_4 (dk_at dksX5_drawn_0 21 rfl rfl)
theorem dX5_drawn_22 : decode cX5_drawn 22 = .ok (.bipush 40, 2) := dk_16 40 (dk_at dksX5_drawn_0 22 rfl rfl)
theorem dX5_drawn_24 : decode cX5_drawn 24 = .ok (.invokestatic 136, 3) := dk_184 0 136 (dk_at dksX5_drawn_1 0 rfl rfl)
theorem dX5_drawn_27 : decode cX5_drawn 27 = .ok (.ifCond .eq 25, 3) := dk_153 0 25 (dk_at dksX5_drawn_1 3 rfl rfl)
theorem dX5_drawn_30 : decode cX5_drawn 30 = .ok (.aload_n 0, 1) := dk_42 (dk_at dksX5_drawn_1 6 rfl rfl)
theorem dX5_drawn_31 : decode cX5_drawn 31 = .ok (.iload_n 3, 1) := dk_29 (dk_at dksX5_drawn_1 7 rfl rfl)
theorem dX5_drawn_32 : decode cX5_drawn 32 = .ok (.invokevirtual 146, 3) := dk_182 0 146 (dk_at dksX5_drawn_1 8 rfl rfl)
theorem dX5_drawn_35 : decode cX5_drawn 35 = .ok (.ifCond .eq 17, 3) := dk_153 0 17 (dk_at dksX5_drawn_1 11 rfl rfl)
theorem dX5_drawn_38 : decode cX5_drawn 38 = .ok (.iload 4, 2) := dk_21 4 (dk_at dksX5_drawn_1 14 rfl rfl)
theorem dX5_drawn_40 : decode cX5_drawn 40 = .ok (.iconst (-1), 1) := dk_2 (dk_at dksX5_drawn_1 16 rfl rfl)
theorem dX5_drawn_41 : decode cX5_drawn 41 = .ok (.if_icmp .eq 13, 3) := dk_159 0 13 (dk_at dksX5_drawn_1 17 rfl rfl)
theorem dX5_drawn_44 : decode cX5_drawn 44 = .ok (.iload 4, 2) := dk_21 4 (dk_at dksX5_drawn_1 20 rfl rfl)
theorem dX5_drawn_46 : decode cX5_drawn 46 = .ok (.invokestatic 150, 3) := dk_184 0 150 (dk_at dksX5_drawn_2 0 rfl rfl)
theorem dX5_drawn_49 : decode cX5_drawn 49 = .ok (.ifCond .ne 5, 3) := dk_154 0 5 (dk_at dksX5_drawn_2 3 rfl rfl)
theorem dX5_drawn_52 : decode cX5_drawn 52 = .ok (.iconst (-1), 1) := dk_2 (dk_at dksX5_drawn_2 6 rfl rfl)
theorem dX5_drawn_53 : decode cX5_drawn 53 = .ok (.ireturn, 1) := dk_172 (dk_at dksX5_drawn_2 7 rfl rfl)
theorem dX5_drawn_54 : decode cX5_drawn 54 = .ok (.iload_n 1, 1) := dk_27 (dk_at dksX5_drawn_2 8 rfl rfl)
theorem dX5_drawn_55 : decode cX5_drawn 55 = .ok (.istore 5, 2) := dk_54 5 (dk_at dksX5_drawn_2 9 rfl rfl)
theorem dX5_drawn_57 : decode cX5_drawn 57 = .ok (.iconst 0, 1) := dk_3 (dk_at dksX5_drawn_2 11 rfl rfl)
theorem dX5_drawn_58 : decode cX5_drawn 58 = .ok (.istore 6, 2) := dk_54 6 (dk_at dksX5_drawn_2 12 rfl rfl)
theorem dX5_drawn_60 : decode cX5_drawn 60 = .ok (.iconst 0, 1) := dk_3 (dk_at dksX5_drawn_2 14 rfl rfl)
theorem dX5_drawn_61 : decode cX5_drawn 61 = .ok (.istore 7, 2) := dk_54 7 (dk_at dksX5_drawn_2 15 rfl rfl)
theorem dX5_drawn_63 : decode cX5_drawn 63 = .ok (.iconst 0, 1) := dk_3 (dk_at dksX5_drawn_2 17 rfl rfl)
theorem dX5_drawn_64 : decode cX5_drawn 64 = .ok (.istore 8, 2) := dk_54 8 (dk_at dksX5_drawn_2 18 rfl rfl)
theorem dX5_drawn_66 : decode cX5_drawn 66 = .ok (.iload 8, 2) := dk_21 8 (dk_at dksX5_drawn_2 20 rfl rfl)
theorem dX5_drawn_68 : decode cX5_drawn 68 = .ok (.iload_n 2, 1) := dk_28 (dk_at dksX5_drawn_2 22 rfl rfl)
theorem dX5_drawn_69 : decode cX5_drawn 69 = .ok (.bipush 100, 2) := dk_16 100 (dk_at dksX5_drawn_3 0 rfl rfl)
theorem dX5_drawn_71 : decode cX5_drawn 71 = .ok (.idiv, 1) := dk_108 (dk_at dksX5_drawn_3 2 rfl rfl)
theorem dX5_drawn_72 : decode cX5_drawn 72 = .ok (.if_icmp .ge 93, 3) := dk_162 0 93 (dk_at dksX5_drawn_3 3 rfl rfl)
theorem dX5_drawn_75 : decode cX5_drawn 75 = .ok (.aload_n 0, 1) := dk_42 (dk_at dksX5_drawn_3 6 rfl rfl)
theorem dX5_drawn_76 : decode cX5_drawn 76 = .ok (.getfield 9, 3) := dk_180 0 9 (dk_at dksX5_drawn_3 7 rfl rfl)
theorem dX5_drawn_79 : decode cX5_drawn 79 = .ok (.iload_n 3, 1) := dk_29 (dk_at dksX5_drawn_3 10 rfl rfl)
theorem dX5_drawn_80 : decode cX5_drawn 80 = .ok (.iaload, 1) := dk_46 (dk_at dksX5_drawn_3 11 rfl rfl)
theorem dX5_drawn_81 : decode cX5_drawn 81 = .ok (.istore 9, 2) := dk_54 9 (dk_at dksX5_drawn_3 12 rfl rfl)
theorem dX5_drawn_83 : decode cX5_drawn 83 = .ok (.iconst 0, 1) := dk_3 (dk_at dksX5_drawn_3 14 rfl rfl)
theorem dX5_drawn_84 : decode cX5_drawn 84 = .ok (.istore 10, 2) := dk_54 10 (dk_at dksX5_drawn_3 15 rfl rfl)
theorem dX5_drawn_86 : decode cX5_drawn 86 = .ok (.iload 10, 2) := dk_21 10 (dk_at dksX5_drawn_3 17 rfl rfl)
theorem dX5_drawn_88 : decode cX5_drawn 88 = .ok (.iload_n 2, 1) := dk_28 (dk_at dksX5_drawn_3 19 rfl rfl)
theorem dX5_drawn_89 : decode cX5_drawn 89 = .ok (.bipush 100, 2) := dk_16 100 (dk_at dksX5_drawn_3 20 rfl rfl)
theorem dX5_drawn_91 : decode cX5_drawn 91 = .ok (.irem, 1) := dk_112 (dk_at dksX5_drawn_3 22 rfl rfl)
theorem dX5_drawn_92 : decode cX5_drawn 92 = .ok (.if_icmp .ge 57, 3) := dk_162 0 57 (dk_at dksX5_drawn_4 0 rfl rfl)
theorem dX5_drawn_95 : decode cX5_drawn 95 = .ok (.iload 5, 2) := dk_21 5 (dk_at dksX5_drawn_4 3 rfl rfl)
theorem dX5_drawn_97 : decode cX5_drawn 97 = .ok (.ldc_w 408, 3) := dk_19 1 152 (dk_at dksX5_drawn_4 5 rfl rfl)
theorem dX5_drawn_100 : decode cX5_drawn 100 = .ok (.imul, 1) := dk_104 (dk_at dksX5_drawn_4 8 rfl rfl)
theorem dX5_drawn_101 : decode cX5_drawn 101 = .ok (.sipush 12345, 3) := dk_17 48 57 (dk_at dksX5_drawn_4 9 rfl rfl)
theorem dX5_drawn_104 : decode cX5_drawn 104 = .ok (.iadd, 1) := dk_96 (dk_at dksX5_drawn_4 12 rfl rfl)
theorem dX5_drawn_105 : decode cX5_drawn 105 = .ok (.istore 5, 2) := dk_54 5 (dk_at dksX5_drawn_4 13 rfl rfl)
theorem dX5_drawn_107 : decode cX5_drawn 107 = .ok (.aload_n 0, 1) := dk_42 (dk_at dksX5_drawn_4 15 rfl rfl)
theorem dX5_drawn_108 : decode cX5_drawn 108 = .ok (.iload_n 3, 1) := dk_29 (dk_at dksX5_drawn_4 16 rfl rfl)
theorem dX5_drawn_109 : decode cX5_drawn 109 = .ok (.iload 9, 2) := dk_21 9 (dk_at dksX5_drawn_4 17 rfl rfl)
theorem dX5_drawn_111 : decode cX5_drawn 111 = .ok (.aload_n 0, 1) := dk_42 (dk_at dksX5_drawn_4 19 rfl rfl)
theorem dX5_drawn_112 : decode cX5_drawn 112 = .ok (.iload 10, 2) := dk_21 10 (dk_at dksX5_drawn_4 20 rfl rfl)
theorem dX5_drawn_114 : decode cX5_drawn 114 = .ok (.invokevirtual 309, 3) := dk_182 1 53 (dk_at dksX5_drawn_5 0 rfl rfl)
theorem dX5_drawn_117 : decode cX5_drawn 117 = .ok (.invokevirtual 312, 3) := dk_182 1 56 (dk_at dksX5_drawn_5 3 rfl rfl)
theorem dX5_drawn_120 : decode cX5_drawn 120 = .ok (.ifCond .eq 9, 3) := dk_153 0 9 (dk_at dksX5_drawn_5 6 rfl rfl)
theorem dX5_drawn_123 : decode cX5_drawn 123 = .ok (.iinc 6 1, 3) := dk_132 6 1 (dk_at dksX5_drawn_5 9 rfl rfl)
theorem dX5_drawn_126 : decode cX5_drawn 126 = .ok (.goto 17, 3) := dk_167 0 17 (dk_at dksX5_drawn_5 12 rfl rfl)
theorem dX5_drawn_129 : decode cX5_drawn 129 = .ok (.iload 9, 2) := dk_21 9 (dk_at dksX5_drawn_5 15 rfl rfl)
theorem dX5_drawn_131 : decode cX5_drawn 131 = .ok (.iload 5, 2) := dk_21 5 (dk_at dksX5_drawn_5 17 rfl rfl)
theorem dX5_drawn_133 : decode cX5_drawn 133 = .ok (.bipush 8, 2) := dk_16 8 (dk_at dksX5_drawn_5 19 rfl rfl)
theorem dX5_drawn_135 : decode cX5_drawn 135 = .ok (.iushr, 1) := dk_124 (dk_at dksX5_drawn_5 21 rfl rfl)
theorem dX5_drawn_136 : decode cX5_drawn 136 = .ok (.iconst 5, 1) := dk_8 (dk_at dksX5_drawn_5 22 rfl rfl)
theorem dX5_drawn_137 : decode cX5_drawn 137 = .ok (.irem, 1) := dk_112 (dk_at dksX5_drawn_5 23 rfl rfl)
theorem dX5_drawn_138 : decode cX5_drawn 138 = .ok (.invokestatic 315, 3) := dk_184 1 59 (dk_at dksX5_drawn_6 0 rfl rfl)
theorem dX5_drawn_141 : decode cX5_drawn 141 = .ok (.istore 9, 2) := dk_54 9 (dk_at dksX5_drawn_6 3 rfl rfl)
theorem dX5_drawn_143 : decode cX5_drawn 143 = .ok (.iinc 10 1, 3) := dk_132 10 1 (dk_at dksX5_drawn_6 5 rfl rfl)
theorem dX5_drawn_146 : decode cX5_drawn 146 = .ok (.goto (-60), 3) := dk_167 255 196 (dk_at dksX5_drawn_6 8 rfl rfl)
theorem dX5_drawn_149 : decode cX5_drawn 149 = .ok (.iload 9, 2) := dk_21 9 (dk_at dksX5_drawn_6 11 rfl rfl)
theorem dX5_drawn_151 : decode cX5_drawn 151 = .ok (.iload 4, 2) := dk_21 4 (dk_at dksX5_drawn_6 13 rfl rfl)
theorem dX5_drawn_153 : decode cX5_drawn 153 = .ok (.if_icmp .ne 6, 3) := dk_160 0 6 (dk_at dksX5_drawn_6 15 rfl rfl)
theorem dX5_drawn_156 : decode cX5_drawn 156 = .ok (.iinc 7 1, 3) := dk_132 7 1 (dk_at dksX5_drawn_6 18 rfl rfl)
theorem dX5_drawn_159 : decode cX5_drawn 159 = .ok (.iinc 8 1, 3) := dk_132 8 1 (dk_at dksX5_drawn_6 21 rfl rfl)
theorem dX5_drawn_162 : decode cX5_drawn 162 = .ok (.goto (-96), 3) := dk_167 255 160 (dk_at dksX5_drawn_7 0 rfl rfl)
theorem dX5_drawn_165 : decode cX5_drawn 165 = .ok (.iload 4, 2) := dk_21 4 (dk_at dksX5_drawn_7 3 rfl rfl)
theorem dX5_drawn_167 : decode cX5_drawn 167 = .ok (.ifCond .ge 8, 3) := dk_156 0 8 (dk_at dksX5_drawn_7 5 rfl rfl)
theorem dX5_drawn_170 : decode cX5_drawn 170 = .ok (.iload 6, 2) := dk_21 6 (dk_at dksX5_drawn_7 8 rfl rfl)
theorem dX5_drawn_172 : decode cX5_drawn 172 = .ok (.goto 5, 3) := dk_167 0 5 (dk_at dksX5_drawn_7 10 rfl rfl)
theorem dX5_drawn_175 : decode cX5_drawn 175 = .ok (.iload 7, 2) := dk_21 7 (dk_at dksX5_drawn_7 13 rfl rfl)
theorem dX5_drawn_177 : decode cX5_drawn 177 = .ok (.ireturn, 1) := dk_172 (dk_at dksX5_drawn_7 15 rfl rfl)
abbrev cX5_step : ByteArray := prog_25_method_92_code
def yX5_step : MethodName := ⟨RX5, "step", "(II)I"⟩
def dkwX5_step_3 : List UInt8 := [42, 180, 0, 46, 4, 92, 46, 4, 96, 79, 42, 180, 0, 9, 27, 46, 172]
abbrev dktX5_step_3 : List UInt8 := dkwX5_step_3 ++ []
def dkwX5_step_2 : List UInt8 := [79, 42, 180, 0, 9, 27, 46, 172, 42, 180, 0, 9, 27, 42, 180, 0, 9, 27, 46, 28, 184, 1, 59, 79]
abbrev dktX5_step_2 : List UInt8 := dkwX5_step_2 ++ dktX5_step_3
def dkwX5_step_1 : List UInt8 := [180, 0, 9, 27, 46, 42, 180, 0, 153, 182, 1, 56, 153, 0, 20, 42, 180, 0, 46, 5, 92, 46, 4, 96]
abbrev dktX5_step_1 : List UInt8 := dkwX5_step_1 ++ dktX5_step_2
def dkwX5_step_0 : List UInt8 := [42, 27, 182, 0, 146, 153, 0, 12, 28, 3, 7, 184, 0, 136, 154, 0, 5, 2, 172, 42, 27, 42]
abbrev dktX5_step_0 : List UInt8 := dkwX5_step_0 ++ dktX5_step_1
theorem dksX5_step_0 : cX5_step.data.toList.drop 0 = dktX5_step_0 := by decide +kernel
theorem dksX5_step_1 : cX5_step.data.toList.drop 22 = dktX5_step_1 := dk_seg dksX5_step_0 22 rfl rfl
theorem dksX5_step_2 : cX5_step.data.toList.drop 46 = dktX5_step_2 := dk_seg dksX5_step_1 24 rfl rfl
theorem dksX5_step_3 : cX5_step.data.toList.drop 70 = dktX5_step_3 := dk_seg dksX5_step_2 24 rfl rfl
theorem dX5_step_0 : decode cX5_step 0 = .ok (.aload_n 0, 1) := dk_42 (dk_at dksX5_step_0 0 rfl rfl)
theorem dX5_step_1 : decode cX5_step 1 = .ok (.iload_n 1, 1) := dk_27 (dk_at dksX5_step_0 1 rfl rfl)
theorem dX5_step_2 : decode cX5_step 2 = .ok (.invokevirtual 146, 3) := dk_182 0 146 (dk_at dksX5_step_0 2 rfl rfl)
theorem dX5_step_5 : decode cX5_step 5 = .ok (.ifCond .eq 12, 3) := dk_153 0 12 (dk_at dksX5_step_0 5 rfl rfl)
theorem dX5_step_8 : decode cX5_step 8 = .ok (.iload_n 2, 1) := dk_28 (dk_at dksX5_step_0 8 rfl rfl)
theorem dX5_step_9 : decode cX5_step 9 = .ok (.iconst 0, 1) := dk_3 (dk_at dksX5_step_0 9 rfl rfl)
theorem dX5_step_10 : decode cX5_step 10 = .ok (.iconst 4, 1) := dk_7 (dk_at dksX5_step_0 10 rfl rfl)
theorem dX5_step_11 : decode cX5_step 11 = .ok (.invokestatic 136, 3) := dk_184 0 136 (dk_at dksX5_step_0 11 rfl rfl)
theorem dX5_step_14 : decode cX5_step 14 = .ok (.ifCond .ne 5, 3) := dk_154 0 5 (dk_at dksX5_step_0 14 rfl rfl)
theorem dX5_step_17 : decode cX5_step 17 = .ok (.iconst (-1), 1) := dk_2 (dk_at dksX5_step_0 17 rfl rfl)
theorem dX5_step_18 : decode cX5_step 18 = .ok (.ireturn, 1) := dk_172 (dk_at dksX5_step_0 18 rfl rfl)
theorem dX5_step_19 : decode cX5_step 19 = .ok (.aload_n 0, 1) := dk_42 (dk_at dksX5_step_0 19 rfl rfl)
theorem dX5_step_20 : decode cX5_step 20 = .ok (.iload_n 1, 1) := dk_27 (dk_at dksX5_step_0 20 rfl rfl)
theorem dX5_step_21 : decode cX5_step 21 = .ok (.aload_n 0, 1) := dk_42 (dk_at dksX5_step_0 21 rfl rfl)
theorem dX5_step_22 : decode cX5_step 22 = .ok (.getfield 9, 3) := dk_180 0 9 (dk_at dksX5_step_1 0 rfl rfl)
theorem dX5_step_25 : decode cX5_step 25 = .ok (.iload_n 1, 1) := dk_27 (dk_at dksX5_step_1 3 rfl rfl)
theorem dX5_step_26 : decode cX5_step 26 = .ok (.iaload, 1) := dk_46 (dk_at dksX5_step_1 4 rfl rfl)
theorem dX5_step_27 : decode cX5_step 27 = .ok (.aload_n 0, 1) := dk_42 (dk_at dksX5_step_1 5 rfl rfl)
theorem dX5_step_28 : decode cX5_step 28 = .ok (.getfield 153, 3) := dk_180 0 153 (dk_at dksX5_step_1 6 rfl rfl)
theorem dX5_step_31 : decode cX5_step 31 = .ok (.invokevirtual 312, 3) := dk_182 1 56 (dk_at dksX5_step_1 9 rfl rfl)
theorem dX5_step_34 : decode cX5_step 34 = .ok (.ifCond .eq 20, 3) := dk_153 0 20 (dk_at dksX5_step_1 12 rfl rfl)
theorem dX5_step_37 : decode cX5_step 37 = .ok (.aload_n 0, 1) := dk_42 (dk_at dksX5_step_1 15 rfl rfl)
theorem dX5_step_38 : decode cX5_step 38 = .ok (.getfield 46, 3) := dk_180 0 46 (dk_at dksX5_step_1 16 rfl rfl)
theorem dX5_step_41 : decode cX5_step 41 = .ok (.iconst 2, 1) := dk_5 (dk_at dksX5_step_1 19 rfl rfl)
theorem dX5_step_42 : decode cX5_step 42 = .ok (.dup2, 1) := dk_92 (dk_at dksX5_step_1 20 rfl rfl)
theorem dX5_step_43 : decode cX5_step 43 = .ok (.iaload, 1) := dk_46 (dk_at dksX5_step_1 21 rfl rfl)
theorem dX5_step_44 : decode cX5_step 44 = .ok (.iconst 1, 1) := dk_4 (dk_at dksX5_step_1 22 rfl rfl)
theorem dX5_step_45 : decode cX5_step 45 = .ok (.iadd, 1) := dk_96 (dk_at dksX5_step_1 23 rfl rfl)
theorem dX5_step_46 : decode cX5_step 46 = .ok (.iastore, 1) := dk_79 (dk_at dksX5_step_2 0 rfl rfl)
theorem dX5_step_47 : decode cX5_step 47 = .ok (.aload_n 0, 1) := dk_42 (dk_at dksX5_step_2 1 rfl rfl)
theorem dX5_step_48 : decode cX5_step 48 = .ok (.getfield 9, 3) := dk_180 0 9 (dk_at dksX5_step_2 2 rfl rfl)
theorem dX5_step_51 : decode cX5_step 51 = .ok (.iload_n 1, 1) := dk_27 (dk_at dksX5_step_2 5 rfl rfl)
theorem dX5_step_52 : decode cX5_step 52 = .ok (.iaload, 1) := dk_46 (dk_at dksX5_step_2 6 rfl rfl)
theorem dX5_step_53 : decode cX5_step 53 = .ok (.ireturn, 1) := dk_172 (dk_at dksX5_step_2 7 rfl rfl)
theorem dX5_step_54 : decode cX5_step 54 = .ok (.aload_n 0, 1) := dk_42 (dk_at dksX5_step_2 8 rfl rfl)
theorem dX5_step_55 : decode cX5_step 55 = .ok (.getfield 9, 3) := dk_180 0 9 (dk_at dksX5_step_2 9 rfl rfl)
theorem dX5_step_58 : decode cX5_step 58 = .ok (.iload_n 1, 1) := dk_27 (dk_at dksX5_step_2 12 rfl rfl)
theorem dX5_step_59 : decode cX5_step 59 = .ok (.aload_n 0, 1) := dk_42 (dk_at dksX5_step_2 13 rfl rfl)
theorem dX5_step_60 : decode cX5_step 60 = .ok (.getfield 9, 3) := dk_180 0 9 (dk_at dksX5_step_2 14 rfl rfl)
theorem dX5_step_63 : decode cX5_step 63 = .ok (.iload_n 1, 1) := dk_27 (dk_at dksX5_step_2 17 rfl rfl)
theorem dX5_step_64 : decode cX5_step 64 = .ok (.iaload, 1) := dk_46 (dk_at dksX5_step_2 18 rfl rfl)
theorem dX5_step_65 : decode cX5_step 65 = .ok (.iload_n 2, 1) := dk_28 (dk_at dksX5_step_2 19 rfl rfl)
theorem dX5_step_66 : decode cX5_step 66 = .ok (.invokestatic 315, 3) := dk_184 1 59 (dk_at dksX5_step_2 20 rfl rfl)
theorem dX5_step_69 : decode cX5_step 69 = .ok (.iastore, 1) := dk_79 (dk_at dksX5_step_2 23 rfl rfl)
theorem dX5_step_70 : decode cX5_step 70 = .ok (.aload_n 0, 1) := dk_42 (dk_at dksX5_step_3 0 rfl rfl)
theorem dX5_step_71 : decode cX5_step 71 = .ok (.getfield 46, 3) := dk_180 0 46 (dk_at dksX5_step_3 1 rfl rfl)
theorem dX5_step_74 : decode cX5_step 74 = .ok (.iconst 1, 1) := dk_4 (dk_at dksX5_step_3 4 rfl rfl)
theorem dX5_step_75 : decode cX5_step 75 = .ok (.dup2, 1) := dk_92 (dk_at dksX5_step_3 5 rfl rfl)
theorem dX5_step_76 : decode cX5_step 76 = .ok (.iaload, 1) := dk_46 (dk_at dksX5_step_3 6 rfl rfl)
theorem dX5_step_77 : decode cX5_step 77 = .ok (.iconst 1, 1) := dk_4 (dk_at dksX5_step_3 7 rfl rfl)
theorem dX5_step_78 : decode cX5_step 78 = .ok (.iadd, 1) := dk_96 (dk_at dksX5_step_3 8 rfl rfl)
theorem dX5_step_79 : decode cX5_step 79 = .ok (.iastore, 1) := dk_79 (dk_at dksX5_step_3 9 rfl rfl)
theorem dX5_step_80 : decode cX5_step 80 = .ok (.aload_n 0, 1) := dk_42 (dk_at dksX5_step_3 10 rfl rfl)
theorem dX5_step_81 : decode cX5_step 81 = .ok (.getfield 9, 3) := dk_180 0 9 (dk_at dksX5_step_3 11 rfl rfl)
theorem dX5_step_84 : decode cX5_step 84 = .ok (.iload_n 1, 1) := dk_27 (dk_at dksX5_step_3 14 rfl rfl)
theorem dX5_step_85 : decode cX5_step 85 = .ok (.iaload, 1) := dk_46 (dk_at dksX5_step_3 15 rfl rfl)
theorem dX5_step_86 : decode cX5_step 86 = .ok (.ireturn, 1) := dk_172 (dk_at dksX5_step_3 16 rfl rfl)
abbrev cX5_pull : ByteArray := prog_25_method_93_code
def yX5_pull : MethodName := ⟨RX5, "pull", "(I)I"⟩
def dkwX5_pull_3 : List UInt8 := [96, 79, 42, 180, 0, 15, 28, 46, 172]
abbrev dktX5_pull_3 : List UInt8 := dkwX5_pull_3 ++ []
def dkwX5_pull_2 : List UInt8 := [180, 0, 39, 27, 4, 79, 42, 180, 0, 15, 28, 92, 46, 4, 100, 79, 42, 180, 0, 46, 6, 92, 46, 4]
abbrev dktX5_pull_2 : List UInt8 := dkwX5_pull_2 ++ dktX5_pull_3
def dkwX5_pull_1 : List UInt8 := [46, 42, 180, 0, 153, 182, 1, 23, 153, 0, 12, 42, 180, 0, 15, 28, 46, 154, 0, 6, 16, 251, 172, 42]
abbrev dktX5_pull_1 : List UInt8 := dkwX5_pull_1 ++ dktX5_pull_2
def dkwX5_pull_0 : List UInt8 := [42, 27, 182, 0, 183, 154, 0, 5, 2, 172, 42, 180, 0, 18, 27, 46, 61, 42, 27, 42, 180, 0, 9, 28]
abbrev dktX5_pull_0 : List UInt8 := dkwX5_pull_0 ++ dktX5_pull_1
theorem dksX5_pull_0 : cX5_pull.data.toList.drop 0 = dktX5_pull_0 := by decide +kernel
theorem dksX5_pull_1 : cX5_pull.data.toList.drop 24 = dktX5_pull_1 := dk_seg dksX5_pull_0 24 rfl rfl
theorem dksX5_pull_2 : cX5_pull.data.toList.drop 48 = dktX5_pull_2 := dk_seg dksX5_pull_1 24 rfl rfl
theorem dksX5_pull_3 : cX5_pull.data.toList.drop 72 = dktX5_pull_3 := dk_seg dksX5_pull_2 24 rfl rfl
theorem dX5_pull_0 : decode cX5_pull 0 = .ok (.aload_n 0, 1) := dk_42 (dk_at dksX5_pull_0 0 rfl rfl)
theorem dX5_pull_1 : decode cX5_pull 1 = .ok (.iload_n 1, 1) := dk_27 (dk_at dksX5_pull_0 1 rfl rfl)
theorem dX5_pull_2 : decode cX5_pull 2 = .ok (.invokevirtual 183, 3) := dk_182 0 183 (dk_at dksX5_pull_0 2 rfl rfl)
theorem dX5_pull_5 : decode cX5_pull 5 = .ok (.ifCond .ne 5, 3) := dk_154 0 5 (dk_at dksX5_pull_0 5 rfl rfl)
theorem dX5_pull_8 : decode cX5_pull 8 = .ok (.iconst (-1), 1) := dk_2 (dk_at dksX5_pull_0 8 rfl rfl)
theorem dX5_pull_9 : decode cX5_pull 9 = .ok (.ireturn, 1) := dk_172 (dk_at dksX5_pull_0 9 rfl rfl)
theorem dX5_pull_10 : decode cX5_pull 10 = .ok (.aload_n 0, 1) := dk_42 (dk_at dksX5_pull_0 10 rfl rfl)
theorem dX5_pull_11 : decode cX5_pull 11 = .ok (.getfield 18, 3) := dk_180 0 18 (dk_at dksX5_pull_0 11 rfl rfl)
theorem dX5_pull_14 : decode cX5_pull 14 = .ok (.iload_n 1, 1) := dk_27 (dk_at dksX5_pull_0 14 rfl rfl)
theorem dX5_pull_15 : decode cX5_pull 15 = .ok (.iaload, 1) := dk_46 (dk_at dksX5_pull_0 15 rfl rfl)
theorem dX5_pull_16 : decode cX5_pull 16 = .ok (.istore_n 2, 1) := dk_61 (dk_at dksX5_pull_0 16 rfl rfl)
theorem dX5_pull_17 : decode cX5_pull 17 = .ok (.aload_n 0, 1) := dk_42 (dk_at dksX5_pull_0 17 rfl rfl)
theorem dX5_pull_18 : decode cX5_pull 18 = .ok (.iload_n 1, 1) := dk_27 (dk_at dksX5_pull_0 18 rfl rfl)
theorem dX5_pull_19 : decode cX5_pull 19 = .ok (.aload_n 0, 1) := dk_42 (dk_at dksX5_pull_0 19 rfl rfl)
theorem dX5_pull_20 : decode cX5_pull 20 = .ok (.getfield 9, 3) := dk_180 0 9 (dk_at dksX5_pull_0 20 rfl rfl)
theorem dX5_pull_23 : decode cX5_pull 23 = .ok (.iload_n 2, 1) := dk_28 (dk_at dksX5_pull_0 23 rfl rfl)
theorem dX5_pull_24 : decode cX5_pull 24 = .ok (.iaload, 1) := dk_46 (dk_at dksX5_pull_1 0 rfl rfl)
theorem dX5_pull_25 : decode cX5_pull 25 = .ok (.aload_n 0, 1) := dk_42 (dk_at dksX5_pull_1 1 rfl rfl)
theorem dX5_pull_26 : decode cX5_pull 26 = .ok (.getfield 153, 3) := dk_180 0 153 (dk_at dksX5_pull_1 2 rfl rfl)
theorem dX5_pull_29 : decode cX5_pull 29 = .ok (.invokevirtual 279, 3) := dk_182 1 23 (dk_at dksX5_pull_1 5 rfl rfl)
theorem dX5_pull_32 : decode cX5_pull 32 = .ok (.ifCond .eq 12, 3) := dk_153 0 12 (dk_at dksX5_pull_1 8 rfl rfl)
theorem dX5_pull_35 : decode cX5_pull 35 = .ok (.aload_n 0, 1) := dk_42 (dk_at dksX5_pull_1 11 rfl rfl)
theorem dX5_pull_36 : decode cX5_pull 36 = .ok (.getfield 15, 3) := dk_180 0 15 (dk_at dksX5_pull_1 12 rfl rfl)
theorem dX5_pull_39 : decode cX5_pull 39 = .ok (.iload_n 2, 1) := dk_28 (dk_at dksX5_pull_1 15 rfl rfl)
theorem dX5_pull_40 : decode cX5_pull 40 = .ok (.iaload, 1) := dk_46 (dk_at dksX5_pull_1 16 rfl rfl)
theorem dX5_pull_41 : decode cX5_pull 41 = .ok (.ifCond .ne 6, 3) := dk_154 0 6 (dk_at dksX5_pull_1 17 rfl rfl)
theorem dX5_pull_44 : decode cX5_pull 44 = .ok (.bipush (-5), 2) := dk_16 251 (dk_at dksX5_pull_1 20 rfl rfl)
theorem dX5_pull_46 : decode cX5_pull 46 = .ok (.ireturn, 1) := dk_172 (dk_at dksX5_pull_1 22 rfl rfl)
theorem dX5_pull_47 : decode cX5_pull 47 = .ok (.aload_n 0, 1) := dk_42 (dk_at dksX5_pull_1 23 rfl rfl)
theorem dX5_pull_48 : decode cX5_pull 48 = .ok (.getfield 39, 3) := dk_180 0 39 (dk_at dksX5_pull_2 0 rfl rfl)
theorem dX5_pull_51 : decode cX5_pull 51 = .ok (.iload_n 1, 1) := dk_27 (dk_at dksX5_pull_2 3 rfl rfl)
theorem dX5_pull_52 : decode cX5_pull 52 = .ok (.iconst 1, 1) := dk_4 (dk_at dksX5_pull_2 4 rfl rfl)
theorem dX5_pull_53 : decode cX5_pull 53 = .ok (.iastore, 1) := dk_79 (dk_at dksX5_pull_2 5 rfl rfl)
theorem dX5_pull_54 : decode cX5_pull 54 = .ok (.aload_n 0, 1) := dk_42 (dk_at dksX5_pull_2 6 rfl rfl)
theorem dX5_pull_55 : decode cX5_pull 55 = .ok (.getfield 15, 3) := dk_180 0 15 (dk_at dksX5_pull_2 7 rfl rfl)
theorem dX5_pull_58 : decode cX5_pull 58 = .ok (.iload_n 2, 1) := dk_28 (dk_at dksX5_pull_2 10 rfl rfl)
theorem dX5_pull_59 : decode cX5_pull 59 = .ok (.dup2, 1) := dk_92 (dk_at dksX5_pull_2 11 rfl rfl)
theorem dX5_pull_60 : decode cX5_pull 60 = .ok (.iaload, 1) := dk_46 (dk_at dksX5_pull_2 12 rfl rfl)
theorem dX5_pull_61 : decode cX5_pull 61 = .ok (.iconst 1, 1) := dk_4 (dk_at dksX5_pull_2 13 rfl rfl)
theorem dX5_pull_62 : decode cX5_pull 62 = .ok (.isub, 1) := dk_100 (dk_at dksX5_pull_2 14 rfl rfl)
theorem dX5_pull_63 : decode cX5_pull 63 = .ok (.iastore, 1) := dk_79 (dk_at dksX5_pull_2 15 rfl rfl)
theorem dX5_pull_64 : decode cX5_pull 64 = .ok (.aload_n 0, 1) := dk_42 (dk_at dksX5_pull_2 16 rfl rfl)
theorem dX5_pull_65 : decode cX5_pull 65 = .ok (.getfield 46, 3) := dk_180 0 46 (dk_at dksX5_pull_2 17 rfl rfl)
theorem dX5_pull_68 : decode cX5_pull 68 = .ok (.iconst 3, 1) := dk_6 (dk_at dksX5_pull_2 20 rfl rfl)
theorem dX5_pull_69 : decode cX5_pull 69 = .ok (.dup2, 1) := dk_92 (dk_at dksX5_pull_2 21 rfl rfl)
theorem dX5_pull_70 : decode cX5_pull 70 = .ok (.iaload, 1) := dk_46 (dk_at dksX5_pull_2 22 rfl rfl)
theorem dX5_pull_71 : decode cX5_pull 71 = .ok (.iconst 1, 1) := dk_4 (dk_at dksX5_pull_2 23 rfl rfl)
theorem dX5_pull_72 : decode cX5_pull 72 = .ok (.iadd, 1) := dk_96 (dk_at dksX5_pull_3 0 rfl rfl)
theorem dX5_pull_73 : decode cX5_pull 73 = .ok (.iastore, 1) := dk_79 (dk_at dksX5_pull_3 1 rfl rfl)
theorem dX5_pull_74 : decode cX5_pull 74 = .ok (.aload_n 0, 1) := dk_42 (dk_at dksX5_pull_3 2 rfl rfl)
theorem dX5_pull_75 : decode cX5_pull 75 = .ok (.getfield 15, 3) := dk_180 0 15 (dk_at dksX5_pull_3 3 rfl rfl)
theorem dX5_pull_78 : decode cX5_pull 78 = .ok (.iload_n 2, 1) := dk_28 (dk_at dksX5_pull_3 6 rfl rfl)
theorem dX5_pull_79 : decode cX5_pull 79 = .ok (.iaload, 1) := dk_46 (dk_at dksX5_pull_3 7 rfl rfl)
theorem dX5_pull_80 : decode cX5_pull 80 = .ok (.ireturn, 1) := dk_172 (dk_at dksX5_pull_3 8 rfl rfl)
abbrev cX5_letOff : ByteArray := prog_25_method_94_code
def yX5_letOff : MethodName := ⟨RX5, "letOff", "(I)I"⟩
def dkwX5_letOff_1 : List UInt8 := [180, 0, 39, 27, 4, 79, 42, 180, 0, 46, 7, 92, 46, 4, 96, 79, 4, 172]
abbrev dktX5_letOff_1 : List UInt8 := dkwX5_letOff_1 ++ []
def dkwX5_letOff_0 : List UInt8 := [42, 27, 182, 0, 183, 154, 0, 5, 2, 172, 42, 180, 0, 39, 27, 46, 4, 160, 0, 6, 16, 251, 172, 42]
abbrev dktX5_letOff_0 : List UInt8 := dkwX5_letOff_0 ++ dktX5_letOff_1
theorem dksX5_letOff_0 : cX5_letOff.data.toList.drop 0 = dktX5_letOff_0 := by decide +kernel
theorem dksX5_letOff_1 : cX5_letOff.data.toList.drop 24 = dktX5_letOff_1 := dk_seg dksX5_letOff_0 24 rfl rfl
theorem dX5_letOff_0 : decode cX5_letOff 0 = .ok (.aload_n 0, 1) := dk_42 (dk_at dksX5_letOff_0 0 rfl rfl)
theorem dX5_letOff_1 : decode cX5_letOff 1 = .ok (.iload_n 1, 1) := dk_27 (dk_at dksX5_letOff_0 1 rfl rfl)
theorem dX5_letOff_2 : decode cX5_letOff 2 = .ok (.invokevirtual 183, 3) := dk_182 0 183 (dk_at dksX5_letOff_0 2 rfl rfl)
theorem dX5_letOff_5 : decode cX5_letOff 5 = .ok (.ifCond .ne 5, 3) := dk_154 0 5 (dk_at dksX5_letOff_0 5 rfl rfl)
theorem dX5_letOff_8 : decode cX5_letOff 8 = .ok (.iconst (-1), 1) := dk_2 (dk_at dksX5_letOff_0 8 rfl rfl)
theorem dX5_letOff_9 : decode cX5_letOff 9 = .ok (.ireturn, 1) := dk_172 (dk_at dksX5_letOff_0 9 rfl rfl)
theorem dX5_letOff_10 : decode cX5_letOff 10 = .ok (.aload_n 0, 1) := dk_42 (dk_at dksX5_letOff_0 10 rfl rfl)
theorem dX5_letOff_11 : decode cX5_letOff 11 = .ok (.getfield 39, 3) := dk_180 0 39 (dk_at dksX5_letOff_0 11 rfl rfl)
theorem dX5_letOff_14 : decode cX5_letOff 14 = .ok (.iload_n 1, 1) := dk_27 (dk_at dksX5_letOff_0 14 rfl rfl)
theorem dX5_letOff_15 : decode cX5_letOff 15 = .ok (.iaload, 1) := dk_46 (dk_at dksX5_letOff_0 15 rfl rfl)
theorem dX5_letOff_16 : decode cX5_letOff 16 = .ok (.iconst 1, 1) := dk_4 (dk_at dksX5_letOff_0 16 rfl rfl)
theorem dX5_letOff_17 : decode cX5_letOff 17 = .ok (.if_icmp .ne 6, 3) := dk_160 0 6 (dk_at dksX5_letOff_0 17 rfl rfl)
theorem dX5_letOff_20 : decode cX5_letOff 20 = .ok (.bipush (-5), 2) := dk_16 251 (dk_at dksX5_letOff_0 20 rfl rfl)
theorem dX5_letOff_22 : decode cX5_letOff 22 = .ok (.ireturn, 1) := dk_172 (dk_at dksX5_letOff_0 22 rfl rfl)
theorem dX5_letOff_23 : decode cX5_letOff 23 = .ok (.aload_n 0, 1) := dk_42 (dk_at dksX5_letOff_0 23 rfl rfl)
theorem dX5_letOff_24 : decode cX5_letOff 24 = .ok (.getfield 39, 3) := dk_180 0 39 (dk_at dksX5_letOff_1 0 rfl rfl)
theorem dX5_letOff_27 : decode cX5_letOff 27 = .ok (.iload_n 1, 1) := dk_27 (dk_at dksX5_letOff_1 3 rfl rfl)
theorem dX5_letOff_28 : decode cX5_letOff 28 = .ok (.iconst 1, 1) := dk_4 (dk_at dksX5_letOff_1 4 rfl rfl)
theorem dX5_letOff_29 : decode cX5_letOff 29 = .ok (.iastore, 1) := dk_79 (dk_at dksX5_letOff_1 5 rfl rfl)
theorem dX5_letOff_30 : decode cX5_letOff 30 = .ok (.aload_n 0, 1) := dk_42 (dk_at dksX5_letOff_1 6 rfl rfl)
theorem dX5_letOff_31 : decode cX5_letOff 31 = .ok (.getfield 46, 3) := dk_180 0 46 (dk_at dksX5_letOff_1 7 rfl rfl)
theorem dX5_letOff_34 : decode cX5_letOff 34 = .ok (.iconst 4, 1) := dk_7 (dk_at dksX5_letOff_1 10 rfl rfl)
theorem dX5_letOff_35 : decode cX5_letOff 35 = .ok (.dup2, 1) := dk_92 (dk_at dksX5_letOff_1 11 rfl rfl)
theorem dX5_letOff_36 : decode cX5_letOff 36 = .ok (.iaload, 1) := dk_46 (dk_at dksX5_letOff_1 12 rfl rfl)
theorem dX5_letOff_37 : decode cX5_letOff 37 = .ok (.iconst 1, 1) := dk_4 (dk_at dksX5_letOff_1 13 rfl rfl)
theorem dX5_letOff_38 : decode cX5_letOff 38 = .ok (.iadd, 1) := dk_96 (dk_at dksX5_letOff_1 14 rfl rfl)
theorem dX5_letOff_39 : decode cX5_letOff 39 = .ok (.iastore, 1) := dk_79 (dk_at dksX5_letOff_1 15 rfl rfl)
theorem dX5_letOff_40 : decode cX5_letOff 40 = .ok (.iconst 1, 1) := dk_4 (dk_at dksX5_letOff_1 16 rfl rfl)
theorem dX5_letOff_41 : decode cX5_letOff 41 = .ok (.ireturn, 1) := dk_172 (dk_at dksX5_letOff_1 17 rfl rfl)
abbrev cX5_forget : ByteArray := prog_25_method_95_code
def yX5_forget : MethodName := ⟨RX5, "forget", "(I)I"⟩
def dkwX5_forget_1 : List UInt8 := [180, 0, 36, 27, 4, 79, 4, 172]
abbrev dktX5_forget_1 : List UInt8 := dkwX5_forget_1 ++ []
def dkwX5_forget_0 : List UInt8 := [42, 27, 182, 0, 183, 154, 0, 5, 2, 172, 42, 180, 0, 36, 27, 46, 4, 160, 0, 6, 16, 251, 172, 42]
abbrev dktX5_forget_0 : List UInt8 := dkwX5_forget_0 ++ dktX5_forget_1
theorem dksX5_forget_0 : cX5_forget.data.toList.drop 0 = dktX5_forget_0 := by decide +kernel
theorem dksX5_forget_1 : cX5_forget.data.toList.drop 24 = dktX5_forget_1 := dk_seg dksX5_forget_0 24 rfl rfl
theorem dX5_forget_0 : decode cX5_forget 0 = .ok (.aload_n 0, 1) := dk_42 (dk_at dksX5_forget_0 0 rfl rfl)
theorem dX5_forget_1 : decode cX5_forget 1 = .ok (.iload_n 1, 1) := dk_27 (dk_at dksX5_forget_0 1 rfl rfl)
theorem dX5_forget_2 : decode cX5_forget 2 = .ok (.invokevirtual 183, 3) := dk_182 0 183 (dk_at dksX5_forget_0 2 rfl rfl)
theorem dX5_forget_5 : decode cX5_forget 5 = .ok (.ifCond .ne 5, 3) := dk_154 0 5 (dk_at dksX5_forget_0 5 rfl rfl)
theorem dX5_forget_8 : decode cX5_forget 8 = .ok (.iconst (-1), 1) := dk_2 (dk_at dksX5_forget_0 8 rfl rfl)
theorem dX5_forget_9 : decode cX5_forget 9 = .ok (.ireturn, 1) := dk_172 (dk_at dksX5_forget_0 9 rfl rfl)
theorem dX5_forget_10 : decode cX5_forget 10 = .ok (.aload_n 0, 1) := dk_42 (dk_at dksX5_forget_0 10 rfl rfl)
theorem dX5_forget_11 : decode cX5_forget 11 = .ok (.getfield 36, 3) := dk_180 0 36 (dk_at dksX5_forget_0 11 rfl rfl)
theorem dX5_forget_14 : decode cX5_forget 14 = .ok (.iload_n 1, 1) := dk_27 (dk_at dksX5_forget_0 14 rfl rfl)
theorem dX5_forget_15 : decode cX5_forget 15 = .ok (.iaload, 1) := dk_46 (dk_at dksX5_forget_0 15 rfl rfl)
theorem dX5_forget_16 : decode cX5_forget 16 = .ok (.iconst 1, 1) := dk_4 (dk_at dksX5_forget_0 16 rfl rfl)
theorem dX5_forget_17 : decode cX5_forget 17 = .ok (.if_icmp .ne 6, 3) := dk_160 0 6 (dk_at dksX5_forget_0 17 rfl rfl)
theorem dX5_forget_20 : decode cX5_forget 20 = .ok (.bipush (-5), 2) := dk_16 251 (dk_at dksX5_forget_0 20 rfl rfl)
theorem dX5_forget_22 : decode cX5_forget 22 = .ok (.ireturn, 1) := dk_172 (dk_at dksX5_forget_0 22 rfl rfl)
theorem dX5_forget_23 : decode cX5_forget 23 = .ok (.aload_n 0, 1) := dk_42 (dk_at dksX5_forget_0 23 rfl rfl)
theorem dX5_forget_24 : decode cX5_forget 24 = .ok (.getfield 36, 3) := dk_180 0 36 (dk_at dksX5_forget_1 0 rfl rfl)
theorem dX5_forget_27 : decode cX5_forget 27 = .ok (.iload_n 1, 1) := dk_27 (dk_at dksX5_forget_1 3 rfl rfl)
theorem dX5_forget_28 : decode cX5_forget 28 = .ok (.iconst 1, 1) := dk_4 (dk_at dksX5_forget_1 4 rfl rfl)
theorem dX5_forget_29 : decode cX5_forget 29 = .ok (.iastore, 1) := dk_79 (dk_at dksX5_forget_1 5 rfl rfl)
theorem dX5_forget_30 : decode cX5_forget 30 = .ok (.iconst 1, 1) := dk_4 (dk_at dksX5_forget_1 6 rfl rfl)
theorem dX5_forget_31 : decode cX5_forget 31 = .ok (.ireturn, 1) := dk_172 (dk_at dksX5_forget_1 7 rfl rfl)
abbrev cX5_day : ByteArray := prog_25_method_96_code
def yX5_day : MethodName := ⟨RX5, "day", "()I"⟩
def dkwX5_day_0 : List UInt8 := [42, 42, 4, 182, 1, 53, 181, 0, 153, 42, 180, 0, 46, 8, 92, 46, 4, 96, 79, 42, 180, 0, 153, 172]
abbrev dktX5_day_0 : List UInt8 := dkwX5_day_0 ++ []
theorem dksX5_day_0 : cX5_day.data.toList.drop 0 = dktX5_day_0 := by decide +kernel
theorem dX5_day_0 : decode cX5_day 0 = .ok (.aload_n 0, 1) := dk_42 (dk_at dksX5_day_0 0 rfl rfl)
theorem dX5_day_1 : decode cX5_day 1 = .ok (.aload_n 0, 1) := dk_42 (dk_at dksX5_day_0 1 rfl rfl)
theorem dX5_day_2 : decode cX5_day 2 = .ok (.iconst 1, 1) := dk_4 (dk_at dksX5_day_0 2 rfl rfl)
theorem dX5_day_3 : decode cX5_day 3 = .ok (.invokevirtual 309, 3) := dk_182 1 53 (dk_at dksX5_day_0 3 rfl rfl)
theorem dX5_day_6 : decode cX5_day 6 = .ok (.putfield 153, 3) := dk_181 0 153 (dk_at dksX5_day_0 6 rfl rfl)
theorem dX5_day_9 : decode cX5_day 9 = .ok (.aload_n 0, 1) := dk_42 (dk_at dksX5_day_0 9 rfl rfl)
theorem dX5_day_10 : decode cX5_day 10 = .ok (.getfield 46, 3) := dk_180 0 46 (dk_at dksX5_day_0 10 rfl rfl)
theorem dX5_day_13 : decode cX5_day 13 = .ok (.iconst 5, 1) := dk_8 (dk_at dksX5_day_0 13 rfl rfl)
theorem dX5_day_14 : decode cX5_day 14 = .ok (.dup2, 1) := dk_92 (dk_at dksX5_day_0 14 rfl rfl)
theorem dX5_day_15 : decode cX5_day 15 = .ok (.iaload, 1) := dk_46 (dk_at dksX5_day_0 15 rfl rfl)
theorem dX5_day_16 : decode cX5_day 16 = .ok (.iconst 1, 1) := dk_4 (dk_at dksX5_day_0 16 rfl rfl)
theorem dX5_day_17 : decode cX5_day 17 = .ok (.iadd, 1) := dk_96 (dk_at dksX5_day_0 17 rfl rfl)
theorem dX5_day_18 : decode cX5_day 18 = .ok (.iastore, 1) := dk_79 (dk_at dksX5_day_0 18 rfl rfl)
theorem dX5_day_19 : decode cX5_day 19 = .ok (.aload_n 0, 1) := dk_42 (dk_at dksX5_day_0 19 rfl rfl)
theorem dX5_day_20 : decode cX5_day 20 = .ok (.getfield 153, 3) := dk_180 0 153 (dk_at dksX5_day_0 20 rfl rfl)
theorem dX5_day_23 : decode cX5_day 23 = .ok (.ireturn, 1) := dk_172 (dk_at dksX5_day_0 23 rfl rfl)
abbrev cX5_led : ByteArray := prog_25_method_97_code
def yX5_led : MethodName := ⟨RX5, "led", "(I)I"⟩
def dkwX5_led_0 : List UInt8 := [27, 3, 8, 184, 0, 136, 153, 0, 12, 42, 180, 0, 46, 27, 46, 167, 0, 4, 2, 172]
abbrev dktX5_led_0 : List UInt8 := dkwX5_led_0 ++ []
theorem dksX5_led_0 : cX5_led.data.toList.drop 0 = dktX5_led_0 := by decide +kernel
theorem dX5_led_0 : decode cX5_led 0 = .ok (.iload_n 1, 1) := dk_27 (dk_at dksX5_led_0 0 rfl rfl)
theorem dX5_led_1 : decode cX5_led 1 = .ok (.iconst 0, 1) := dk_3 (dk_at dksX5_led_0 1 rfl rfl)
theorem dX5_led_2 : decode cX5_led 2 = .ok (.iconst 5, 1) := dk_8 (dk_at dksX5_led_0 2 rfl rfl)
theorem dX5_led_3 : decode cX5_led 3 = .ok (.invokestatic 136, 3) := dk_184 0 136 (dk_at dksX5_led_0 3 rfl rfl)
theorem dX5_led_6 : decode cX5_led 6 = .ok (.ifCond .eq 12, 3) := dk_153 0 12 (dk_at dksX5_led_0 6 rfl rfl)
theorem dX5_led_9 : decode cX5_led 9 = .ok (.aload_n 0, 1) := dk_42 (dk_at dksX5_led_0 9 rfl rfl)
theorem dX5_led_10 : decode cX5_led 10 = .ok (.getfield 46, 3) := dk_180 0 46 (dk_at dksX5_led_0 10 rfl rfl)
theorem dX5_led_13 : decode cX5_led 13 = .ok (.iload_n 1, 1) := dk_27 (dk_at dksX5_led_0 13 rfl rfl)
theorem dX5_led_14 : decode cX5_led 14 = .ok (.iaload, 1) := dk_46 (dk_at dksX5_led_0 14 rfl rfl)
theorem dX5_led_15 : decode cX5_led 15 = .ok (.goto 4, 3) := dk_167 0 4 (dk_at dksX5_led_0 15 rfl rfl)
theorem dX5_led_18 : decode cX5_led 18 = .ok (.iconst (-1), 1) := dk_2 (dk_at dksX5_led_0 18 rfl rfl)
theorem dX5_led_19 : decode cX5_led 19 = .ok (.ireturn, 1) := dk_172 (dk_at dksX5_led_0 19 rfl rfl)
abbrev cX5_image : ByteArray := prog_25_method_98_code
def yX5_image : MethodName := ⟨RX5, "image", "()I"⟩
def dkwX5_image_6 : List UInt8 := [180, 0, 46, 8, 46, 172]
abbrev dktX5_image_6 : List UInt8 := dkwX5_image_6 ++ []
def dkwX5_image_5 : List UInt8 := [162, 0, 21, 42, 180, 0, 111, 27, 42, 180, 0, 46, 27, 46, 79, 132, 1, 1, 167, 255, 235, 42]
abbrev dktX5_image_5 : List UInt8 := dkwX5_image_5 ++ dktX5_image_6
def dkwX5_image_4 : List UInt8 := [180, 0, 108, 27, 42, 180, 0, 39, 27, 46, 79, 132, 1, 1, 167, 255, 221, 3, 60, 27, 16, 6]
abbrev dktX5_image_4 : List UInt8 := dkwX5_image_4 ++ dktX5_image_5
def dkwX5_image_3 : List UInt8 := [3, 60, 27, 42, 180, 0, 143, 162, 0, 33, 42, 180, 0, 105, 27, 42, 180, 0, 36, 27, 46, 79, 42]
abbrev dktX5_image_3 : List UInt8 := dkwX5_image_3 ++ dktX5_image_4
def dkwX5_image_2 : List UInt8 := [180, 0, 9, 27, 46, 79, 42, 180, 0, 102, 27, 42, 180, 0, 15, 27, 46, 79, 132, 1, 1, 167, 255, 221]
abbrev dktX5_image_2 : List UInt8 := dkwX5_image_2 ++ dktX5_image_3
def dkwX5_image_1 : List UInt8 := [180, 0, 143, 181, 1, 162, 3, 60, 27, 42, 180, 0, 140, 162, 0, 33, 42, 180, 0, 99, 27, 42]
abbrev dktX5_image_1 : List UInt8 := dkwX5_image_1 ++ dktX5_image_2
def dkwX5_image_0 : List UInt8 := [42, 4, 181, 1, 153, 42, 42, 180, 0, 153, 181, 1, 156, 42, 42, 180, 0, 140, 181, 1, 159, 42, 42]
abbrev dktX5_image_0 : List UInt8 := dkwX5_image_0 ++ dktX5_image_1
theorem dksX5_image_0 : cX5_image.data.toList.drop 0 = dktX5_image_0 := by decide +kernel
theorem dksX5_image_1 : cX5_image.data.toList.drop 23 = dktX5_image_1 := dk_seg dksX5_image_0 23 rfl rfl
theorem dksX5_image_2 : cX5_image.data.toList.drop 45 = dktX5_image_2 := dk_seg dksX5_image_1 22 rfl rfl
theorem dksX5_image_3 : cX5_image.data.toList.drop 69 = dktX5_image_3 := dk_seg dksX5_image_2 24 rfl rfl
theorem dksX5_image_4 : cX5_image.data.toList.drop 92 = dktX5_image_4 := dk_seg dksX5_image_3 23 rfl rfl
theorem dksX5_image_5 : cX5_image.data.toList.drop 114 = dktX5_image_5 := dk_seg dksX5_image_4 22 rfl rfl
theorem dksX5_image_6 : cX5_image.data.toList.drop 136 = dktX5_image_6 := dk_seg dksX5_image_5 22 rfl rfl
theorem dX5_image_0 : decode cX5_image 0 = .ok (.aload_n 0, 1) := dk_42 (dk_at dksX5_image_0 0 rfl rfl)
theorem dX5_image_1 : decode cX5_image 1 = .ok (.iconst 1, 1) := dk_4 (dk_at dksX5_image_0 1 rfl rfl)
theorem dX5_image_2 : decode cX5_image 2 = .ok (.putfield 409, 3) := dk_181 1 153 (dk_at dksX5_image_0 2 rfl rfl)
theorem dX5_image_5 : decode cX5_image 5 = .ok (.aload_n 0, 1) := dk_42 (dk_at dksX5_image_0 5 rfl rfl)
theorem dX5_image_6 : decode cX5_image 6 = .ok (.aload_n 0, 1) := dk_42 (dk_at dksX5_image_0 6 rfl rfl)
theorem dX5_image_7 : decode cX5_image 7 = .ok (.getfield 153, 3) := dk_180 0 153 (dk_at dksX5_image_0 7 rfl rfl)
theorem dX5_image_10 : decode cX5_image 10 = .ok (.putfield 412, 3) := dk_181 1 156 (dk_at dksX5_image_0 10 rfl rfl)
theorem dX5_image_13 : decode cX5_image 13 = .ok (.aload_n 0, 1) := dk_42 (dk_at dksX5_image_0 13 rfl rfl)
theorem dX5_image_14 : decode cX5_image 14 = .ok (.aload_n 0, 1) := dk_42 (dk_at dksX5_image_0 14 rfl rfl)
theorem dX5_image_15 : decode cX5_image 15 = .ok (.getfield 140, 3) := dk_180 0 140 (dk_at dksX5_image_0 15 rfl rfl)
theorem dX5_image_18 : decode cX5_image 18 = .ok (.putfield 415, 3) := dk_181 1 159 (dk_at dksX5_image_0 18 rfl rfl)
theorem dX5_image_21 : decode cX5_image 21 = .ok (.aload_n 0, 1) := dk_42 (dk_at dksX5_image_0 21 rfl rfl)
theorem dX5_image_22 : decode cX5_image 22 = .ok (.aload_n 0, 1) := dk_42 (dk_at dksX5_image_0 22 rfl rfl)
theorem dX5_image_23 : decode cX5_image 23 = .ok (.getfield 143, 3) := dk_180 0 143 (dk_at dksX5_image_1 0 rfl rfl)
theorem dX5_image_26 : decode cX5_image 26 = .ok (.putfield 418, 3) := dk_181 1 162 (dk_at dksX5_image_1 3 rfl rfl)
theorem dX5_image_29 : decode cX5_image 29 = .ok (.iconst 0, 1) := dk_3 (dk_at dksX5_image_1 6 rfl rfl)
theorem dX5_image_30 : decode cX5_image 30 = .ok (.istore_n 1, 1) := dk_60 (dk_at dksX5_image_1 7 rfl rfl)
theorem dX5_image_31 : decode cX5_image 31 = .ok (.iload_n 1, 1) := dk_27 (dk_at dksX5_image_1 8 rfl rfl)
theorem dX5_image_32 : decode cX5_image 32 = .ok (.aload_n 0, 1) := dk_42 (dk_at dksX5_image_1 9 rfl rfl)
theorem dX5_image_33 : decode cX5_image 33 = .ok (.getfield 140, 3) := dk_180 0 140 (dk_at dksX5_image_1 10 rfl rfl)
theorem dX5_image_36 : decode cX5_image 36 = .ok (.if_icmp .ge 33, 3) := dk_162 0 33 (dk_at dksX5_image_1 13 rfl rfl)
theorem dX5_image_39 : decode cX5_image 39 = .ok (.aload_n 0, 1) := dk_42 (dk_at dksX5_image_1 16 rfl rfl)
theorem dX5_image_40 : decode cX5_image 40 = .ok (.getfield 99, 3) := dk_180 0 99 (dk_at dksX5_image_1 17 rfl rfl)
theorem dX5_image_43 : decode cX5_image 43 = .ok (.iload_n 1, 1) := dk_27 (dk_at dksX5_image_1 20 rfl rfl)
theorem dX5_image_44 : decode cX5_image 44 = .ok (.aload_n 0, 1) := dk_42 (dk_at dksX5_image_1 21 rfl rfl)
theorem dX5_image_45 : decode cX5_image 45 = .ok (.getfield 9, 3) := dk_180 0 9 (dk_at dksX5_image_2 0 rfl rfl)
theorem dX5_image_48 : decode cX5_image 48 = .ok (.iload_n 1, 1) := dk_27 (dk_at dksX5_image_2 3 rfl rfl)
theorem dX5_image_49 : decode cX5_image 49 = .ok (.iaload, 1) := dk_46 (dk_at dksX5_image_2 4 rfl rfl)
theorem dX5_image_50 : decode cX5_image 50 = .ok (.iastore, 1) := dk_79 (dk_at dksX5_image_2 5 rfl rfl)
theorem dX5_image_51 : decode cX5_image 51 = .ok (.aload_n 0, 1) := dk_42 (dk_at dksX5_image_2 6 rfl rfl)
theorem dX5_image_52 : decode cX5_image 52 = .ok (.getfield 102, 3) := dk_180 0 102 (dk_at dksX5_image_2 7 rfl rfl)
theorem dX5_image_55 : decode cX5_image 55 = .ok (.iload_n 1, 1) := dk_27 (dk_at dksX5_image_2 10 rfl rfl)
theorem dX5_image_56 : decode cX5_image 56 = .ok (.aload_n 0, 1) := dk_42 (dk_at dksX5_image_2 11 rfl rfl)
theorem dX5_image_57 : decode cX5_image 57 = .ok (.getfield 15, 3) := dk_180 0 15 (dk_at dksX5_image_2 12 rfl rfl)
theorem dX5_image_60 : decode cX5_image 60 = .ok (.iload_n 1, 1) := dk_27 (dk_at dksX5_image_2 15 rfl rfl)
theorem dX5_image_61 : decode cX5_image 61 = .ok (.iaload, 1) := dk_46 (dk_at dksX5_image_2 16 rfl rfl)
theorem dX5_image_62 : decode cX5_image 62 = .ok (.iastore, 1) := dk_79 (dk_at dksX5_image_2 17 rfl rfl)
theorem dX5_image_63 : decode cX5_image 63 = .ok (.iinc 1 1, 3) := dk_132 1 1 (dk_at dksX5_image_2 18 rfl rfl)
theorem dX5_image_66 : decode cX5_image 66 = .ok (.goto (-35), 3) := dk_167 255 221 (dk_at dksX5_image_2 21 rfl rfl)
theorem dX5_image_69 : decode cX5_image 69 = .ok (.iconst 0, 1) := dk_3 (dk_at dksX5_image_3 0 rfl rfl)
theorem dX5_image_70 : decode cX5_image 70 = .ok (.istore_n 1, 1) := dk_60 (dk_at dksX5_image_3 1 rfl rfl)
theorem dX5_image_71 : decode cX5_image 71 = .ok (.iload_n 1, 1) := dk_27 (dk_at dksX5_image_3 2 rfl rfl)
theorem dX5_image_72 : decode cX5_image 72 = .ok (.aload_n 0, 1) := dk_42 (dk_at dksX5_image_3 3 rfl rfl)
theorem dX5_image_73 : decode cX5_image 73 = .ok (.getfield 143, 3) := dk_180 0 143 (dk_at dksX5_image_3 4 rfl rfl)
theorem dX5_image_76 : decode cX5_image 76 = .ok (.if_icmp .ge 33, 3) := dk_162 0 33 (dk_at dksX5_image_3 7 rfl rfl)
theorem dX5_image_79 : decode cX5_image 79 = .ok (.aload_n 0, 1) := dk_42 (dk_at dksX5_image_3 10 rfl rfl)
theorem dX5_image_80 : decode cX5_image 80 = .ok (.getfield 105, 3) := dk_180 0 105 (dk_at dksX5_image_3 11 rfl rfl)
theorem dX5_image_83 : decode cX5_image 83 = .ok (.iload_n 1, 1) := dk_27 (dk_at dksX5_image_3 14 rfl rfl)
theorem dX5_image_84 : decode cX5_image 84 = .ok (.aload_n 0, 1) := dk_42 (dk_at dksX5_image_3 15 rfl rfl)
theorem dX5_image_85 : decode cX5_image 85 = .ok (.getfield 36, 3) := dk_180 0 36 (dk_at dksX5_image_3 16 rfl rfl)
theorem dX5_image_88 : decode cX5_image 88 = .ok (.iload_n 1, 1) := dk_27 (dk_at dksX5_image_3 19 rfl rfl)
theorem dX5_image_89 : decode cX5_image 89 = .ok (.iaload, 1) := dk_46 (dk_at dksX5_image_3 20 rfl rfl)
theorem dX5_image_90 : decode cX5_image 90 = .ok (.iastore, 1) := dk_79 (dk_at dksX5_image_3 21 rfl rfl)
theorem dX5_image_91 : decode cX5_image 91 = .ok (.aload_n 0, 1) := dk_42 (dk_at dksX5_image_3 22 rfl rfl)
theorem dX5_image_92 : decode cX5_image 92 = .ok (.getfield 108, 3) := dk_180 0 108 (dk_at dksX5_image_4 0 rfl rfl)
theorem dX5_image_95 : decode cX5_image 95 = .ok (.iload_n 1, 1) := dk_27 (dk_at dksX5_image_4 3 rfl rfl)
theorem dX5_image_96 : decode cX5_image 96 = .ok (.aload_n 0, 1) := dk_42 (dk_at dksX5_image_4 4 rfl rfl)
theorem dX5_image_97 : decode cX5_image 97 = .ok (.getfield 39, 3) := dk_180 0 39 (dk_at dksX5_image_4 5 rfl rfl)
theorem dX5_image_100 : decode cX5_image 100 = .ok (.iload_n 1, 1) := dk_27 (dk_at dksX5_image_4 8 rfl rfl)
theorem dX5_image_101 : decode cX5_image 101 = .ok (.iaload, 1) := dk_46 (dk_at dksX5_image_4 9 rfl rfl)
theorem dX5_image_102 : decode cX5_image 102 = .ok (.iastore, 1) := dk_79 (dk_at dksX5_image_4 10 rfl rfl)
theorem dX5_image_103 : decode cX5_image 103 = .ok (.iinc 1 1, 3) := dk_132 1 1 (dk_at dksX5_image_4 11 rfl rfl)
theorem dX5_image_106 : decode cX5_image 106 = .ok (.goto (-35), 3) := dk_167 255 221 (dk_at dksX5_image_4 14 rfl rfl)
theorem dX5_image_109 : decode cX5_image 109 = .ok (.iconst 0, 1) := dk_3 (dk_at dksX5_image_4 17 rfl rfl)
theorem dX5_image_110 : decode cX5_image 110 = .ok (.istore_n 1, 1) := dk_60 (dk_at dksX5_image_4 18 rfl rfl)
theorem dX5_image_111 : decode cX5_image 111 = .ok (.iload_n 1, 1) := dk_27 (dk_at dksX5_image_4 19 rfl rfl)
theorem dX5_image_112 : decode cX5_image 112 = .ok (.bipush 6, 2) := dk_16 6 (dk_at dksX5_image_4 20 rfl rfl)
theorem dX5_image_114 : decode cX5_image 114 = .ok (.if_icmp .ge 21, 3) := dk_162 0 21 (dk_at dksX5_image_5 0 rfl rfl)
theorem dX5_image_117 : decode cX5_image 117 = .ok (.aload_n 0, 1) := dk_42 (dk_at dksX5_image_5 3 rfl rfl)
theorem dX5_image_118 : decode cX5_image 118 = .ok (.getfield 111, 3) := dk_180 0 111 (dk_at dksX5_image_5 4 rfl rfl)
theorem dX5_image_121 : decode cX5_image 121 = .ok (.iload_n 1, 1) := dk_27 (dk_at dksX5_image_5 7 rfl rfl)
theorem dX5_image_122 : decode cX5_image 122 = .ok (.aload_n 0, 1) := dk_42 (dk_at dksX5_image_5 8 rfl rfl)
theorem dX5_image_123 : decode cX5_image 123 = .ok (.getfield 46, 3) := dk_180 0 46 (dk_at dksX5_image_5 9 rfl rfl)
theorem dX5_image_126 : decode cX5_image 126 = .ok (.iload_n 1, 1) := dk_27 (dk_at dksX5_image_5 12 rfl rfl)
theorem dX5_image_127 : decode cX5_image 127 = .ok (.iaload, 1) := dk_46 (dk_at dksX5_image_5 13 rfl rfl)
theorem dX5_image_128 : decode cX5_image 128 = .ok (.iastore, 1) := dk_79 (dk_at dksX5_image_5 14 rfl rfl)
theorem dX5_image_129 : decode cX5_image 129 = .ok (.iinc 1 1, 3) := dk_132 1 1 (dk_at dksX5_image_5 15 rfl rfl)
theorem dX5_image_132 : decode cX5_image 132 = .ok (.goto (-21), 3) := dk_167 255 235 (dk_at dksX5_image_5 18 rfl rfl)
theorem dX5_image_135 : decode cX5_image 135 = .ok (.aload_n 0, 1) := dk_42 (dk_at dksX5_image_5 21 rfl rfl)
theorem dX5_image_136 : decode cX5_image 136 = .ok (.getfield 46, 3) := dk_180 0 46 (dk_at dksX5_image_6 0 rfl rfl)
theorem dX5_image_139 : decode cX5_image 139 = .ok (.iconst 5, 1) := dk_8 (dk_at dksX5_image_6 3 rfl rfl)
theorem dX5_image_140 : decode cX5_image 140 = .ok (.iaload, 1) := dk_46 (dk_at dksX5_image_6 4 rfl rfl)
theorem dX5_image_141 : decode cX5_image 141 = .ok (.ireturn, 1) := dk_172 (dk_at dksX5_image_6 5 rfl rfl)
abbrev cX5_back : ByteArray := prog_25_method_99_code
def yX5_back : MethodName := ⟨RX5, "back", "()I"⟩
def dkwX5_back_5 : List UInt8 := [46, 79, 132, 1, 1, 167, 255, 235, 42, 180, 0, 46, 8, 46, 172]
abbrev dktX5_back_5 : List UInt8 := dkwX5_back_5 ++ []
def dkwX5_back_4 : List UInt8 := [132, 1, 1, 167, 255, 221, 3, 60, 27, 16, 6, 162, 0, 21, 42, 180, 0, 46, 27, 42, 180, 0, 111, 27]
abbrev dktX5_back_4 : List UInt8 := dkwX5_back_4 ++ dktX5_back_5
def dkwX5_back_3 : List UInt8 := [180, 0, 36, 27, 42, 180, 0, 105, 27, 46, 79, 42, 180, 0, 39, 27, 42, 180, 0, 108, 27, 46, 79]
abbrev dktX5_back_3 : List UInt8 := dkwX5_back_3 ++ dktX5_back_4
def dkwX5_back_2 : List UInt8 := [180, 0, 102, 27, 46, 79, 132, 1, 1, 167, 255, 221, 3, 60, 27, 42, 180, 1, 162, 162, 0, 33, 42]
abbrev dktX5_back_2 : List UInt8 := dkwX5_back_2 ++ dktX5_back_3
def dkwX5_back_1 : List UInt8 := [180, 1, 159, 162, 0, 33, 42, 180, 0, 9, 27, 42, 180, 0, 99, 27, 46, 79, 42, 180, 0, 15, 27, 42]
abbrev dktX5_back_1 : List UInt8 := dkwX5_back_1 ++ dktX5_back_2
def dkwX5_back_0 : List UInt8 := [42, 180, 1, 153, 154, 0, 6, 16, 251, 172, 42, 42, 180, 1, 156, 181, 0, 153, 3, 60, 27, 42]
abbrev dktX5_back_0 : List UInt8 := dkwX5_back_0 ++ dktX5_back_1
theorem dksX5_back_0 : cX5_back.data.toList.drop 0 = dktX5_back_0 := by decide +kernel
theorem dksX5_back_1 : cX5_back.data.toList.drop 22 = dktX5_back_1 := dk_seg dksX5_back_0 22 rfl rfl
theorem dksX5_back_2 : cX5_back.data.toList.drop 46 = dktX5_back_2 := dk_seg dksX5_back_1 24 rfl rfl
theorem dksX5_back_3 : cX5_back.data.toList.drop 69 = dktX5_back_3 := dk_seg dksX5_back_2 23 rfl rfl
theorem dksX5_back_4 : cX5_back.data.toList.drop 92 = dktX5_back_4 := dk_seg dksX5_back_3 23 rfl rfl
theorem dksX5_back_5 : cX5_back.data.toList.drop 116 = dktX5_back_5 := dk_seg dksX5_back_4 24 rfl rfl
theorem dX5_back_0 : decode cX5_back 0 = .ok (.aload_n 0, 1) := dk_42 (dk_at dksX5_back_0 0 rfl rfl)
theorem dX5_back_1 : decode cX5_back 1 = .ok (.getfield 409, 3) := dk_180 1 153 (dk_at dksX5_back_0 1 rfl rfl)
theorem dX5_back_4 : decode cX5_back 4 = .ok (.ifCond .ne 6, 3) := dk_154 0 6 (dk_at dksX5_back_0 4 rfl rfl)
theorem dX5_back_7 : decode cX5_back 7 = .ok (.bipush (-5), 2) := dk_16 251 (dk_at dksX5_back_0 7 rfl rfl)
theorem dX5_back_9 : decode cX5_back 9 = .ok (.ireturn, 1) := dk_172 (dk_at dksX5_back_0 9 rfl rfl)
theorem dX5_back_10 : decode cX5_back 10 = .ok (.aload_n 0, 1) := dk_42 (dk_at dksX5_back_0 10 rfl rfl)
theorem dX5_back_11 : decode cX5_back 11 = .ok (.aload_n 0, 1) := dk_42 (dk_at dksX5_back_0 11 rfl rfl)
theorem dX5_back_12 : decode cX5_back 12 = .ok (.getfield 412, 3) := dk_180 1 156 (dk_at dksX5_back_0 12 rfl rfl)
theorem dX5_back_15 : decode cX5_back 15 = .ok (.putfield 153, 3) := dk_181 0 153 (dk_at dksX5_back_0 15 rfl rfl)
theorem dX5_back_18 : decode cX5_back 18 = .ok (.iconst 0, 1) := dk_3 (dk_at dksX5_back_0 18 rfl rfl)
theorem dX5_back_19 : decode cX5_back 19 = .ok (.istore_n 1, 1) := dk_60 (dk_at dksX5_back_0 19 rfl rfl)
theorem dX5_back_20 : decode cX5_back 20 = .ok (.iload_n 1, 1) := dk_27 (dk_at dksX5_back_0 20 rfl rfl)
theorem dX5_back_21 : decode cX5_back 21 = .ok (.aload_n 0, 1) := dk_42 (dk_at dksX5_back_0 21 rfl rfl)
theorem dX5_back_22 : decode cX5_back 22 = .ok (.getfield 415, 3) := dk_180 1 159 (dk_at dksX5_back_1 0 rfl rfl)
theorem dX5_back_25 : decode cX5_back 25 = .ok (.if_icmp .ge 33, 3) := dk_162 0 33 (dk_at dksX5_back_1 3 rfl rfl)
theorem dX5_back_28 : decode cX5_back 28 = .ok (.aload_n 0, 1) := dk_42 (dk_at dksX5_back_1 6 rfl rfl)
theorem dX5_back_29 : decode cX5_back 29 = .ok (.getfield 9, 3) := dk_180 0 9 (dk_at dksX5_back_1 7 rfl rfl)
theorem dX5_back_32 : decode cX5_back 32 = .ok (.iload_n 1, 1) := dk_27 (dk_at dksX5_back_1 10 rfl rfl)
theorem dX5_back_33 : decode cX5_back 33 = .ok (.aload_n 0, 1) := dk_42 (dk_at dksX5_back_1 11 rfl rfl)
theorem dX5_back_34 : decode cX5_back 34 = .ok (.getfield 99, 3) := dk_180 0 99 (dk_at dksX5_back_1 12 rfl rfl)
theorem dX5_back_37 : decode cX5_back 37 = .ok (.iload_n 1, 1) := dk_27 (dk_at dksX5_back_1 15 rfl rfl)
theorem dX5_back_38 : decode cX5_back 38 = .ok (.iaload, 1) := dk_46 (dk_at dksX5_back_1 16 rfl rfl)
theorem dX5_back_39 : decode cX5_back 39 = .ok (.iastore, 1) := dk_79 (dk_at dksX5_back_1 17 rfl rfl)
theorem dX5_back_40 : decode cX5_back 40 = .ok (.aload_n 0, 1) := dk_42 (dk_at dksX5_back_1 18 rfl rfl)
theorem dX5_back_41 : decode cX5_back 41 = .ok (.getfield 15, 3) := dk_180 0 15 (dk_at dksX5_back_1 19 rfl rfl)
theorem dX5_back_44 : decode cX5_back 44 = .ok (.iload_n 1, 1) := dk_27 (dk_at dksX5_back_1 22 rfl rfl)
theorem dX5_back_45 : decode cX5_back 45 = .ok (.aload_n 0, 1) := dk_42 (dk_at dksX5_back_1 23 rfl rfl)
theorem dX5_back_46 : decode cX5_back 46 = .ok (.getfield 102, 3) := dk_180 0 102 (dk_at dksX5_back_2 0 rfl rfl)
theorem dX5_back_49 : decode cX5_back 49 = .ok (.iload_n 1, 1) := dk_27 (dk_at dksX5_back_2 3 rfl rfl)
theorem dX5_back_50 : decode cX5_back 50 = .ok (.iaload, 1) := dk_46 (dk_at dksX5_back_2 4 rfl rfl)
theorem dX5_back_51 : decode cX5_back 51 = .ok (.iastore, 1) := dk_79 (dk_at dksX5_back_2 5 rfl rfl)
theorem dX5_back_52 : decode cX5_back 52 = .ok (.iinc 1 1, 3) := dk_132 1 1 (dk_at dksX5_back_2 6 rfl rfl)
theorem dX5_back_55 : decode cX5_back 55 = .ok (.goto (-35), 3) := dk_167 255 221 (dk_at dksX5_back_2 9 rfl rfl)
theorem dX5_back_58 : decode cX5_back 58 = .ok (.iconst 0, 1) := dk_3 (dk_at dksX5_back_2 12 rfl rfl)
theorem dX5_back_59 : decode cX5_back 59 = .ok (.istore_n 1, 1) := dk_60 (dk_at dksX5_back_2 13 rfl rfl)
theorem dX5_back_60 : decode cX5_back 60 = .ok (.iload_n 1, 1) := dk_27 (dk_at dksX5_back_2 14 rfl rfl)
theorem dX5_back_61 : decode cX5_back 61 = .ok (.aload_n 0, 1) := dk_42 (dk_at dksX5_back_2 15 rfl rfl)
theorem dX5_back_62 : decode cX5_back 62 = .ok (.getfield 418, 3) := dk_180 1 162 (dk_at dksX5_back_2 16 rfl rfl)
theorem dX5_back_65 : decode cX5_back 65 = .ok (.if_icmp .ge 33, 3) := dk_162 0 33 (dk_at dksX5_back_2 19 rfl rfl)
theorem dX5_back_68 : decode cX5_back 68 = .ok (.aload_n 0, 1) := dk_42 (dk_at dksX5_back_2 22 rfl rfl)
theorem dX5_back_69 : decode cX5_back 69 = .ok (.getfield 36, 3) := dk_180 0 36 (dk_at dksX5_back_3 0 rfl rfl)
theorem dX5_back_72 : decode cX5_back 72 = .ok (.iload_n 1, 1) := dk_27 (dk_at dksX5_back_3 3 rfl rfl)
theorem dX5_back_73 : decode cX5_back 73 = .ok (.aload_n 0, 1) := dk_42 (dk_at dksX5_back_3 4 rfl rfl)
theorem dX5_back_74 : decode cX5_back 74 = .ok (.getfield 105, 3) := dk_180 0 105 (dk_at dksX5_back_3 5 rfl rfl)
theorem dX5_back_77 : decode cX5_back 77 = .ok (.iload_n 1, 1) := dk_27 (dk_at dksX5_back_3 8 rfl rfl)
theorem dX5_back_78 : decode cX5_back 78 = .ok (.iaload, 1) := dk_46 (dk_at dksX5_back_3 9 rfl rfl)
theorem dX5_back_79 : decode cX5_back 79 = .ok (.iastore, 1) := dk_79 (dk_at dksX5_back_3 10 rfl rfl)
theorem dX5_back_80 : decode cX5_back 80 = .ok (.aload_n 0, 1) := dk_42 (dk_at dksX5_back_3 11 rfl rfl)
theorem dX5_back_81 : decode cX5_back 81 = .ok (.getfield 39, 3) := dk_180 0 39 (dk_at dksX5_back_3 12 rfl rfl)
theorem dX5_back_84 : decode cX5_back 84 = .ok (.iload_n 1, 1) := dk_27 (dk_at dksX5_back_3 15 rfl rfl)
theorem dX5_back_85 : decode cX5_back 85 = .ok (.aload_n 0, 1) := dk_42 (dk_at dksX5_back_3 16 rfl rfl)
theorem dX5_back_86 : decode cX5_back 86 = .ok (.getfield 108, 3) := dk_180 0 108 (dk_at dksX5_back_3 17 rfl rfl)
theorem dX5_back_89 : decode cX5_back 89 = .ok (.iload_n 1, 1) := dk_27 (dk_at dksX5_back_3 20 rfl rfl)
theorem dX5_back_90 : decode cX5_back 90 = .ok (.iaload, 1) := dk_46 (dk_at dksX5_back_3 21 rfl rfl)
theorem dX5_back_91 : decode cX5_back 91 = .ok (.iastore, 1) := dk_79 (dk_at dksX5_back_3 22 rfl rfl)
theorem dX5_back_92 : decode cX5_back 92 = .ok (.iinc 1 1, 3) := dk_132 1 1 (dk_at dksX5_back_4 0 rfl rfl)
theorem dX5_back_95 : decode cX5_back 95 = .ok (.goto (-35), 3) := dk_167 255 221 (dk_at dksX5_back_4 3 rfl rfl)
theorem dX5_back_98 : decode cX5_back 98 = .ok (.iconst 0, 1) := dk_3 (dk_at dksX5_back_4 6 rfl rfl)
theorem dX5_back_99 : decode cX5_back 99 = .ok (.istore_n 1, 1) := dk_60 (dk_at dksX5_back_4 7 rfl rfl)
theorem dX5_back_100 : decode cX5_back 100 = .ok (.iload_n 1, 1) := dk_27 (dk_at dksX5_back_4 8 rfl rfl)
theorem dX5_back_101 : decode cX5_back 101 = .ok (.bipush 6, 2) := dk_16 6 (dk_at dksX5_back_4 9 rfl rfl)
theorem dX5_back_103 : decode cX5_back 103 = .ok (.if_icmp .ge 21, 3) := dk_162 0 21 (dk_at dksX5_back_4 11 rfl rfl)
theorem dX5_back_106 : decode cX5_back 106 = .ok (.aload_n 0, 1) := dk_42 (dk_at dksX5_back_4 14 rfl rfl)
theorem dX5_back_107 : decode cX5_back 107 = .ok (.getfield 46, 3) := dk_180 0 46 (dk_at dksX5_back_4 15 rfl rfl)
theorem dX5_back_110 : decode cX5_back 110 = .ok (.iload_n 1, 1) := dk_27 (dk_at dksX5_back_4 18 rfl rfl)
theorem dX5_back_111 : decode cX5_back 111 = .ok (.aload_n 0, 1) := dk_42 (dk_at dksX5_back_4 19 rfl rfl)
theorem dX5_back_112 : decode cX5_back 112 = .ok (.getfield 111, 3) := dk_180 0 111 (dk_at dksX5_back_4 20 rfl rfl)
theorem dX5_back_115 : decode cX5_back 115 = .ok (.iload_n 1, 1) := dk_27 (dk_at dksX5_back_4 23 rfl rfl)
theorem dX5_back_116 : decode cX5_back 116 = .ok (.iaload, 1) := dk_46 (dk_at dksX5_back_5 0 rfl rfl)
theorem dX5_back_117 : decode cX5_back 117 = .ok (.iastore, 1) := dk_79 (dk_at dksX5_back_5 1 rfl rfl)
theorem dX5_back_118 : decode cX5_back 118 = .ok (.iinc 1 1, 3) := dk_132 1 1 (dk_at dksX5_back_5 2 rfl rfl)
theorem dX5_back_121 : decode cX5_back 121 = .ok (.goto (-21), 3) := dk_167 255 235 (dk_at dksX5_back_5 5 rfl rfl)
theorem dX5_back_124 : decode cX5_back 124 = .ok (.aload_n 0, 1) := dk_42 (dk_at dksX5_back_5 8 rfl rfl)
theorem dX5_back_125 : decode cX5_back 125 = .ok (.getfield 46, 3) := dk_180 0 46 (dk_at dksX5_back_5 9 rfl rfl)
theorem dX5_back_128 : decode cX5_back 128 = .ok (.iconst 5, 1) := dk_8 (dk_at dksX5_back_5 12 rfl rfl)
theorem dX5_back_129 : decode cX5_back 129 = .ok (.iaload, 1) := dk_46 (dk_at dksX5_back_5 13 rfl rfl)
theorem dX5_back_130 : decode cX5_back 130 = .ok (.ireturn, 1) := dk_172 (dk_at dksX5_back_5 14 rfl rfl)
abbrev cX5_trace : ByteArray := prog_25_method_102_code
def yX5_trace : MethodName := ⟨RX5, "trace", "(I)I"⟩
def dkwX5_trace_1 : List UInt8 := [167, 0, 4, 2, 172]
abbrev dktX5_trace_1 : List UInt8 := dkwX5_trace_1 ++ []
def dkwX5_trace_0 : List UInt8 := [27, 155, 0, 26, 27, 42, 180, 1, 168, 162, 0, 18, 27, 16, 24, 162, 0, 12, 42, 180, 0, 117, 27, 46]
abbrev dktX5_trace_0 : List UInt8 := dkwX5_trace_0 ++ dktX5_trace_1
theorem dksX5_trace_0 : cX5_trace.data.toList.drop 0 = dktX5_trace_0 := by decide +kernel
theorem dksX5_trace_1 : cX5_trace.data.toList.drop 24 = dktX5_trace_1 := dk_seg dksX5_trace_0 24 rfl rfl
theorem dX5_trace_0 : decode cX5_trace 0 = .ok (.iload_n 1, 1) := dk_27 (dk_at dksX5_trace_0 0 rfl rfl)
theorem dX5_trace_1 : decode cX5_trace 1 = .ok (.ifCond .lt 26, 3) := dk_155 0 26 (dk_at dksX5_trace_0 1 rfl rfl)
theorem dX5_trace_4 : decode cX5_trace 4 = .ok (.iload_n 1, 1) := dk_27 (dk_at dksX5_trace_0 4 rfl rfl)
theorem dX5_trace_5 : decode cX5_trace 5 = .ok (.aload_n 0, 1) := dk_42 (dk_at dksX5_trace_0 5 rfl rfl)
theorem dX5_trace_6 : decode cX5_trace 6 = .ok (.getfield 424, 3) := dk_180 1 168 (dk_at dksX5_trace_0 6 rfl rfl)
theorem dX5_trace_9 : decode cX5_trace 9 = .ok (.if_icmp .ge 18, 3) := dk_162 0 18 (dk_at dksX5_trace_0 9 rfl rfl)
theorem dX5_trace_12 : decode cX5_trace 12 = .ok (.iload_n 1, 1) := dk_27 (dk_at dksX5_trace_0 12 rfl rfl)
theorem dX5_trace_13 : decode cX5_trace 13 = .ok (.bipush 24, 2) := dk_16 24 (dk_at dksX5_trace_0 13 rfl rfl)
theorem dX5_trace_15 : decode cX5_trace 15 = .ok (.if_icmp .ge 12, 3) := dk_162 0 12 (dk_at dksX5_trace_0 15 rfl rfl)
theorem dX5_trace_18 : decode cX5_trace 18 = .ok (.aload_n 0, 1) := dk_42 (dk_at dksX5_trace_0 18 rfl rfl)
theorem dX5_trace_19 : decode cX5_trace 19 = .ok (.getfield 117, 3) := dk_180 0 117 (dk_at dksX5_trace_0 19 rfl rfl)
theorem dX5_trace_22 : decode cX5_trace 22 = .ok (.iload_n 1, 1) := dk_27 (dk_at dksX5_trace_0 22 rfl rfl)
theorem dX5_trace_23 : decode cX5_trace 23 = .ok (.iaload, 1) := dk_46 (dk_at dksX5_trace_0 23 rfl rfl)
theorem dX5_trace_24 : decode cX5_trace 24 = .ok (.goto 4, 3) := dk_167 0 4 (dk_at dksX5_trace_1 0 rfl rfl)
theorem dX5_trace_27 : decode cX5_trace 27 = .ok (.iconst (-1), 1) := dk_2 (dk_at dksX5_trace_1 3 rfl rfl)
theorem dX5_trace_28 : decode cX5_trace 28 = .ok (.ireturn, 1) := dk_172 (dk_at dksX5_trace_1 4 rfl rfl)
abbrev cX5_body : ByteArray := prog_25_method_103_code
def yX5_body : MethodName := ⟨RX5, "body", "(I)I"⟩
def dkwX5_body_2 : List UInt8 := [4, 100, 172]
abbrev dktX5_body_2 : List UInt8 := dkwX5_body_2 ++ []
def dkwX5_body_1 : List UInt8 := [42, 180, 0, 114, 42, 180, 1, 165, 27, 79, 42, 89, 180, 1, 165, 4, 96, 181, 1, 165, 42, 180, 1, 165]
abbrev dktX5_body_1 : List UInt8 := dkwX5_body_1 ++ dktX5_body_2
def dkwX5_body_0 : List UInt8 := [27, 3, 16, 7, 184, 0, 136, 154, 0, 5, 2, 172, 42, 180, 1, 165, 16, 50, 160, 0, 6, 16, 253, 172]
abbrev dktX5_body_0 : List UInt8 := dkwX5_body_0 ++ dktX5_body_1
theorem dksX5_body_0 : cX5_body.data.toList.drop 0 = dktX5_body_0 := by decide +kernel
theorem dksX5_body_1 : cX5_body.data.toList.drop 24 = dktX5_body_1 := dk_seg dksX5_body_0 24 rfl rfl
theorem dksX5_body_2 : cX5_body.data.toList.drop 48 = dktX5_body_2 := dk_seg dksX5_body_1 24 rfl rfl
theorem dX5_body_0 : decode cX5_body 0 = .ok (.iload_n 1, 1) := dk_27 (dk_at dksX5_body_0 0 rfl rfl)
theorem dX5_body_1 : decode cX5_body 1 = .ok (.iconst 0, 1) := dk_3 (dk_at dksX5_body_0 1 rfl rfl)
theorem dX5_body_2 : decode cX5_body 2 = .ok (.bipush 7, 2) := dk_16 7 (dk_at dksX5_body_0 2 rfl rfl)
theorem dX5_body_4 : decode cX5_body 4 = .ok (.invokestatic 136, 3) := dk_184 0 136 (dk_at dksX5_body_0 4 rfl rfl)
theorem dX5_body_7 : decode cX5_body 7 = .ok (.ifCond .ne 5, 3) := dk_154 0 5 (dk_at dksX5_body_0 7 rfl rfl)
theorem dX5_body_10 : decode cX5_body 10 = .ok (.iconst (-1), 1) := dk_2 (dk_at dksX5_body_0 10 rfl rfl)
theorem dX5_body_11 : decode cX5_body 11 = .ok (.ireturn, 1) := dk_172 (dk_at dksX5_body_0 11 rfl rfl)
theorem dX5_body_12 : decode cX5_body 12 = .ok (.aload_n 0, 1) := dk_42 (dk_at dksX5_body_0 12 rfl rfl)
theorem dX5_body_13 : decode cX5_body 13 = .ok (.getfield 421, 3) := dk_180 1 165 (dk_at dksX5_body_0 13 rfl rfl)
theorem dX5_body_16 : decode cX5_body 16 = .ok (.bipush 50, 2) := dk_16 50 (dk_at dksX5_body_0 16 rfl rfl)
theorem dX5_body_18 : decode cX5_body 18 = .ok (.if_icmp .ne 6, 3) := dk_160 0 6 (dk_at dksX5_body_0 18 rfl rfl)
theorem dX5_body_21 : decode cX5_body 21 = .ok (.bipush (-3), 2) := dk_16 253 (dk_at dksX5_body_0 21 rfl rfl)
theorem dX5_body_23 : decode cX5_body 23 = .ok (.ireturn, 1) := dk_172 (dk_at dksX5_body_0 23 rfl rfl)
theorem dX5_body_24 : decode cX5_body 24 = .ok (.aload_n 0, 1) := dk_42 (dk_at dksX5_body_1 0 rfl rfl)
theorem dX5_body_25 : decode cX5_body 25 = .ok (.getfield 114, 3) := dk_180 0 114 (dk_at dksX5_body_1 1 rfl rfl)
theorem dX5_body_28 : decode cX5_body 28 = .ok (.aload_n 0, 1) := dk_42 (dk_at dksX5_body_1 4 rfl rfl)
theorem dX5_body_29 : decode cX5_body 29 = .ok (.getfield 421, 3) := dk_180 1 165 (dk_at dksX5_body_1 5 rfl rfl)
theorem dX5_body_32 : decode cX5_body 32 = .ok (.iload_n 1, 1) := dk_27 (dk_at dksX5_body_1 8 rfl rfl)
theorem dX5_body_33 : decode cX5_body 33 = .ok (.iastore, 1) := dk_79 (dk_at dksX5_body_1 9 rfl rfl)
theorem dX5_body_34 : decode cX5_body 34 = .ok (.aload_n 0, 1) := dk_42 (dk_at dksX5_body_1 10 rfl rfl)
theorem dX5_body_35 : decode cX5_body 35 = .ok (.dup, 1) := dk_89 (dk_at dksX5_body_1 11 rfl rfl)
theorem dX5_body_36 : decode cX5_body 36 = .ok (.getfield 421, 3) := dk_180 1 165 (dk_at dksX5_body_1 12 rfl rfl)
theorem dX5_body_39 : decode cX5_body 39 = .ok (.iconst 1, 1) := dk_4 (dk_at dksX5_body_1 15 rfl rfl)
theorem dX5_body_40 : decode cX5_body 40 = .ok (.iadd, 1) := dk_96 (dk_at dksX5_body_1 16 rfl rfl)
theorem dX5_body_41 : decode cX5_body 41 = .ok (.putfield 421, 3) := dk_181 1 165 (dk_at dksX5_body_1 17 rfl rfl)
theorem dX5_body_44 : decode cX5_body 44 = .ok (.aload_n 0, 1) := dk_42 (dk_at dksX5_body_1 20 rfl rfl)
theorem dX5_body_45 : decode cX5_body 45 = .ok (.getfield 421, 3) := dk_180 1 165 (dk_at dksX5_body_1 21 rfl rfl)
theorem dX5_body_48 : decode cX5_body 48 = .ok (.iconst 1, 1) := dk_4 (dk_at dksX5_body_2 0 rfl rfl)
theorem dX5_body_49 : decode cX5_body 49 = .ok (.isub, 1) := dk_100 (dk_at dksX5_body_2 1 rfl rfl)
theorem dX5_body_50 : decode cX5_body 50 = .ok (.ireturn, 1) := dk_172 (dk_at dksX5_body_2 2 rfl rfl)
abbrev cX5_act : ByteArray := prog_25_method_116_code
def yX5_act : MethodName := ⟨RX5, "act", "(III)I"⟩
def dkwX5_act_2 : List UInt8 := [167, 0, 23, 28, 5, 160, 0, 12, 42, 27, 29, 182, 1, 193, 167, 0, 9, 42, 27, 29, 182, 1, 211, 172]
abbrev dktX5_act_2 : List UInt8 := dkwX5_act_2 ++ []
def dkwX5_act_1 : List UInt8 := [28, 154, 0, 12, 42, 27, 29, 182, 1, 184, 167, 0, 37, 28, 4, 160, 0, 12, 42, 27, 29, 182, 1, 202]
abbrev dktX5_act_1 : List UInt8 := dkwX5_act_1 ++ dktX5_act_2
def dkwX5_act_0 : List UInt8 := [42, 3, 181, 1, 168, 42, 27, 182, 1, 208, 153, 0, 12, 28, 3, 6, 184, 0, 136, 154, 0, 5, 3, 172]
abbrev dktX5_act_0 : List UInt8 := dkwX5_act_0 ++ dktX5_act_1
theorem dksX5_act_0 : cX5_act.data.toList.drop 0 = dktX5_act_0 := by decide +kernel
theorem dksX5_act_1 : cX5_act.data.toList.drop 24 = dktX5_act_1 := dk_seg dksX5_act_0 24 rfl rfl
theorem dksX5_act_2 : cX5_act.data.toList.drop 48 = dktX5_act_2 := dk_seg dksX5_act_1 24 rfl rfl
theorem dX5_act_0 : decode cX5_act 0 = .ok (.aload_n 0, 1) := dk_42 (dk_at dksX5_act_0 0 rfl rfl)
theorem dX5_act_1 : decode cX5_act 1 = .ok (.iconst 0, 1) := dk_3 (dk_at dksX5_act_0 1 rfl rfl)
theorem dX5_act_2 : decode cX5_act 2 = .ok (.putfield 424, 3) := dk_181 1 168 (dk_at dksX5_act_0 2 rfl rfl)
theorem dX5_act_5 : decode cX5_act 5 = .ok (.aload_n 0, 1) := dk_42 (dk_at dksX5_act_0 5 rfl rfl)
theorem dX5_act_6 : decode cX5_act 6 = .ok (.iload_n 1, 1) := dk_27 (dk_at dksX5_act_0 6 rfl rfl)
theorem dX5_act_7 : decode cX5_act 7 = .ok (.invokevirtual 464, 3) := dk_182 1 208 (dk_at dksX5_act_0 7 rfl rfl)
theorem dX5_act_10 : decode cX5_act 10 = .ok (.ifCond .eq 12, 3) := dk_153 0 12 (dk_at dksX5_act_0 10 rfl rfl)
theorem dX5_act_13 : decode cX5_act 13 = .ok (.iload_n 2, 1) := dk_28 (dk_at dksX5_act_0 13 rfl rfl)
theorem dX5_act_14 : decode cX5_act 14 = .ok (.iconst 0, 1) := dk_3 (dk_at dksX5_act_0 14 rfl rfl)
theorem dX5_act_15 : decode cX5_act 15 = .ok (.iconst 3, 1) := dk_6 (dk_at dksX5_act_0 15 rfl rfl)
theorem dX5_act_16 : decode cX5_act 16 = .ok (.invokestatic 136, 3) := dk_184 0 136 (dk_at dksX5_act_0 16 rfl rfl)
theorem dX5_act_19 : decode cX5_act 19 = .ok (.ifCond .ne 5, 3) := dk_154 0 5 (dk_at dksX5_act_0 19 rfl rfl)
theorem dX5_act_22 : decode cX5_act 22 = .ok (.iconst 0, 1) := dk_3 (dk_at dksX5_act_0 22 rfl rfl)
theorem dX5_act_23 : decode cX5_act 23 = .ok (.ireturn, 1) := dk_172 (dk_at dksX5_act_0 23 rfl rfl)
theorem dX5_act_24 : decode cX5_act 24 = .ok (.iload_n 2, 1) := dk_28 (dk_at dksX5_act_1 0 rfl rfl)
theorem dX5_act_25 : decode cX5_act 25 = .ok (.ifCond .ne 12, 3) := dk_154 0 12 (dk_at dksX5_act_1 1 rfl rfl)
theorem dX5_act_28 : decode cX5_act 28 = .ok (.aload_n 0, 1) := dk_42 (dk_at dksX5_act_1 4 rfl rfl)
theorem dX5_act_29 : decode cX5_act 29 = .ok (.iload_n 1, 1) := dk_27 (dk_at dksX5_act_1 5 rfl rfl)
theorem dX5_act_30 : decode cX5_act 30 = .ok (.iload_n 3, 1) := dk_29 (dk_at dksX5_act_1 6 rfl rfl)
theorem dX5_act_31 : decode cX5_act 31 = .ok (.invokevirtual 440, 3) := dk_182 1 184 (dk_at dksX5_act_1 7 rfl rfl)
theorem dX5_act_34 : decode cX5_act 34 = .ok (.goto 37, 3) := dk_167 0 37 (dk_at dksX5_act_1 10 rfl rfl)
theorem dX5_act_37 : decode cX5_act 37 = .ok (.iload_n 2, 1) := dk_28 (dk_at dksX5_act_1 13 rfl rfl)
theorem dX5_act_38 : decode cX5_act 38 = .ok (.iconst 1, 1) := dk_4 (dk_at dksX5_act_1 14 rfl rfl)
theorem dX5_act_39 : decode cX5_act 39 = .ok (.if_icmp .ne 12, 3) := dk_160 0 12 (dk_at dksX5_act_1 15 rfl rfl)
theorem dX5_act_42 : decode cX5_act 42 = .ok (.aload_n 0, 1) := dk_42 (dk_at dksX5_act_1 18 rfl rfl)
theorem dX5_act_43 : decode cX5_act 43 = .ok (.iload_n 1, 1) := dk_27 (dk_at dksX5_act_1 19 rfl rfl)
theorem dX5_act_44 : decode cX5_act 44 = .ok (.iload_n 3, 1) := dk_29 (dk_at dksX5_act_1 20 rfl rfl)
theorem dX5_act_45 : decode cX5_act 45 = .ok (.invokevirtual 458, 3) := dk_182 1 202 (dk_at dksX5_act_1 21 rfl rfl)
theorem dX5_act_48 : decode cX5_act 48 = .ok (.goto 23, 3) := dk_167 0 23 (dk_at dksX5_act_2 0 rfl rfl)
theorem dX5_act_51 : decode cX5_act 51 = .ok (.iload_n 2, 1) := dk_28 (dk_at dksX5_act_2 3 rfl rfl)
theorem dX5_act_52 : decode cX5_act 52 = .ok (.iconst 2, 1) := dk_5 (dk_at dksX5_act_2 4 rfl rfl)
theorem dX5_act_53 : decode cX5_act 53 = .ok (.if_icmp .ne 12, 3) := dk_160 0 12 (dk_at dksX5_act_2 5 rfl rfl)
theorem dX5_act_56 : decode cX5_act 56 = .ok (.aload_n 0, 1) := dk_42 (dk_at dksX5_act_2 8 rfl rfl)
theorem dX5_act_57 : decode cX5_act 57 = .ok (.iload_n 1, 1) := dk_27 (dk_at dksX5_act_2 9 rfl rfl)
theorem dX5_act_58 : decode cX5_act 58 = .ok (.iload_n 3, 1) := dk_29 (dk_at dksX5_act_2 10 rfl rfl)
theorem dX5_act_59 : decode cX5_act 59 = .ok (.invokevirtual 449, 3) := dk_182 1 193 (dk_at dksX5_act_2 11 rfl rfl)
theorem dX5_act_62 : decode cX5_act 62 = .ok (.goto 9, 3) := dk_167 0 9 (dk_at dksX5_act_2 14 rfl rfl)
theorem dX5_act_65 : decode cX5_act 65 = .ok (.aload_n 0, 1) := dk_42 (dk_at dksX5_act_2 17 rfl rfl)
theorem dX5_act_66 : decode cX5_act 66 = .ok (.iload_n 1, 1) := dk_27 (dk_at dksX5_act_2 18 rfl rfl)
theorem dX5_act_67 : decode cX5_act 67 = .ok (.iload_n 3, 1) := dk_29 (dk_at dksX5_act_2 19 rfl rfl)
theorem dX5_act_68 : decode cX5_act 68 = .ok (.invokevirtual 467, 3) := dk_182 1 211 (dk_at dksX5_act_2 20 rfl rfl)
theorem dX5_act_71 : decode cX5_act 71 = .ok (.ireturn, 1) := dk_172 (dk_at dksX5_act_2 23 rfl rfl)
abbrev cX5_isBody : ByteArray := prog_25_method_100_code
def yX5_isBody : MethodName := ⟨RX5, "isBody", "(I)Z"⟩
def dkwX5_isBody_0 : List UInt8 := [27, 3, 42, 180, 1, 165, 4, 100, 184, 0, 136, 172]
abbrev dktX5_isBody_0 : List UInt8 := dkwX5_isBody_0 ++ []
theorem dksX5_isBody_0 : cX5_isBody.data.toList.drop 0 = dktX5_isBody_0 := by decide +kernel
theorem dX5_isBody_0 : decode cX5_isBody 0 = .ok (.iload_n 1, 1) := dk_27 (dk_at dksX5_isBody_0 0 rfl rfl)
theorem dX5_isBody_1 : decode cX5_isBody 1 = .ok (.iconst 0, 1) := dk_3 (dk_at dksX5_isBody_0 1 rfl rfl)
theorem dX5_isBody_2 : decode cX5_isBody 2 = .ok (.aload_n 0, 1) := dk_42 (dk_at dksX5_isBody_0 2 rfl rfl)
theorem dX5_isBody_3 : decode cX5_isBody 3 = .ok (.getfield 421, 3) := dk_180 1 165 (dk_at dksX5_isBody_0 3 rfl rfl)
theorem dX5_isBody_6 : decode cX5_isBody 6 = .ok (.iconst 1, 1) := dk_4 (dk_at dksX5_isBody_0 6 rfl rfl)
theorem dX5_isBody_7 : decode cX5_isBody 7 = .ok (.isub, 1) := dk_100 (dk_at dksX5_isBody_0 7 rfl rfl)
theorem dX5_isBody_8 : decode cX5_isBody 8 = .ok (.invokestatic 136, 3) := dk_184 0 136 (dk_at dksX5_isBody_0 8 rfl rfl)
theorem dX5_isBody_11 : decode cX5_isBody 11 = .ok (.ireturn, 1) := dk_172 (dk_at dksX5_isBody_0 11 rfl rfl)
abbrev cX5_holding : ByteArray := prog_25_method_107_code
def yX5_holding : MethodName := ⟨RX5, "holding", "(II)I"⟩
def dkwX5_holding_3 : List UInt8 := [182, 1, 181, 167, 0, 9, 42, 27, 28, 182, 1, 175, 172]
abbrev dktX5_holding_3 : List UInt8 := dkwX5_holding_3 ++ []
def dkwX5_holding_2 : List UInt8 := [27, 28, 182, 1, 181, 4, 100, 172, 42, 180, 0, 114, 27, 46, 16, 6, 160, 0, 12, 42, 27, 28]
abbrev dktX5_holding_2 : List UInt8 := dkwX5_holding_2 ++ dktX5_holding_3
def dkwX5_holding_1 : List UInt8 := [182, 1, 175, 6, 96, 172, 42, 180, 0, 114, 27, 46, 16, 7, 160, 0, 18, 42, 16, 81, 182, 1, 171, 42]
abbrev dktX5_holding_1 : List UInt8 := dkwX5_holding_1 ++ dktX5_holding_2
def dkwX5_holding_0 : List UInt8 := [42, 180, 0, 114, 27, 46, 4, 184, 1, 178, 153, 0, 18, 42, 16, 20, 182, 1, 171, 42, 27, 28]
abbrev dktX5_holding_0 : List UInt8 := dkwX5_holding_0 ++ dktX5_holding_1
theorem dksX5_holding_0 : cX5_holding.data.toList.drop 0 = dktX5_holding_0 := by decide +kernel
theorem dksX5_holding_1 : cX5_holding.data.toList.drop 22 = dktX5_holding_1 := dk_seg dksX5_holding_0 22 rfl rfl
theorem dksX5_holding_2 : cX5_holding.data.toList.drop 46 = dktX5_holding_2 := dk_seg dksX5_holding_1 24 rfl rfl
theorem dksX5_holding_3 : cX5_holding.data.toList.drop 68 = dktX5_holding_3 := dk_seg dksX5_holding_2 22 rfl rfl
theorem dX5_holding_0 : decode cX5_holding 0 = .ok (.aload_n 0, 1) := dk_42 (dk_at dksX5_holding_0 0 rfl rfl)
theorem dX5_holding_1 : decode cX5_holding 1 = .ok (.getfield 114, 3) := dk_180 0 114 (dk_at dksX5_holding_0 1 rfl rfl)
theorem dX5_holding_4 : decode cX5_holding 4 = .ok (.iload_n 1, 1) := dk_27 (dk_at dksX5_holding_0 4 rfl rfl)
theorem dX5_holding_5 : decode cX5_holding 5 = .ok (.iaload, 1) := dk_46 (dk_at dksX5_holding_0 5 rfl rfl)
theorem dX5_holding_6 : decode cX5_holding 6 = .ok (.iconst 1, 1) := dk_4 (dk_at dksX5_holding_0 6 rfl rfl)
theorem dX5_holding_7 : decode cX5_holding 7 = .ok (.invokestatic 434, 3) := dk_184 1 178 (dk_at dksX5_holding_0 7 rfl rfl)
theorem dX5_holding_10 : decode cX5_holding 10 = .ok (.ifCond .eq 18, 3) := dk_153 0 18 (dk_at dksX5_holding_0 10 rfl rfl)
theorem dX5_holding_13 : decode cX5_holding 13 = .ok (.aload_n 0, 1) := dk_42 (dk_at dksX5_holding_0 13 rfl rfl)
theorem dX5_holding_14 : decode cX5_holding 14 = .ok (.bipush 20, 2) := dk_16 20 (dk_at dksX5_holding_0 14 rfl rfl)
theorem dX5_holding_16 : decode cX5_holding 16 = .ok (.invokevirtual 427, 3) := dk_182 1 171 (dk_at dksX5_holding_0 16 rfl rfl)
theorem dX5_holding_19 : decode cX5_holding 19 = .ok (.aload_n 0, 1) := dk_42 (dk_at dksX5_holding_0 19 rfl rfl)
theorem dX5_holding_20 : decode cX5_holding 20 = .ok (.iload_n 1, 1) := dk_27 (dk_at dksX5_holding_0 20 rfl rfl)
theorem dX5_holding_21 : decode cX5_holding 21 = .ok (.iload_n 2, 1) := dk_28 (dk_at dksX5_holding_0 21 rfl rfl)
theorem dX5_holding_22 : decode cX5_holding 22 = .ok (.invokevirtual 431, 3) := dk_182 1 175 (dk_at dksX5_holding_1 0 rfl rfl)
theorem dX5_holding_25 : decode cX5_holding 25 = .ok (.iconst 3, 1) := dk_6 (dk_at dksX5_holding_1 3 rfl rfl)
theorem dX5_holding_26 : decode cX5_holding 26 = .ok (.iadd, 1) := dk_96 (dk_at dksX5_holding_1 4 rfl rfl)
theorem dX5_holding_27 : decode cX5_holding 27 = .ok (.ireturn, 1) := dk_172 (dk_at dksX5_holding_1 5 rfl rfl)
theorem dX5_holding_28 : decode cX5_holding 28 = .ok (.aload_n 0, 1) := dk_42 (dk_at dksX5_holding_1 6 rfl rfl)
theorem dX5_holding_29 : decode cX5_holding 29 = .ok (.getfield 114, 3) := dk_180 0 114 (dk_at dksX5_holding_1 7 rfl rfl)
theorem dX5_holding_32 : decode cX5_holding 32 = .ok (.iload_n 1, 1) := dk_27 (dk_at dksX5_holding_1 10 rfl rfl)
theorem dX5_holding_33 : decode cX5_holding 33 = .ok (.iaload, 1) := dk_46 (dk_at dksX5_holding_1 11 rfl rfl)
theorem dX5_holding_34 : decode cX5_holding 34 = .ok (.bipush 7, 2) := dk_16 7 (dk_at dksX5_holding_1 12 rfl rfl)
theorem dX5_holding_36 : decode cX5_holding 36 = .ok (.if_icmp .ne 18, 3) := dk_160 0 18 (dk_at dksX5_holding_1 14 rfl rfl)
theorem dX5_holding_39 : decode cX5_holding 39 = .ok (.aload_n 0, 1) := dk_42 (dk_at dksX5_holding_1 17 rfl rfl)
theorem dX5_holding_40 : decode cX5_holding 40 = .ok (.bipush 81, 2) := dk_16 81 (dk_at dksX5_holding_1 18 rfl rfl)
theorem dX5_holding_42 : decode cX5_holding 42 = .ok (.invokevirtual 427, 3) := dk_182 1 171 (dk_at dksX5_holding_1 20 rfl rfl)
theorem dX5_holding_45 : decode cX5_holding 45 = .ok (.aload_n 0, 1) := dk_42 (dk_at dksX5_holding_1 23 rfl rfl)
theorem dX5_holding_46 : decode cX5_holding 46 = .ok (.iload_n 1, 1) := dk_27 (dk_at dksX5_holding_2 0 rfl rfl)
theorem dX5_holding_47 : decode cX5_holding 47 = .ok (.iload_n 2, 1) := dk_28 (dk_at dksX5_holding_2 1 rfl rfl)
theorem dX5_holding_48 : decode cX5_holding 48 = .ok (.invokevirtual 437, 3) := dk_182 1 181 (dk_at dksX5_holding_2 2 rfl rfl)
theorem dX5_holding_51 : decode cX5_holding 51 = .ok (.iconst 1, 1) := dk_4 (dk_at dksX5_holding_2 5 rfl rfl)
theorem dX5_holding_52 : decode cX5_holding 52 = .ok (.isub, 1) := dk_100 (dk_at dksX5_holding_2 6 rfl rfl)
theorem dX5_holding_53 : decode cX5_holding 53 = .ok (.ireturn, 1) := dk_172 (dk_at dksX5_holding_2 7 rfl rfl)
theorem dX5_holding_54 : decode cX5_holding 54 = .ok (.aload_n 0, 1) := dk_42 (dk_at dksX5_holding_2 8 rfl rfl)
theorem dX5_holding_55 : decode cX5_holding 55 = .ok (.getfield 114, 3) := dk_180 0 114 (dk_at dksX5_holding_2 9 rfl rfl)
theorem dX5_holding_58 : decode cX5_holding 58 = .ok (.iload_n 1, 1) := dk_27 (dk_at dksX5_holding_2 12 rfl rfl)
theorem dX5_holding_59 : decode cX5_holding 59 = .ok (.iaload, 1) := dk_46 (dk_at dksX5_holding_2 13 rfl rfl)
theorem dX5_holding_60 : decode cX5_holding 60 = .ok (.bipush 6, 2) := dk_16 6 (dk_at dksX5_holding_2 14 rfl rfl)
theorem dX5_holding_62 : decode cX5_holding 62 = .ok (.if_icmp .ne 12, 3) := dk_160 0 12 (dk_at dksX5_holding_2 16 rfl rfl)
theorem dX5_holding_65 : decode cX5_holding 65 = .ok (.aload_n 0, 1) := dk_42 (dk_at dksX5_holding_2 19 rfl rfl)
theorem dX5_holding_66 : decode cX5_holding 66 = .ok (.iload_n 1, 1) := dk_27 (dk_at dksX5_holding_2 20 rfl rfl)
theorem dX5_holding_67 : decode cX5_holding 67 = .ok (.iload_n 2, 1) := dk_28 (dk_at dksX5_holding_2 21 rfl rfl)
theorem dX5_holding_68 : decode cX5_holding 68 = .ok (.invokevirtual 437, 3) := dk_182 1 181 (dk_at dksX5_holding_3 0 rfl rfl)
theorem dX5_holding_71 : decode cX5_holding 71 = .ok (.goto 9, 3) := dk_167 0 9 (dk_at dksX5_holding_3 3 rfl rfl)
theorem dX5_holding_74 : decode cX5_holding 74 = .ok (.aload_n 0, 1) := dk_42 (dk_at dksX5_holding_3 6 rfl rfl)
theorem dX5_holding_75 : decode cX5_holding 75 = .ok (.iload_n 1, 1) := dk_27 (dk_at dksX5_holding_3 7 rfl rfl)
theorem dX5_holding_76 : decode cX5_holding 76 = .ok (.iload_n 2, 1) := dk_28 (dk_at dksX5_holding_3 8 rfl rfl)
theorem dX5_holding_77 : decode cX5_holding 77 = .ok (.invokevirtual 431, 3) := dk_182 1 175 (dk_at dksX5_holding_3 9 rfl rfl)
theorem dX5_holding_80 : decode cX5_holding 80 = .ok (.ireturn, 1) := dk_172 (dk_at dksX5_holding_3 12 rfl rfl)
abbrev cX5_isUnder : ByteArray := prog_25_method_104_code
def yX5_isUnder : MethodName := ⟨RX5, "isUnder", "(II)Z"⟩
def dkwX5_isUnder_2 : List UInt8 := [160, 0, 13, 26, 16, 7, 160, 0, 7, 4, 167, 0, 4, 3, 172]
abbrev dktX5_isUnder_2 : List UInt8 := dkwX5_isUnder_2 ++ []
def dkwX5_isUnder_1 : List UInt8 := [26, 6, 159, 0, 30, 26, 8, 159, 0, 25, 27, 6, 160, 0, 8, 26, 8, 159, 0, 15, 27, 16, 6]
abbrev dktX5_isUnder_1 : List UInt8 := dkwX5_isUnder_1 ++ dktX5_isUnder_2
def dkwX5_isUnder_0 : List UInt8 := [27, 153, 0, 55, 26, 27, 159, 0, 50, 27, 4, 160, 0, 8, 26, 7, 159, 0, 40, 27, 5, 160, 0, 13]
abbrev dktX5_isUnder_0 : List UInt8 := dkwX5_isUnder_0 ++ dktX5_isUnder_1
theorem dksX5_isUnder_0 : cX5_isUnder.data.toList.drop 0 = dktX5_isUnder_0 := by decide +kernel
theorem dksX5_isUnder_1 : cX5_isUnder.data.toList.drop 24 = dktX5_isUnder_1 := dk_seg dksX5_isUnder_0 24 rfl rfl
theorem dksX5_isUnder_2 : cX5_isUnder.data.toList.drop 47 = dktX5_isUnder_2 := dk_seg dksX5_isUnder_1 23 rfl rfl
theorem dX5_isUnder_0 : decode cX5_isUnder 0 = .ok (.iload_n 1, 1) := dk_27 (dk_at dksX5_isUnder_0 0 rfl rfl)
theorem dX5_isUnder_1 : decode cX5_isUnder 1 = .ok (.ifCond .eq 55, 3) := dk_153 0 55 (dk_at dksX5_isUnder_0 1 rfl rfl)
theorem dX5_isUnder_4 : decode cX5_isUnder 4 = .ok (.iload_n 0, 1) := dk_26 (dk_at dksX5_isUnder_0 4 rfl rfl)
theorem dX5_isUnder_5 : decode cX5_isUnder 5 = .ok (.iload_n 1, 1) := dk_27 (dk_at dksX5_isUnder_0 5 rfl rfl)
theorem dX5_isUnder_6 : decode cX5_isUnder 6 = .ok (.if_icmp .eq 50, 3) := dk_159 0 50 (dk_at dksX5_isUnder_0 6 rfl rfl)
theorem dX5_isUnder_9 : decode cX5_isUnder 9 = .ok (.iload_n 1, 1) := dk_27 (dk_at dksX5_isUnder_0 9 rfl rfl)
theorem dX5_isUnder_10 : decode cX5_isUnder 10 = .ok (.iconst 1, 1) := dk_4 (dk_at dksX5_isUnder_0 10 rfl rfl)
theorem dX5_isUnder_11 : decode cX5_isUnder 11 = .ok (.if_icmp .ne 8, 3) := dk_160 0 8 (dk_at dksX5_isUnder_0 11 rfl rfl)
theorem dX5_isUnder_14 : decode cX5_isUnder 14 = .ok (.iload_n 0, 1) := dk_26 (dk_at dksX5_isUnder_0 14 rfl rfl)
theorem dX5_isUnder_15 : decode cX5_isUnder 15 = .ok (.iconst 4, 1) := dk_7 (dk_at dksX5_isUnder_0 15 rfl rfl)
theorem dX5_isUnder_16 : decode cX5_isUnder 16 = .ok (.if_icmp .eq 40, 3) := dk_159 0 40 (dk_at dksX5_isUnder_0 16 rfl rfl)
theorem dX5_isUnder_19 : decode cX5_isUnder 19 = .ok (.iload_n 1, 1) := dk_27 (dk_at dksX5_isUnder_0 19 rfl rfl)
theorem dX5_isUnder_20 : decode cX5_isUnder 20 = .ok (.iconst 2, 1) := dk_5 (dk_at dksX5_isUnder_0 20 rfl rfl)
theorem dX5_isUnder_21 : decode cX5_isUnder 21 = .ok (.if_icmp .ne 13, 3) := dk_160 0 13 (dk_at dksX5_isUnder_0 21 rfl rfl)
theorem dX5_isUnder_24 : decode cX5_isUnder 24 = .ok (.iload_n 0, 1) := dk_26 (dk_at dksX5_isUnder_1 0 rfl rfl)
theorem dX5_isUnder_25 : decode cX5_isUnder 25 = .ok (.iconst 3, 1) := dk_6 (dk_at dksX5_isUnder_1 1 rfl rfl)
theorem dX5_isUnder_26 : decode cX5_isUnder 26 = .ok (.if_icmp .eq 30, 3) := dk_159 0 30 (dk_at dksX5_isUnder_1 2 rfl rfl)
theorem dX5_isUnder_29 : decode cX5_isUnder 29 = .ok (.iload_n 0, 1) := dk_26 (dk_at dksX5_isUnder_1 5 rfl rfl)
theorem dX5_isUnder_30 : decode cX5_isUnder 30 = .ok (.iconst 5, 1) := dk_8 (dk_at dksX5_isUnder_1 6 rfl rfl)
theorem dX5_isUnder_31 : decode cX5_isUnder 31 = .ok (.if_icmp .eq 25, 3) := dk_159 0 25 (dk_at dksX5_isUnder_1 7 rfl rfl)
theorem dX5_isUnder_34 : decode cX5_isUnder 34 = .ok (.iload_n 1, 1) := dk_27 (dk_at dksX5_isUnder_1 10 rfl rfl)
theorem dX5_isUnder_35 : decode cX5_isUnder 35 = .ok (.iconst 3, 1) := dk_6 (dk_at dksX5_isUnder_1 11 rfl rfl)
theorem dX5_isUnder_36 : decode cX5_isUnder 36 = .ok (.if_icmp .ne 8, 3) := dk_160 0 8 (dk_at dksX5_isUnder_1 12 rfl rfl)
theorem dX5_isUnder_39 : decode cX5_isUnder 39 = .ok (.iload_n 0, 1) := dk_26 (dk_at dksX5_isUnder_1 15 rfl rfl)
theorem dX5_isUnder_40 : decode cX5_isUnder 40 = .ok (.iconst 5, 1) := dk_8 (dk_at dksX5_isUnder_1 16 rfl rfl)
theorem dX5_isUnder_41 : decode cX5_isUnder 41 = .ok (.if_icmp .eq 15, 3) := dk_159 0 15 (dk_at dksX5_isUnder_1 17 rfl rfl)
theorem dX5_isUnder_44 : decode cX5_isUnder 44 = .ok (.iload_n 1, 1) := dk_27 (dk_at dksX5_isUnder_1 20 rfl rfl)
theorem dX5_isUnder_45 : decode cX5_isUnder 45 = .ok (.bipush 6, 2) := dk_16 6 (dk_at dksX5_isUnder_1 21 rfl rfl)
theorem dX5_isUnder_47 : decode cX5_isUnder 47 = .ok (.if_icmp .ne 13, 3) := dk_160 0 13 (dk_at dksX5_isUnder_2 0 rfl rfl)
theorem dX5_isUnder_50 : decode cX5_isUnder 50 = .ok (.iload_n 0, 1) := dk_26 (dk_at dksX5_isUnder_2 3 rfl rfl)
theorem dX5_isUnder_51 : decode cX5_isUnder 51 = .ok (.bipush 7, 2) := dk_16 7 (dk_at dksX5_isUnder_2 4 rfl rfl)
theorem dX5_isUnder_53 : decode cX5_isUnder 53 = .ok (.if_icmp .ne 7, 3) := dk_160 0 7 (dk_at dksX5_isUnder_2 6 rfl rfl)
theorem dX5_isUnder_56 : decode cX5_isUnder 56 = .ok (.iconst 1, 1) := dk_4 (dk_at dksX5_isUnder_2 9 rfl rfl)
theorem dX5_isUnder_57 : decode cX5_isUnder 57 = .ok (.goto 4, 3) := dk_167 0 4 (dk_at dksX5_isUnder_2 10 rfl rfl)
theorem dX5_isUnder_60 : decode cX5_isUnder 60 = .ok (.iconst 0, 1) := dk_3 (dk_at dksX5_isUnder_2 13 rfl rfl)
theorem dX5_isUnder_61 : decode cX5_isUnder 61 = .ok (.ireturn, 1) := dk_172 (dk_at dksX5_isUnder_2 14 rfl rfl)
abbrev cX5_ran : ByteArray := prog_25_method_101_code
def yX5_ran : MethodName := ⟨RX5, "ran", "(I)V"⟩
def dkwX5_ran_1 : List UInt8 := [4, 96, 181, 1, 168, 177]
abbrev dktX5_ran_1 : List UInt8 := dkwX5_ran_1 ++ []
def dkwX5_ran_0 : List UInt8 := [42, 180, 1, 168, 16, 24, 162, 0, 13, 42, 180, 0, 117, 42, 180, 1, 168, 27, 79, 42, 89, 180, 1, 168]
abbrev dktX5_ran_0 : List UInt8 := dkwX5_ran_0 ++ dktX5_ran_1
theorem dksX5_ran_0 : cX5_ran.data.toList.drop 0 = dktX5_ran_0 := by decide +kernel
theorem dksX5_ran_1 : cX5_ran.data.toList.drop 24 = dktX5_ran_1 := dk_seg dksX5_ran_0 24 rfl rfl
theorem dX5_ran_0 : decode cX5_ran 0 = .ok (.aload_n 0, 1) := dk_42 (dk_at dksX5_ran_0 0 rfl rfl)
theorem dX5_ran_1 : decode cX5_ran 1 = .ok (.getfield 424, 3) := dk_180 1 168 (dk_at dksX5_ran_0 1 rfl rfl)
theorem dX5_ran_4 : decode cX5_ran 4 = .ok (.bipush 24, 2) := dk_16 24 (dk_at dksX5_ran_0 4 rfl rfl)
theorem dX5_ran_6 : decode cX5_ran 6 = .ok (.if_icmp .ge 13, 3) := dk_162 0 13 (dk_at dksX5_ran_0 6 rfl rfl)
theorem dX5_ran_9 : decode cX5_ran 9 = .ok (.aload_n 0, 1) := dk_42 (dk_at dksX5_ran_0 9 rfl rfl)
theorem dX5_ran_10 : decode cX5_ran 10 = .ok (.getfield 117, 3) := dk_180 0 117 (dk_at dksX5_ran_0 10 rfl rfl)
theorem dX5_ran_13 : decode cX5_ran 13 = .ok (.aload_n 0, 1) := dk_42 (dk_at dksX5_ran_0 13 rfl rfl)
theorem dX5_ran_14 : decode cX5_ran 14 = .ok (.getfield 424, 3) := dk_180 1 168 (dk_at dksX5_ran_0 14 rfl rfl)
theorem dX5_ran_17 : decode cX5_ran 17 = .ok (.iload_n 1, 1) := dk_27 (dk_at dksX5_ran_0 17 rfl rfl)
theorem dX5_ran_18 : decode cX5_ran 18 = .ok (.iastore, 1) := dk_79 (dk_at dksX5_ran_0 18 rfl rfl)
theorem dX5_ran_19 : decode cX5_ran 19 = .ok (.aload_n 0, 1) := dk_42 (dk_at dksX5_ran_0 19 rfl rfl)
theorem dX5_ran_20 : decode cX5_ran 20 = .ok (.dup, 1) := dk_89 (dk_at dksX5_ran_0 20 rfl rfl)
theorem dX5_ran_21 : decode cX5_ran 21 = .ok (.getfield 424, 3) := dk_180 1 168 (dk_at dksX5_ran_0 21 rfl rfl)
theorem dX5_ran_24 : decode cX5_ran 24 = .ok (.iconst 1, 1) := dk_4 (dk_at dksX5_ran_1 0 rfl rfl)
theorem dX5_ran_25 : decode cX5_ran 25 = .ok (.iadd, 1) := dk_96 (dk_at dksX5_ran_1 1 rfl rfl)
theorem dX5_ran_26 : decode cX5_ran 26 = .ok (.putfield 424, 3) := dk_181 1 168 (dk_at dksX5_ran_1 2 rfl rfl)
theorem dX5_ran_29 : decode cX5_ran 29 = .ok (.return_, 1) := dk_177 (dk_at dksX5_ran_1 5 rfl rfl)
abbrev cX5_plainHolds : ByteArray := prog_25_method_105_code
def yX5_plainHolds : MethodName := ⟨RX5, "plainHolds", "(II)I"⟩
def dkwX5_plainHolds_0 : List UInt8 := [42, 4, 182, 1, 171, 28, 27, 96, 172]
abbrev dktX5_plainHolds_0 : List UInt8 := dkwX5_plainHolds_0 ++ []
theorem dksX5_plainHolds_0 : cX5_plainHolds.data.toList.drop 0 = dktX5_plainHolds_0 := by decide +kernel
theorem dX5_plainHolds_0 : decode cX5_plainHolds 0 = .ok (.aload_n 0, 1) := dk_42 (dk_at dksX5_plainHolds_0 0 rfl rfl)
theorem dX5_plainHolds_1 : decode cX5_plainHolds 1 = .ok (.iconst 1, 1) := dk_4 (dk_at dksX5_plainHolds_0 1 rfl rfl)
theorem dX5_plainHolds_2 : decode cX5_plainHolds 2 = .ok (.invokevirtual 427, 3) := dk_182 1 171 (dk_at dksX5_plainHolds_0 2 rfl rfl)
theorem dX5_plainHolds_5 : decode cX5_plainHolds 5 = .ok (.iload_n 2, 1) := dk_28 (dk_at dksX5_plainHolds_0 5 rfl rfl)
theorem dX5_plainHolds_6 : decode cX5_plainHolds 6 = .ok (.iload_n 1, 1) := dk_27 (dk_at dksX5_plainHolds_0 6 rfl rfl)
theorem dX5_plainHolds_7 : decode cX5_plainHolds 7 = .ok (.iadd, 1) := dk_96 (dk_at dksX5_plainHolds_0 7 rfl rfl)
theorem dX5_plainHolds_8 : decode cX5_plainHolds 8 = .ok (.ireturn, 1) := dk_172 (dk_at dksX5_plainHolds_0 8 rfl rfl)
abbrev cX5_pittHolds : ByteArray := prog_25_method_106_code
def yX5_pittHolds : MethodName := ⟨RX5, "pittHolds", "(II)I"⟩
def dkwX5_pittHolds_0 : List UInt8 := [42, 16, 70, 182, 1, 171, 42, 27, 28, 182, 1, 175, 5, 104, 172]
abbrev dktX5_pittHolds_0 : List UInt8 := dkwX5_pittHolds_0 ++ []
theorem dksX5_pittHolds_0 : cX5_pittHolds.data.toList.drop 0 = dktX5_pittHolds_0 := by decide +kernel
theorem dX5_pittHolds_0 : decode cX5_pittHolds 0 = .ok (.aload_n 0, 1) := dk_42 (dk_at dksX5_pittHolds_0 0 rfl rfl)
theorem dX5_pittHolds_1 : decode cX5_pittHolds 1 = .ok (.bipush 70, 2) := dk_16 70 (dk_at dksX5_pittHolds_0 1 rfl rfl)
theorem dX5_pittHolds_3 : decode cX5_pittHolds 3 = .ok (.invokevirtual 427, 3) := dk_182 1 171 (dk_at dksX5_pittHolds_0 3 rfl rfl)
theorem dX5_pittHolds_6 : decode cX5_pittHolds 6 = .ok (.aload_n 0, 1) := dk_42 (dk_at dksX5_pittHolds_0 6 rfl rfl)
theorem dX5_pittHolds_7 : decode cX5_pittHolds 7 = .ok (.iload_n 1, 1) := dk_27 (dk_at dksX5_pittHolds_0 7 rfl rfl)
theorem dX5_pittHolds_8 : decode cX5_pittHolds 8 = .ok (.iload_n 2, 1) := dk_28 (dk_at dksX5_pittHolds_0 8 rfl rfl)
theorem dX5_pittHolds_9 : decode cX5_pittHolds 9 = .ok (.invokevirtual 431, 3) := dk_182 1 175 (dk_at dksX5_pittHolds_0 9 rfl rfl)
theorem dX5_pittHolds_12 : decode cX5_pittHolds 12 = .ok (.iconst 2, 1) := dk_5 (dk_at dksX5_pittHolds_0 12 rfl rfl)
theorem dX5_pittHolds_13 : decode cX5_pittHolds 13 = .ok (.imul, 1) := dk_104 (dk_at dksX5_pittHolds_0 13 rfl rfl)
theorem dX5_pittHolds_14 : decode cX5_pittHolds 14 = .ok (.ireturn, 1) := dk_172 (dk_at dksX5_pittHolds_0 14 rfl rfl)
abbrev cX5_pulling : ByteArray := prog_25_method_110_code
def yX5_pulling : MethodName := ⟨RX5, "pulling", "(II)I"⟩
def dkwX5_pulling_3 : List UInt8 := [27, 28, 182, 1, 190, 167, 0, 9, 42, 27, 28, 182, 1, 187, 172]
abbrev dktX5_pulling_3 : List UInt8 := dkwX5_pulling_3 ++ []
def dkwX5_pulling_2 : List UInt8 := [182, 1, 187, 62, 29, 42, 27, 5, 182, 1, 193, 96, 172, 42, 180, 0, 114, 27, 46, 5, 160, 0, 12, 42]
abbrev dktX5_pulling_2 : List UInt8 := dkwX5_pulling_2 ++ dktX5_pulling_3
def dkwX5_pulling_1 : List UInt8 := [182, 1, 190, 172, 42, 180, 0, 114, 27, 46, 16, 7, 160, 0, 25, 42, 16, 80, 182, 1, 171, 42, 27, 28]
abbrev dktX5_pulling_1 : List UInt8 := dkwX5_pulling_1 ++ dktX5_pulling_2
def dkwX5_pulling_0 : List UInt8 := [42, 180, 0, 114, 27, 46, 6, 184, 1, 178, 153, 0, 18, 42, 16, 41, 182, 1, 171, 42, 27, 28, 4, 96]
abbrev dktX5_pulling_0 : List UInt8 := dkwX5_pulling_0 ++ dktX5_pulling_1
theorem dksX5_pulling_0 : cX5_pulling.data.toList.drop 0 = dktX5_pulling_0 := by decide +kernel
theorem dksX5_pulling_1 : cX5_pulling.data.toList.drop 24 = dktX5_pulling_1 := dk_seg dksX5_pulling_0 24 rfl rfl
theorem dksX5_pulling_2 : cX5_pulling.data.toList.drop 48 = dktX5_pulling_2 := dk_seg dksX5_pulling_1 24 rfl rfl
theorem dksX5_pulling_3 : cX5_pulling.data.toList.drop 72 = dktX5_pulling_3 := dk_seg dksX5_pulling_2 24 rfl rfl
theorem dX5_pulling_0 : decode cX5_pulling 0 = .ok (.aload_n 0, 1) := dk_42 (dk_at dksX5_pulling_0 0 rfl rfl)
theorem dX5_pulling_1 : decode cX5_pulling 1 = .ok (.getfield 114, 3) := dk_180 0 114 (dk_at dksX5_pulling_0 1 rfl rfl)
theorem dX5_pulling_4 : decode cX5_pulling 4 = .ok (.iload_n 1, 1) := dk_27 (dk_at dksX5_pulling_0 4 rfl rfl)
theorem dX5_pulling_5 : decode cX5_pulling 5 = .ok (.iaload, 1) := dk_46 (dk_at dksX5_pulling_0 5 rfl rfl)
theorem dX5_pulling_6 : decode cX5_pulling 6 = .ok (.iconst 3, 1) := dk_6 (dk_at dksX5_pulling_0 6 rfl rfl)
theorem dX5_pulling_7 : decode cX5_pulling 7 = .ok (.invokestatic 434, 3) := dk_184 1 178 (dk_at dksX5_pulling_0 7 rfl rfl)
theorem dX5_pulling_10 : decode cX5_pulling 10 = .ok (.ifCond .eq 18, 3) := dk_153 0 18 (dk_at dksX5_pulling_0 10 rfl rfl)
theorem dX5_pulling_13 : decode cX5_pulling 13 = .ok (.aload_n 0, 1) := dk_42 (dk_at dksX5_pulling_0 13 rfl rfl)
theorem dX5_pulling_14 : decode cX5_pulling 14 = .ok (.bipush 41, 2) := dk_16 41 (dk_at dksX5_pulling_0 14 rfl rfl)
theorem dX5_pulling_16 : decode cX5_pulling 16 = .ok (.invokevirtual 427, 3) := dk_182 1 171 (dk_at dksX5_pulling_0 16 rfl rfl)
theorem dX5_pulling_19 : decode cX5_pulling 19 = .ok (.aload_n 0, 1) := dk_42 (dk_at dksX5_pulling_0 19 rfl rfl)
theorem dX5_pulling_20 : decode cX5_pulling 20 = .ok (.iload_n 1, 1) := dk_27 (dk_at dksX5_pulling_0 20 rfl rfl)
theorem dX5_pulling_21 : decode cX5_pulling 21 = .ok (.iload_n 2, 1) := dk_28 (dk_at dksX5_pulling_0 21 rfl rfl)
theorem dX5_pulling_22 : decode cX5_pulling 22 = .ok (.iconst 1, 1) := dk_4 (dk_at dksX5_pulling_0 22 rfl rfl)
theorem dX5_pulling_23 : decode cX5_pulling 23 = .ok (.iadd, 1) := dk_96 (dk_at dksX5_pulling_0 23 rfl rfl)
theorem dX5_pulling_24 : decode cX5_pulling 24 = .ok (.invokevirtual 446, 3) := dk_182 1 190 (dk_at dksX5_pulling_1 0 rfl rfl)
theorem dX5_pulling_27 : decode cX5_pulling 27 = .ok (.ireturn, 1) := dk_172 (dk_at dksX5_pulling_1 3 rfl rfl)
theorem dX5_pulling_28 : decode cX5_pulling 28 = .ok (.aload_n 0, 1) := dk_42 (dk_at dksX5_pulling_1 4 rfl rfl)
theorem dX5_pulling_29 : decode cX5_pulling 29 = .ok (.getfield 114, 3) := dk_180 0 114 (dk_at dksX5_pulling_1 5 rfl rfl)
theorem dX5_pulling_32 : decode cX5_pulling 32 = .ok (.iload_n 1, 1) := dk_27 (dk_at dksX5_pulling_1 8 rfl rfl)
theorem dX5_pulling_33 : decode cX5_pulling 33 = .ok (.iaload, 1) := dk_46 (dk_at dksX5_pulling_1 9 rfl rfl)
theorem dX5_pulling_34 : decode cX5_pulling 34 = .ok (.bipush 7, 2) := dk_16 7 (dk_at dksX5_pulling_1 10 rfl rfl)
theorem dX5_pulling_36 : decode cX5_pulling 36 = .ok (.if_icmp .ne 25, 3) := dk_160 0 25 (dk_at dksX5_pulling_1 12 rfl rfl)
theorem dX5_pulling_39 : decode cX5_pulling 39 = .ok (.aload_n 0, 1) := dk_42 (dk_at dksX5_pulling_1 15 rfl rfl)
theorem dX5_pulling_40 : decode cX5_pulling 40 = .ok (.bipush 80, 2) := dk_16 80 (dk_at dksX5_pulling_1 16 rfl rfl)
theorem dX5_pulling_42 : decode cX5_pulling 42 = .ok (.invokevirtual 427, 3) := dk_182 1 171 (dk_at dksX5_pulling_1 18 rfl rfl)
theorem dX5_pulling_45 : decode cX5_pulling 45 = .ok (.aload_n 0, 1) := dk_42 (dk_at dksX5_pulling_1 21 rfl rfl)
theorem dX5_pulling_46 : decode cX5_pulling 46 = .ok (.iload_n 1, 1) := dk_27 (dk_at dksX5_pulling_1 22 rfl rfl)
theorem dX5_pulling_47 : decode cX5_pulling 47 = .ok (.iload_n 2, 1) := dk_28 (dk_at dksX5_pulling_1 23 rfl rfl)
theorem dX5_pulling_48 : decode cX5_pulling 48 = .ok (.invokevirtual 443, 3) := dk_182 1 187 (dk_at dksX5_pulling_2 0 rfl rfl)
theorem dX5_pulling_51 : decode cX5_pulling 51 = .ok (.istore_n 3, 1) := dk_62 (dk_at dksX5_pulling_2 3 rfl rfl)
theorem dX5_pulling_52 : decode cX5_pulling 52 = .ok (.iload_n 3, 1) := dk_29 (dk_at dksX5_pulling_2 4 rfl rfl)
theorem dX5_pulling_53 : decode cX5_pulling 53 = .ok (.aload_n 0, 1) := dk_42 (dk_at dksX5_pulling_2 5 rfl rfl)
theorem dX5_pulling_54 : decode cX5_pulling 54 = .ok (.iload_n 1, 1) := dk_27 (dk_at dksX5_pulling_2 6 rfl rfl)
theorem dX5_pulling_55 : decode cX5_pulling 55 = .ok (.iconst 2, 1) := dk_5 (dk_at dksX5_pulling_2 7 rfl rfl)
theorem dX5_pulling_56 : decode cX5_pulling 56 = .ok (.invokevirtual 449, 3) := dk_182 1 193 (dk_at dksX5_pulling_2 8 rfl rfl)
theorem dX5_pulling_59 : decode cX5_pulling 59 = .ok (.iadd, 1) := dk_96 (dk_at dksX5_pulling_2 11 rfl rfl)
theorem dX5_pulling_60 : decode cX5_pulling 60 = .ok (.ireturn, 1) := dk_172 (dk_at dksX5_pulling_2 12 rfl rfl)
theorem dX5_pulling_61 : decode cX5_pulling 61 = .ok (.aload_n 0, 1) := dk_42 (dk_at dksX5_pulling_2 13 rfl rfl)
theorem dX5_pulling_62 : decode cX5_pulling 62 = .ok (.getfield 114, 3) := dk_180 0 114 (dk_at dksX5_pulling_2 14 rfl rfl)
theorem dX5_pulling_65 : decode cX5_pulling 65 = .ok (.iload_n 1, 1) := dk_27 (dk_at dksX5_pulling_2 17 rfl rfl)
theorem dX5_pulling_66 : decode cX5_pulling 66 = .ok (.iaload, 1) := dk_46 (dk_at dksX5_pulling_2 18 rfl rfl)
theorem dX5_pulling_67 : decode cX5_pulling 67 = .ok (.iconst 2, 1) := dk_5 (dk_at dksX5_pulling_2 19 rfl rfl)
theorem dX5_pulling_68 : decode cX5_pulling 68 = .ok (.if_icmp .ne 12, 3) := dk_160 0 12 (dk_at dksX5_pulling_2 20 rfl rfl)
theorem dX5_pulling_71 : decode cX5_pulling 71 = .ok (.aload_n 0, 1) := dk_42 (dk_at dksX5_pulling_2 23 rfl rfl)
theorem dX5_pulling_72 : decode cX5_pulling 72 = .ok (.iload_n 1, 1) := dk_27 (dk_at dksX5_pulling_3 0 rfl rfl)
theorem dX5_pulling_73 : decode cX5_pulling 73 = .ok (.iload_n 2, 1) := dk_28 (dk_at dksX5_pulling_3 1 rfl rfl)
theorem dX5_pulling_74 : decode cX5_pulling 74 = .ok (.invokevirtual 446, 3) := dk_182 1 190 (dk_at dksX5_pulling_3 2 rfl rfl)
theorem dX5_pulling_77 : decode cX5_pulling 77 = .ok (.goto 9, 3) := dk_167 0 9 (dk_at dksX5_pulling_3 5 rfl rfl)
theorem dX5_pulling_80 : decode cX5_pulling 80 = .ok (.aload_n 0, 1) := dk_42 (dk_at dksX5_pulling_3 8 rfl rfl)
theorem dX5_pulling_81 : decode cX5_pulling 81 = .ok (.iload_n 1, 1) := dk_27 (dk_at dksX5_pulling_3 9 rfl rfl)
theorem dX5_pulling_82 : decode cX5_pulling 82 = .ok (.iload_n 2, 1) := dk_28 (dk_at dksX5_pulling_3 10 rfl rfl)
theorem dX5_pulling_83 : decode cX5_pulling 83 = .ok (.invokevirtual 443, 3) := dk_182 1 187 (dk_at dksX5_pulling_3 11 rfl rfl)
theorem dX5_pulling_86 : decode cX5_pulling 86 = .ok (.ireturn, 1) := dk_172 (dk_at dksX5_pulling_3 14 rfl rfl)
abbrev cX5_lacePulls : ByteArray := prog_25_method_109_code
def yX5_lacePulls : MethodName := ⟨RX5, "lacePulls", "(II)I"⟩
def dkwX5_lacePulls_0 : List UInt8 := [42, 16, 30, 182, 1, 171, 42, 27, 28, 182, 1, 187, 116, 172]
abbrev dktX5_lacePulls_0 : List UInt8 := dkwX5_lacePulls_0 ++ []
theorem dksX5_lacePulls_0 : cX5_lacePulls.data.toList.drop 0 = dktX5_lacePulls_0 := by decide +kernel
theorem dX5_lacePulls_0 : decode cX5_lacePulls 0 = .ok (.aload_n 0, 1) := dk_42 (dk_at dksX5_lacePulls_0 0 rfl rfl)
theorem dX5_lacePulls_1 : decode cX5_lacePulls 1 = .ok (.bipush 30, 2) := dk_16 30 (dk_at dksX5_lacePulls_0 1 rfl rfl)
theorem dX5_lacePulls_3 : decode cX5_lacePulls 3 = .ok (.invokevirtual 427, 3) := dk_182 1 171 (dk_at dksX5_lacePulls_0 3 rfl rfl)
theorem dX5_lacePulls_6 : decode cX5_lacePulls 6 = .ok (.aload_n 0, 1) := dk_42 (dk_at dksX5_lacePulls_0 6 rfl rfl)
theorem dX5_lacePulls_7 : decode cX5_lacePulls 7 = .ok (.iload_n 1, 1) := dk_27 (dk_at dksX5_lacePulls_0 7 rfl rfl)
theorem dX5_lacePulls_8 : decode cX5_lacePulls 8 = .ok (.iload_n 2, 1) := dk_28 (dk_at dksX5_lacePulls_0 8 rfl rfl)
theorem dX5_lacePulls_9 : decode cX5_lacePulls 9 = .ok (.invokevirtual 443, 3) := dk_182 1 187 (dk_at dksX5_lacePulls_0 9 rfl rfl)
theorem dX5_lacePulls_12 : decode cX5_lacePulls 12 = .ok (.ineg, 1) := dk_116 (dk_at dksX5_lacePulls_0 12 rfl rfl)
theorem dX5_lacePulls_13 : decode cX5_lacePulls 13 = .ok (.ireturn, 1) := dk_172 (dk_at dksX5_lacePulls_0 13 rfl rfl)
abbrev cX5_plainPulls : ByteArray := prog_25_method_108_code
def yX5_plainPulls : MethodName := ⟨RX5, "plainPulls", "(II)I"⟩
def dkwX5_plainPulls_0 : List UInt8 := [42, 16, 10, 182, 1, 171, 42, 27, 28, 182, 1, 184, 5, 104, 172]
abbrev dktX5_plainPulls_0 : List UInt8 := dkwX5_plainPulls_0 ++ []
theorem dksX5_plainPulls_0 : cX5_plainPulls.data.toList.drop 0 = dktX5_plainPulls_0 := by decide +kernel
theorem dX5_plainPulls_0 : decode cX5_plainPulls 0 = .ok (.aload_n 0, 1) := dk_42 (dk_at dksX5_plainPulls_0 0 rfl rfl)
theorem dX5_plainPulls_1 : decode cX5_plainPulls 1 = .ok (.bipush 10, 2) := dk_16 10 (dk_at dksX5_plainPulls_0 1 rfl rfl)
theorem dX5_plainPulls_3 : decode cX5_plainPulls 3 = .ok (.invokevirtual 427, 3) := dk_182 1 171 (dk_at dksX5_plainPulls_0 3 rfl rfl)
theorem dX5_plainPulls_6 : decode cX5_plainPulls 6 = .ok (.aload_n 0, 1) := dk_42 (dk_at dksX5_plainPulls_0 6 rfl rfl)
theorem dX5_plainPulls_7 : decode cX5_plainPulls 7 = .ok (.iload_n 1, 1) := dk_27 (dk_at dksX5_plainPulls_0 7 rfl rfl)
theorem dX5_plainPulls_8 : decode cX5_plainPulls 8 = .ok (.iload_n 2, 1) := dk_28 (dk_at dksX5_plainPulls_0 8 rfl rfl)
theorem dX5_plainPulls_9 : decode cX5_plainPulls 9 = .ok (.invokevirtual 440, 3) := dk_182 1 184 (dk_at dksX5_plainPulls_0 9 rfl rfl)
theorem dX5_plainPulls_12 : decode cX5_plainPulls 12 = .ok (.iconst 2, 1) := dk_5 (dk_at dksX5_plainPulls_0 12 rfl rfl)
theorem dX5_plainPulls_13 : decode cX5_plainPulls 13 = .ok (.imul, 1) := dk_104 (dk_at dksX5_plainPulls_0 13 rfl rfl)
theorem dX5_plainPulls_14 : decode cX5_plainPulls 14 = .ok (.ireturn, 1) := dk_172 (dk_at dksX5_plainPulls_0 14 rfl rfl)
abbrev cX5_freeing : ByteArray := prog_25_method_113_code
def yX5_freeing : MethodName := ⟨RX5, "freeing", "(II)I"⟩
def dkwX5_freeing_2 : List UInt8 := [167, 0, 9, 42, 27, 28, 182, 1, 196, 172]
abbrev dktX5_freeing_2 : List UInt8 := dkwX5_freeing_2 ++ []
def dkwX5_freeing_1 : List UInt8 := [42, 27, 5, 182, 1, 184, 100, 172, 42, 180, 0, 114, 27, 46, 6, 160, 0, 12, 42, 27, 28, 182, 1, 199]
abbrev dktX5_freeing_1 : List UInt8 := dkwX5_freeing_1 ++ dktX5_freeing_2
def dkwX5_freeing_0 : List UInt8 := [42, 180, 0, 114, 27, 46, 8, 160, 0, 25, 42, 16, 60, 182, 1, 171, 42, 27, 28, 182, 1, 199, 62, 29]
abbrev dktX5_freeing_0 : List UInt8 := dkwX5_freeing_0 ++ dktX5_freeing_1
theorem dksX5_freeing_0 : cX5_freeing.data.toList.drop 0 = dktX5_freeing_0 := by decide +kernel
theorem dksX5_freeing_1 : cX5_freeing.data.toList.drop 24 = dktX5_freeing_1 := dk_seg dksX5_freeing_0 24 rfl rfl
theorem dksX5_freeing_2 : cX5_freeing.data.toList.drop 48 = dktX5_freeing_2 := dk_seg dksX5_freeing_1 24 rfl rfl
theorem dX5_freeing_0 : decode cX5_freeing 0 = .ok (.aload_n 0, 1) := dk_42 (dk_at dksX5_freeing_0 0 rfl rfl)
theorem dX5_freeing_1 : decode cX5_freeing 1 = .ok (.getfield 114, 3) := dk_180 0 114 (dk_at dksX5_freeing_0 1 rfl rfl)
theorem dX5_freeing_4 : decode cX5_freeing 4 = .ok (.iload_n 1, 1) := dk_27 (dk_at dksX5_freeing_0 4 rfl rfl)
theorem dX5_freeing_5 : decode cX5_freeing 5 = .ok (.iaload, 1) := dk_46 (dk_at dksX5_freeing_0 5 rfl rfl)
theorem dX5_freeing_6 : decode cX5_freeing 6 = .ok (.iconst 5, 1) := dk_8 (dk_at dksX5_freeing_0 6 rfl rfl)
theorem dX5_freeing_7 : decode cX5_freeing 7 = .ok (.if_icmp .ne 25, 3) := dk_160 0 25 (dk_at dksX5_freeing_0 7 rfl rfl)
theorem dX5_freeing_10 : decode cX5_freeing 10 = .ok (.aload_n 0, 1) := dk_42 (dk_at dksX5_freeing_0 10 rfl rfl)
theorem dX5_freeing_11 : decode cX5_freeing 11 = .ok (.bipush 60, 2) := dk_16 60 (dk_at dksX5_freeing_0 11 rfl rfl)
theorem dX5_freeing_13 : decode cX5_freeing 13 = .ok (.invokevirtual 427, 3) := dk_182 1 171 (dk_at dksX5_freeing_0 13 rfl rfl)
theorem dX5_freeing_16 : decode cX5_freeing 16 = .ok (.aload_n 0, 1) := dk_42 (dk_at dksX5_freeing_0 16 rfl rfl)
theorem dX5_freeing_17 : decode cX5_freeing 17 = .ok (.iload_n 1, 1) := dk_27 (dk_at dksX5_freeing_0 17 rfl rfl)
theorem dX5_freeing_18 : decode cX5_freeing 18 = .ok (.iload_n 2, 1) := dk_28 (dk_at dksX5_freeing_0 18 rfl rfl)
theorem dX5_freeing_19 : decode cX5_freeing 19 = .ok (.invokevirtual 455, 3) := dk_182 1 199 (dk_at dksX5_freeing_0 19 rfl rfl)
theorem dX5_freeing_22 : decode cX5_freeing 22 = .ok (.istore_n 3, 1) := dk_62 (dk_at dksX5_freeing_0 22 rfl rfl)
theorem dX5_freeing_23 : decode cX5_freeing 23 = .ok (.iload_n 3, 1) := dk_29 (dk_at dksX5_freeing_0 23 rfl rfl)
theorem dX5_freeing_24 : decode cX5_freeing 24 = .ok (.aload_n 0, 1) := dk_42 (dk_at dksX5_freeing_1 0 rfl rfl)
theorem dX5_freeing_25 : decode cX5_freeing 25 = .ok (.iload_n 1, 1) := dk_27 (dk_at dksX5_freeing_1 1 rfl rfl)
theorem dX5_freeing_26 : decode cX5_freeing 26 = .ok (.iconst 2, 1) := dk_5 (dk_at dksX5_freeing_1 2 rfl rfl)
theorem dX5_freeing_27 : decode cX5_freeing 27 = .ok (.invokevirtual 440, 3) := dk_182 1 184 (dk_at dksX5_freeing_1 3 rfl rfl)
theorem dX5_freeing_30 : decode cX5_freeing 30 = .ok (.isub, 1) := dk_100 (dk_at dksX5_freeing_1 6 rfl rfl)
theorem dX5_freeing_31 : decode cX5_freeing 31 = .ok (.ireturn, 1) := dk_172 (dk_at dksX5_freeing_1 7 rfl rfl)
theorem dX5_freeing_32 : decode cX5_freeing 32 = .ok (.aload_n 0, 1) := dk_42 (dk_at dksX5_freeing_1 8 rfl rfl)
theorem dX5_freeing_33 : decode cX5_freeing 33 = .ok (.getfield 114, 3) := dk_180 0 114 (dk_at dksX5_freeing_1 9 rfl rfl)
theorem dX5_freeing_36 : decode cX5_freeing 36 = .ok (.iload_n 1, 1) := dk_27 (dk_at dksX5_freeing_1 12 rfl rfl)
theorem dX5_freeing_37 : decode cX5_freeing 37 = .ok (.iaload, 1) := dk_46 (dk_at dksX5_freeing_1 13 rfl rfl)
theorem dX5_freeing_38 : decode cX5_freeing 38 = .ok (.iconst 3, 1) := dk_6 (dk_at dksX5_freeing_1 14 rfl rfl)
theorem dX5_freeing_39 : decode cX5_freeing 39 = .ok (.if_icmp .ne 12, 3) := dk_160 0 12 (dk_at dksX5_freeing_1 15 rfl rfl)
theorem dX5_freeing_42 : decode cX5_freeing 42 = .ok (.aload_n 0, 1) := dk_42 (dk_at dksX5_freeing_1 18 rfl rfl)
theorem dX5_freeing_43 : decode cX5_freeing 43 = .ok (.iload_n 1, 1) := dk_27 (dk_at dksX5_freeing_1 19 rfl rfl)
theorem dX5_freeing_44 : decode cX5_freeing 44 = .ok (.iload_n 2, 1) := dk_28 (dk_at dksX5_freeing_1 20 rfl rfl)
theorem dX5_freeing_45 : decode cX5_freeing 45 = .ok (.invokevirtual 455, 3) := dk_182 1 199 (dk_at dksX5_freeing_1 21 rfl rfl)
theorem dX5_freeing_48 : decode cX5_freeing 48 = .ok (.goto 9, 3) := dk_167 0 9 (dk_at dksX5_freeing_2 0 rfl rfl)
theorem dX5_freeing_51 : decode cX5_freeing 51 = .ok (.aload_n 0, 1) := dk_42 (dk_at dksX5_freeing_2 3 rfl rfl)
theorem dX5_freeing_52 : decode cX5_freeing 52 = .ok (.iload_n 1, 1) := dk_27 (dk_at dksX5_freeing_2 4 rfl rfl)
theorem dX5_freeing_53 : decode cX5_freeing 53 = .ok (.iload_n 2, 1) := dk_28 (dk_at dksX5_freeing_2 5 rfl rfl)
theorem dX5_freeing_54 : decode cX5_freeing 54 = .ok (.invokevirtual 452, 3) := dk_182 1 196 (dk_at dksX5_freeing_2 6 rfl rfl)
theorem dX5_freeing_57 : decode cX5_freeing 57 = .ok (.ireturn, 1) := dk_172 (dk_at dksX5_freeing_2 9 rfl rfl)
abbrev cX5_heelFrees : ByteArray := prog_25_method_112_code
def yX5_heelFrees : MethodName := ⟨RX5, "heelFrees", "(II)I"⟩
def dkwX5_heelFrees_0 : List UInt8 := [42, 16, 40, 182, 1, 171, 42, 27, 28, 182, 1, 196, 6, 104, 172]
abbrev dktX5_heelFrees_0 : List UInt8 := dkwX5_heelFrees_0 ++ []
theorem dksX5_heelFrees_0 : cX5_heelFrees.data.toList.drop 0 = dktX5_heelFrees_0 := by decide +kernel
theorem dX5_heelFrees_0 : decode cX5_heelFrees 0 = .ok (.aload_n 0, 1) := dk_42 (dk_at dksX5_heelFrees_0 0 rfl rfl)
theorem dX5_heelFrees_1 : decode cX5_heelFrees 1 = .ok (.bipush 40, 2) := dk_16 40 (dk_at dksX5_heelFrees_0 1 rfl rfl)
theorem dX5_heelFrees_3 : decode cX5_heelFrees 3 = .ok (.invokevirtual 427, 3) := dk_182 1 171 (dk_at dksX5_heelFrees_0 3 rfl rfl)
theorem dX5_heelFrees_6 : decode cX5_heelFrees 6 = .ok (.aload_n 0, 1) := dk_42 (dk_at dksX5_heelFrees_0 6 rfl rfl)
theorem dX5_heelFrees_7 : decode cX5_heelFrees 7 = .ok (.iload_n 1, 1) := dk_27 (dk_at dksX5_heelFrees_0 7 rfl rfl)
theorem dX5_heelFrees_8 : decode cX5_heelFrees 8 = .ok (.iload_n 2, 1) := dk_28 (dk_at dksX5_heelFrees_0 8 rfl rfl)
theorem dX5_heelFrees_9 : decode cX5_heelFrees 9 = .ok (.invokevirtual 452, 3) := dk_182 1 196 (dk_at dksX5_heelFrees_0 9 rfl rfl)
theorem dX5_heelFrees_12 : decode cX5_heelFrees 12 = .ok (.iconst 3, 1) := dk_6 (dk_at dksX5_heelFrees_0 12 rfl rfl)
theorem dX5_heelFrees_13 : decode cX5_heelFrees 13 = .ok (.imul, 1) := dk_104 (dk_at dksX5_heelFrees_0 13 rfl rfl)
theorem dX5_heelFrees_14 : decode cX5_heelFrees 14 = .ok (.ireturn, 1) := dk_172 (dk_at dksX5_heelFrees_0 14 rfl rfl)
abbrev cX5_plainFrees : ByteArray := prog_25_method_111_code
def yX5_plainFrees : MethodName := ⟨RX5, "plainFrees", "(II)I"⟩
def dkwX5_plainFrees_0 : List UInt8 := [42, 16, 11, 182, 1, 171, 28, 27, 130, 172]
abbrev dktX5_plainFrees_0 : List UInt8 := dkwX5_plainFrees_0 ++ []
theorem dksX5_plainFrees_0 : cX5_plainFrees.data.toList.drop 0 = dktX5_plainFrees_0 := by decide +kernel
theorem dX5_plainFrees_0 : decode cX5_plainFrees 0 = .ok (.aload_n 0, 1) := dk_42 (dk_at dksX5_plainFrees_0 0 rfl rfl)
theorem dX5_plainFrees_1 : decode cX5_plainFrees 1 = .ok (.bipush 11, 2) := dk_16 11 (dk_at dksX5_plainFrees_0 1 rfl rfl)
theorem dX5_plainFrees_3 : decode cX5_plainFrees 3 = .ok (.invokevirtual 427, 3) := dk_182 1 171 (dk_at dksX5_plainFrees_0 3 rfl rfl)
theorem dX5_plainFrees_6 : decode cX5_plainFrees 6 = .ok (.iload_n 2, 1) := dk_28 (dk_at dksX5_plainFrees_0 6 rfl rfl)
theorem dX5_plainFrees_7 : decode cX5_plainFrees 7 = .ok (.iload_n 1, 1) := dk_27 (dk_at dksX5_plainFrees_0 7 rfl rfl)
theorem dX5_plainFrees_8 : decode cX5_plainFrees 8 = .ok (.ixor, 1) := dk_130 (dk_at dksX5_plainFrees_0 8 rfl rfl)
theorem dX5_plainFrees_9 : decode cX5_plainFrees 9 = .ok (.ireturn, 1) := dk_172 (dk_at dksX5_plainFrees_0 9 rfl rfl)
abbrev cX5_telling : ByteArray := prog_25_method_115_code
def yX5_telling : MethodName := ⟨RX5, "telling", "(II)I"⟩
def dkwX5_telling_2 : List UInt8 := [96, 172, 42, 27, 28, 182, 1, 205, 172]
abbrev dktX5_telling_2 : List UInt8 := dkwX5_telling_2 ++ []
def dkwX5_telling_1 : List UInt8 := [172, 42, 180, 0, 114, 27, 46, 8, 160, 0, 18, 42, 16, 61, 182, 1, 171, 42, 27, 28, 182, 1, 205, 4]
abbrev dktX5_telling_1 : List UInt8 := dkwX5_telling_1 ++ dktX5_telling_2
def dkwX5_telling_0 : List UInt8 := [42, 180, 0, 114, 27, 46, 7, 160, 0, 18, 42, 16, 50, 182, 1, 171, 42, 27, 28, 182, 1, 205, 8, 130]
abbrev dktX5_telling_0 : List UInt8 := dkwX5_telling_0 ++ dktX5_telling_1
theorem dksX5_telling_0 : cX5_telling.data.toList.drop 0 = dktX5_telling_0 := by decide +kernel
theorem dksX5_telling_1 : cX5_telling.data.toList.drop 24 = dktX5_telling_1 := dk_seg dksX5_telling_0 24 rfl rfl
theorem dksX5_telling_2 : cX5_telling.data.toList.drop 48 = dktX5_telling_2 := dk_seg dksX5_telling_1 24 rfl rfl
theorem dX5_telling_0 : decode cX5_telling 0 = .ok (.aload_n 0, 1) := dk_42 (dk_at dksX5_telling_0 0 rfl rfl)
theorem dX5_telling_1 : decode cX5_telling 1 = .ok (.getfield 114, 3) := dk_180 0 114 (dk_at dksX5_telling_0 1 rfl rfl)
theorem dX5_telling_4 : decode cX5_telling 4 = .ok (.iload_n 1, 1) := dk_27 (dk_at dksX5_telling_0 4 rfl rfl)
theorem dX5_telling_5 : decode cX5_telling 5 = .ok (.iaload, 1) := dk_46 (dk_at dksX5_telling_0 5 rfl rfl)
theorem dX5_telling_6 : decode cX5_telling 6 = .ok (.iconst 4, 1) := dk_7 (dk_at dksX5_telling_0 6 rfl rfl)
theorem dX5_telling_7 : decode cX5_telling 7 = .ok (.if_icmp .ne 18, 3) := dk_160 0 18 (dk_at dksX5_telling_0 7 rfl rfl)
theorem dX5_telling_10 : decode cX5_telling 10 = .ok (.aload_n 0, 1) := dk_42 (dk_at dksX5_telling_0 10 rfl rfl)
theorem dX5_telling_11 : decode cX5_telling 11 = .ok (.bipush 50, 2) := dk_16 50 (dk_at dksX5_telling_0 11 rfl rfl)
theorem dX5_telling_13 : decode cX5_telling 13 = .ok (.invokevirtual 427, 3) := dk_182 1 171 (dk_at dksX5_telling_0 13 rfl rfl)
theorem dX5_telling_16 : decode cX5_telling 16 = .ok (.aload_n 0, 1) := dk_42 (dk_at dksX5_telling_0 16 rfl rfl)
theorem dX5_telling_17 : decode cX5_telling 17 = .ok (.iload_n 1, 1) := dk_27 (dk_at dksX5_telling_0 17 rfl rfl)
theorem dX5_telling_18 : decode cX5_telling 18 = .ok (.iload_n 2, 1) := dk_28 (dk_at dksX5_telling_0 18 rfl rfl)
theorem dX5_telling_19 : decode cX5_telling 19 = .ok (.invokevirtual 461, 3) := dk_182 1 205 (dk_at dksX5_telling_0 19 rfl rfl)
theorem dX5_telling_22 : decode cX5_telling 22 = .ok (.iconst 5, 1) := dk_8 (dk_at dksX5_telling_0 22 rfl rfl)
theorem dX5_telling_23 : decode cX5_telling 23 = .ok (.ixor, 1) := dk_130 (dk_at dksX5_telling_0 23 rfl rfl)
theorem dX5_telling_24 : decode cX5_telling 24 = .ok (.ireturn, 1) := dk_172 (dk_at dksX5_telling_1 0 rfl rfl)
theorem dX5_telling_25 : decode cX5_telling 25 = .ok (.aload_n 0, 1) := dk_42 (dk_at dksX5_telling_1 1 rfl rfl)
theorem dX5_telling_26 : decode cX5_telling 26 = .ok (.getfield 114, 3) := dk_180 0 114 (dk_at dksX5_telling_1 2 rfl rfl)
theorem dX5_telling_29 : decode cX5_telling 29 = .ok (.iload_n 1, 1) := dk_27 (dk_at dksX5_telling_1 5 rfl rfl)
theorem dX5_telling_30 : decode cX5_telling 30 = .ok (.iaload, 1) := dk_46 (dk_at dksX5_telling_1 6 rfl rfl)
theorem dX5_telling_31 : decode cX5_telling 31 = .ok (.iconst 5, 1) := dk_8 (dk_at dksX5_telling_1 7 rfl rfl)
theorem dX5_telling_32 : decode cX5_telling 32 = .ok (.if_icmp .ne 18, 3) := dk_160 0 18 (dk_at dksX5_telling_1 8 rfl rfl)
theorem dX5_telling_35 : decode cX5_telling 35 = .ok (.aload_n 0, 1) := dk_42 (dk_at dksX5_telling_1 11 rfl rfl)
theorem dX5_telling_36 : decode cX5_telling 36 = .ok (.bipush 61, 2) := dk_16 61 (dk_at dksX5_telling_1 12 rfl rfl)
theorem dX5_telling_38 : decode cX5_telling 38 = .ok (.invokevirtual 427, 3) := dk_182 1 171 (dk_at dksX5_telling_1 14 rfl rfl)
theorem dX5_telling_41 : decode cX5_telling 41 = .ok (.aload_n 0, 1) := dk_42 (dk_at dksX5_telling_1 17 rfl rfl)
theorem dX5_telling_42 : decode cX5_telling 42 = .ok (.iload_n 1, 1) := dk_27 (dk_at dksX5_telling_1 18 rfl rfl)
theorem dX5_telling_43 : decode cX5_telling 43 = .ok (.iload_n 2, 1) := dk_28 (dk_at dksX5_telling_1 19 rfl rfl)
theorem dX5_telling_44 : decode cX5_telling 44 = .ok (.invokevirtual 461, 3) := dk_182 1 205 (dk_at dksX5_telling_1 20 rfl rfl)
theorem dX5_telling_47 : decode cX5_telling 47 = .ok (.iconst 1, 1) := dk_4 (dk_at dksX5_telling_1 23 rfl rfl)
theorem dX5_telling_48 : decode cX5_telling 48 = .ok (.iadd, 1) := dk_96 (dk_at dksX5_telling_2 0 rfl rfl)
theorem dX5_telling_49 : decode cX5_telling 49 = .ok (.ireturn, 1) := dk_172 (dk_at dksX5_telling_2 1 rfl rfl)
theorem dX5_telling_50 : decode cX5_telling 50 = .ok (.aload_n 0, 1) := dk_42 (dk_at dksX5_telling_2 2 rfl rfl)
theorem dX5_telling_51 : decode cX5_telling 51 = .ok (.iload_n 1, 1) := dk_27 (dk_at dksX5_telling_2 3 rfl rfl)
theorem dX5_telling_52 : decode cX5_telling 52 = .ok (.iload_n 2, 1) := dk_28 (dk_at dksX5_telling_2 4 rfl rfl)
theorem dX5_telling_53 : decode cX5_telling 53 = .ok (.invokevirtual 461, 3) := dk_182 1 205 (dk_at dksX5_telling_2 5 rfl rfl)
theorem dX5_telling_56 : decode cX5_telling 56 = .ok (.ireturn, 1) := dk_172 (dk_at dksX5_telling_2 8 rfl rfl)
abbrev cX5_plainTells : ByteArray := prog_25_method_114_code
def yX5_plainTells : MethodName := ⟨RX5, "plainTells", "(II)I"⟩
def dkwX5_plainTells_0 : List UInt8 := [42, 5, 182, 1, 171, 42, 27, 28, 182, 1, 202, 62, 29, 42, 27, 4, 182, 1, 193, 100, 172]
abbrev dktX5_plainTells_0 : List UInt8 := dkwX5_plainTells_0 ++ []
theorem dksX5_plainTells_0 : cX5_plainTells.data.toList.drop 0 = dktX5_plainTells_0 := by decide +kernel
theorem dX5_plainTells_0 : decode cX5_plainTells 0 = .ok (.aload_n 0, 1) := dk_42 (dk_at dksX5_plainTells_0 0 rfl rfl)
theorem dX5_plainTells_1 : decode cX5_plainTells 1 = .ok (.iconst 2, 1) := dk_5 (dk_at dksX5_plainTells_0 1 rfl rfl)
theorem dX5_plainTells_2 : decode cX5_plainTells 2 = .ok (.invokevirtual 427, 3) := dk_182 1 171 (dk_at dksX5_plainTells_0 2 rfl rfl)
theorem dX5_plainTells_5 : decode cX5_plainTells 5 = .ok (.aload_n 0, 1) := dk_42 (dk_at dksX5_plainTells_0 5 rfl rfl)
theorem dX5_plainTells_6 : decode cX5_plainTells 6 = .ok (.iload_n 1, 1) := dk_27 (dk_at dksX5_plainTells_0 6 rfl rfl)
theorem dX5_plainTells_7 : decode cX5_plainTells 7 = .ok (.iload_n 2, 1) := dk_28 (dk_at dksX5_plainTells_0 7 rfl rfl)
theorem dX5_plainTells_8 : decode cX5_plainTells 8 = .ok (.invokevirtual 458, 3) := dk_182 1 202 (dk_at dksX5_plainTells_0 8 rfl rfl)
theorem dX5_plainTells_11 : decode cX5_plainTells 11 = .ok (.istore_n 3, 1) := dk_62 (dk_at dksX5_plainTells_0 11 rfl rfl)
theorem dX5_plainTells_12 : decode cX5_plainTells 12 = .ok (.iload_n 3, 1) := dk_29 (dk_at dksX5_plainTells_0 12 rfl rfl)
theorem dX5_plainTells_13 : decode cX5_plainTells 13 = .ok (.aload_n 0, 1) := dk_42 (dk_at dksX5_plainTells_0 13 rfl rfl)
theorem dX5_plainTells_14 : decode cX5_plainTells 14 = .ok (.iload_n 1, 1) := dk_27 (dk_at dksX5_plainTells_0 14 rfl rfl)
theorem dX5_plainTells_15 : decode cX5_plainTells 15 = .ok (.iconst 1, 1) := dk_4 (dk_at dksX5_plainTells_0 15 rfl rfl)
theorem dX5_plainTells_16 : decode cX5_plainTells 16 = .ok (.invokevirtual 449, 3) := dk_182 1 193 (dk_at dksX5_plainTells_0 16 rfl rfl)
theorem dX5_plainTells_19 : decode cX5_plainTells 19 = .ok (.isub, 1) := dk_100 (dk_at dksX5_plainTells_0 19 rfl rfl)
theorem dX5_plainTells_20 : decode cX5_plainTells 20 = .ok (.ireturn, 1) := dk_172 (dk_at dksX5_plainTells_0 20 rfl rfl)
abbrev cX5_count : ByteArray := prog_25_method_117_code
def yX5_count : MethodName := ⟨RX5, "count", "(I)I"⟩
def dkwX5_count_3 : List UInt8 := [172, 42, 180, 1, 168, 172, 2, 172]
abbrev dktX5_count_3 : List UInt8 := dkwX5_count_3 ++ []
def dkwX5_count_2 : List UInt8 := [42, 180, 0, 140, 172, 42, 180, 0, 143, 172, 42, 180, 0, 196, 172, 42, 180, 0, 176, 172, 42, 180, 1, 165]
abbrev dktX5_count_2 : List UInt8 := dkwX5_count_2 ++ dktX5_count_3
def dkwX5_count_1 : List UInt8 := [170, 0, 0, 0, 0, 0, 69, 0, 0, 0, 0, 0, 0, 0, 5, 0, 0, 0, 39, 0, 0, 0, 44, 0, 0, 0, 49, 0, 0, 0, 54, 0, 0, 0, 59, 0, 0, 0, 64]
abbrev dktX5_count_1 : List UInt8 := dkwX5_count_1 ++ dktX5_count_2
def dkwX5_count_0 : List UInt8 := [27]
abbrev dktX5_count_0 : List UInt8 := dkwX5_count_0 ++ dktX5_count_1
theorem dksX5_count_0 : cX5_count.data.toList.drop 0 = dktX5_count_0 := by decide +kernel
theorem dksX5_count_1 : cX5_count.data.toList.drop 1 = dktX5_count_1 := dk_seg dksX5_count_0 1 rfl rfl
theorem dksX5_count_2 : cX5_count.data.toList.drop 40 = dktX5_count_2 := dk_seg dksX5_count_1 39 rfl rfl
theorem dksX5_count_3 : cX5_count.data.toList.drop 64 = dktX5_count_3 := dk_seg dksX5_count_2 24 rfl rfl
theorem dX5_count_0 : decode cX5_count 0 = .ok (.iload_n 1, 1) := dk_27 (dk_at dksX5_count_0 0 rfl rfl)
theorem dX5_count_1 : decode cX5_count 1 = .ok (.tableswitch 69 0 5 #[39, 44, 49, 54, 59, 64], 39) := by decide +kernel
theorem dX5_count_40 : decode cX5_count 40 = .ok (.aload_n 0, 1) := dk_42 (dk_at dksX5_count_2 0 rfl rfl)
theorem dX5_count_41 : decode cX5_count 41 = .ok (.getfield 140, 3) := dk_180 0 140 (dk_at dksX5_count_2 1 rfl rfl)
theorem dX5_count_44 : decode cX5_count 44 = .ok (.ireturn, 1) := dk_172 (dk_at dksX5_count_2 4 rfl rfl)
theorem dX5_count_45 : decode cX5_count 45 = .ok (.aload_n 0, 1) := dk_42 (dk_at dksX5_count_2 5 rfl rfl)
theorem dX5_count_46 : decode cX5_count 46 = .ok (.getfield 143, 3) := dk_180 0 143 (dk_at dksX5_count_2 6 rfl rfl)
theorem dX5_count_49 : decode cX5_count 49 = .ok (.ireturn, 1) := dk_172 (dk_at dksX5_count_2 9 rfl rfl)
theorem dX5_count_50 : decode cX5_count 50 = .ok (.aload_n 0, 1) := dk_42 (dk_at dksX5_count_2 10 rfl rfl)
theorem dX5_count_51 : decode cX5_count 51 = .ok (.getfield 196, 3) := dk_180 0 196 (dk_at dksX5_count_2 11 rfl rfl)
theorem dX5_count_54 : decode cX5_count 54 = .ok (.ireturn, 1) := dk_172 (dk_at dksX5_count_2 14 rfl rfl)
theorem dX5_count_55 : decode cX5_count 55 = .ok (.aload_n 0, 1) := dk_42 (dk_at dksX5_count_2 15 rfl rfl)
theorem dX5_count_56 : decode cX5_count 56 = .ok (.getfield 176, 3) := dk_180 0 176 (dk_at dksX5_count_2 16 rfl rfl)
theorem dX5_count_59 : decode cX5_count 59 = .ok (.ireturn, 1) := dk_172 (dk_at dksX5_count_2 19 rfl rfl)
theorem dX5_count_60 : decode cX5_count 60 = .ok (.aload_n 0, 1) := dk_42 (dk_at dksX5_count_2 20 rfl rfl)
theorem dX5_count_61 : decode cX5_count 61 = .ok (.getfield 421, 3) := dk_180 1 165 (dk_at dksX5_count_2 21 rfl rfl)
theorem dX5_count_64 : decode cX5_count 64 = .ok (.ireturn, 1) := dk_172 (dk_at dksX5_count_3 0 rfl rfl)
theorem dX5_count_65 : decode cX5_count 65 = .ok (.aload_n 0, 1) := dk_42 (dk_at dksX5_count_3 1 rfl rfl)
theorem dX5_count_66 : decode cX5_count 66 = .ok (.getfield 424, 3) := dk_180 1 168 (dk_at dksX5_count_3 2 rfl rfl)
theorem dX5_count_69 : decode cX5_count 69 = .ok (.ireturn, 1) := dk_172 (dk_at dksX5_count_3 5 rfl rfl)
theorem dX5_count_70 : decode cX5_count 70 = .ok (.iconst (-1), 1) := dk_2 (dk_at dksX5_count_3 6 rfl rfl)
theorem dX5_count_71 : decode cX5_count 71 = .ok (.ireturn, 1) := dk_172 (dk_at dksX5_count_3 7 rfl rfl)
abbrev cX5_keep : ByteArray := prog_25_method_119_code
def yX5_keep : MethodName := ⟨RX5, "keep", "(II)I"⟩
def dkwX5_keep_1 : List UInt8 := [180, 0, 120, 27, 28, 79, 4, 172]
abbrev dktX5_keep_1 : List UInt8 := dkwX5_keep_1 ++ []
def dkwX5_keep_0 : List UInt8 := [27, 184, 0, 164, 153, 0, 16, 28, 2, 159, 0, 13, 42, 28, 182, 1, 208, 154, 0, 5, 2, 172, 42]
abbrev dktX5_keep_0 : List UInt8 := dkwX5_keep_0 ++ dktX5_keep_1
theorem dksX5_keep_0 : cX5_keep.data.toList.drop 0 = dktX5_keep_0 := by decide +kernel
theorem dksX5_keep_1 : cX5_keep.data.toList.drop 23 = dktX5_keep_1 := dk_seg dksX5_keep_0 23 rfl rfl
theorem dX5_keep_0 : decode cX5_keep 0 = .ok (.iload_n 1, 1) := dk_27 (dk_at dksX5_keep_0 0 rfl rfl)
theorem dX5_keep_1 : decode cX5_keep 1 = .ok (.invokestatic 164, 3) := dk_184 0 164 (dk_at dksX5_keep_0 1 rfl rfl)
theorem dX5_keep_4 : decode cX5_keep 4 = .ok (.ifCond .eq 16, 3) := dk_153 0 16 (dk_at dksX5_keep_0 4 rfl rfl)
theorem dX5_keep_7 : decode cX5_keep 7 = .ok (.iload_n 2, 1) := dk_28 (dk_at dksX5_keep_0 7 rfl rfl)
theorem dX5_keep_8 : decode cX5_keep 8 = .ok (.iconst (-1), 1) := dk_2 (dk_at dksX5_keep_0 8 rfl rfl)
theorem dX5_keep_9 : decode cX5_keep 9 = .ok (.if_icmp .eq 13, 3) := dk_159 0 13 (dk_at dksX5_keep_0 9 rfl rfl)
theorem dX5_keep_12 : decode cX5_keep 12 = .ok (.aload_n 0, 1) := dk_42 (dk_at dksX5_keep_0 12 rfl rfl)
theorem dX5_keep_13 : decode cX5_keep 13 = .ok (.iload_n 2, 1) := dk_28 (dk_at dksX5_keep_0 13 rfl rfl)
theorem dX5_keep_14 : decode cX5_keep 14 = .ok (.invokevirtual 464, 3) := dk_182 1 208 (dk_at dksX5_keep_0 14 rfl rfl)
theorem dX5_keep_17 : decode cX5_keep 17 = .ok (.ifCond .ne 5, 3) := dk_154 0 5 (dk_at dksX5_keep_0 17 rfl rfl)
theorem dX5_keep_20 : decode cX5_keep 20 = .ok (.iconst (-1), 1) := dk_2 (dk_at dksX5_keep_0 20 rfl rfl)
theorem dX5_keep_21 : decode cX5_keep 21 = .ok (.ireturn, 1) := dk_172 (dk_at dksX5_keep_0 21 rfl rfl)
theorem dX5_keep_22 : decode cX5_keep 22 = .ok (.aload_n 0, 1) := dk_42 (dk_at dksX5_keep_0 22 rfl rfl)
theorem dX5_keep_23 : decode cX5_keep 23 = .ok (.getfield 120, 3) := dk_180 0 120 (dk_at dksX5_keep_1 0 rfl rfl)
theorem dX5_keep_26 : decode cX5_keep 26 = .ok (.iload_n 1, 1) := dk_27 (dk_at dksX5_keep_1 3 rfl rfl)
theorem dX5_keep_27 : decode cX5_keep 27 = .ok (.iload_n 2, 1) := dk_28 (dk_at dksX5_keep_1 4 rfl rfl)
theorem dX5_keep_28 : decode cX5_keep 28 = .ok (.iastore, 1) := dk_79 (dk_at dksX5_keep_1 5 rfl rfl)
theorem dX5_keep_29 : decode cX5_keep 29 = .ok (.iconst 1, 1) := dk_4 (dk_at dksX5_keep_1 6 rfl rfl)
theorem dX5_keep_30 : decode cX5_keep 30 = .ok (.ireturn, 1) := dk_172 (dk_at dksX5_keep_1 7 rfl rfl)
abbrev cX5_row : ByteArray := prog_25_method_120_code
def yX5_row : MethodName := ⟨RX5, "row", "(III)I"⟩
def dkwX5_row_3 : List UInt8 := [9, 80, 132, 4, 1, 167, 255, 233, 4, 172]
abbrev dktX5_row_3 : List UInt8 := dkwX5_row_3 ++ []
def dkwX5_row_2 : List UInt8 := [16, 60, 27, 104, 54, 4, 21, 4, 16, 60, 27, 104, 16, 60, 96, 162, 0, 17, 42, 180, 0, 126, 21, 4]
abbrev dktX5_row_2 : List UInt8 := dkwX5_row_2 ++ dktX5_row_3
def dkwX5_row_1 : List UInt8 := [29, 156, 0, 6, 16, 242, 172, 42, 180, 0, 120, 27, 16, 254, 28, 100, 79, 42, 180, 0, 123, 27, 29, 79]
abbrev dktX5_row_1 : List UInt8 := dkwX5_row_1 ++ dktX5_row_2
def dkwX5_row_0 : List UInt8 := [27, 184, 0, 164, 153, 0, 18, 28, 3, 7, 184, 0, 136, 153, 0, 9, 29, 16, 60, 164, 0, 5, 2, 172]
abbrev dktX5_row_0 : List UInt8 := dkwX5_row_0 ++ dktX5_row_1
theorem dksX5_row_0 : cX5_row.data.toList.drop 0 = dktX5_row_0 := by decide +kernel
theorem dksX5_row_1 : cX5_row.data.toList.drop 24 = dktX5_row_1 := dk_seg dksX5_row_0 24 rfl rfl
theorem dksX5_row_2 : cX5_row.data.toList.drop 48 = dktX5_row_2 := dk_seg dksX5_row_1 24 rfl rfl
theorem dksX5_row_3 : cX5_row.data.toList.drop 72 = dktX5_row_3 := dk_seg dksX5_row_2 24 rfl rfl
theorem dX5_row_0 : decode cX5_row 0 = .ok (.iload_n 1, 1) := dk_27 (dk_at dksX5_row_0 0 rfl rfl)
theorem dX5_row_1 : decode cX5_row 1 = .ok (.invokestatic 164, 3) := dk_184 0 164 (dk_at dksX5_row_0 1 rfl rfl)
theorem dX5_row_4 : decode cX5_row 4 = .ok (.ifCond .eq 18, 3) := dk_153 0 18 (dk_at dksX5_row_0 4 rfl rfl)
theorem dX5_row_7 : decode cX5_row 7 = .ok (.iload_n 2, 1) := dk_28 (dk_at dksX5_row_0 7 rfl rfl)
theorem dX5_row_8 : decode cX5_row 8 = .ok (.iconst 0, 1) := dk_3 (dk_at dksX5_row_0 8 rfl rfl)
theorem dX5_row_9 : decode cX5_row 9 = .ok (.iconst 4, 1) := dk_7 (dk_at dksX5_row_0 9 rfl rfl)
theorem dX5_row_10 : decode cX5_row 10 = .ok (.invokestatic 136, 3) := dk_184 0 136 (dk_at dksX5_row_0 10 rfl rfl)
theorem dX5_row_13 : decode cX5_row 13 = .ok (.ifCond .eq 9, 3) := dk_153 0 9 (dk_at dksX5_row_0 13 rfl rfl)
theorem dX5_row_16 : decode cX5_row 16 = .ok (.iload_n 3, 1) := dk_29 (dk_at dksX5_row_0 16 rfl rfl)
theorem dX5_row_17 : decode cX5_row 17 = .ok (.bipush 60, 2) := dk_16 60 (dk_at dksX5_row_0 17 rfl rfl)
theorem dX5_row_19 : decode cX5_row 19 = .ok (.if_icmp .le 5, 3) := dk_164 0 5 (dk_at dksX5_row_0 19 rfl rfl)
theorem dX5_row_22 : decode cX5_row 22 = .ok (.iconst (-1), 1) := dk_2 (dk_at dksX5_row_0 22 rfl rfl)
theorem dX5_row_23 : decode cX5_row 23 = .ok (.ireturn, 1) := dk_172 (dk_at dksX5_row_0 23 rfl rfl)
theorem dX5_row_24 : decode cX5_row 24 = .ok (.iload_n 3, 1) := dk_29 (dk_at dksX5_row_1 0 rfl rfl)
theorem dX5_row_25 : decode cX5_row 25 = .ok (.ifCond .ge 6, 3) := dk_156 0 6 (dk_at dksX5_row_1 1 rfl rfl)
theorem dX5_row_28 : decode cX5_row 28 = .ok (.bipush (-14), 2) := dk_16 242 (dk_at dksX5_row_1 4 rfl rfl)
theorem dX5_row_30 : decode cX5_row 30 = .ok (.ireturn, 1) := dk_172 (dk_at dksX5_row_1 6 rfl rfl)
theorem dX5_row_31 : decode cX5_row 31 = .ok (.aload_n 0, 1) := dk_42 (dk_at dksX5_row_1 7 rfl rfl)
theorem dX5_row_32 : decode cX5_row 32 = .ok (.getfield 120, 3) := dk_180 0 120 (dk_at dksX5_row_1 8 rfl rfl)
theorem dX5_row_35 : decode cX5_row 35 = .ok (.iload_n 1, 1) := dk_27 (dk_at dksX5_row_1 11 rfl rfl)
theorem dX5_row_36 : decode cX5_row 36 = .ok (.bipush (-2), 2) := dk_16 254 (dk_at dksX5_row_1 12 rfl rfl)
theorem dX5_row_38 : decode cX5_row 38 = .ok (.iload_n 2, 1) := dk_28 (dk_at dksX5_row_1 14 rfl rfl)
theorem dX5_row_39 : decode cX5_row 39 = .ok (.isub, 1) := dk_100 (dk_at dksX5_row_1 15 rfl rfl)
theorem dX5_row_40 : decode cX5_row 40 = .ok (.iastore, 1) := dk_79 (dk_at dksX5_row_1 16 rfl rfl)
theorem dX5_row_41 : decode cX5_row 41 = .ok (.aload_n 0, 1) := dk_42 (dk_at dksX5_row_1 17 rfl rfl)
theorem dX5_row_42 : decode cX5_row 42 = .ok (.getfield 123, 3) := dk_180 0 123 (dk_at dksX5_row_1 18 rfl rfl)
theorem dX5_row_45 : decode cX5_row 45 = .ok (.iload_n 1, 1) := dk_27 (dk_at dksX5_row_1 21 rfl rfl)
theorem dX5_row_46 : decode cX5_row 46 = .ok (.iload_n 3, 1) := dk_29 (dk_at dksX5_row_1 22 rfl rfl)
theorem dX5_row_47 : decode cX5_row 47 = .ok (.iastore, 1) := dk_79 (dk_at dksX5_row_1 23 rfl rfl)
theorem dX5_row_48 : decode cX5_row 48 = .ok (.bipush 60, 2) := dk_16 60 (dk_at dksX5_row_2 0 rfl rfl)
theorem dX5_row_50 : decode cX5_row 50 = .ok (.iload_n 1, 1) := dk_27 (dk_at dksX5_row_2 2 rfl rfl)
theorem dX5_row_51 : decode cX5_row 51 = .ok (.imul, 1) := dk_104 (dk_at dksX5_row_2 3 rfl rfl)
theorem dX5_row_52 : decode cX5_row 52 = .ok (.istore 4, 2) := dk_54 4 (dk_at dksX5_row_2 4 rfl rfl)
theorem dX5_row_54 : decode cX5_row 54 = .ok (.iload 4, 2) := dk_21 4 (dk_at dksX5_row_2 6 rfl rfl)
theorem dX5_row_56 : decode cX5_row 56 = .ok (.bipush 60, 2) := dk_16 60 (dk_at dksX5_row_2 8 rfl rfl)
theorem dX5_row_58 : decode cX5_row 58 = .ok (.iload_n 1, 1) := dk_27 (dk_at dksX5_row_2 10 rfl rfl)
theorem dX5_row_59 : decode cX5_row 59 = .ok (.imul, 1) := dk_104 (dk_at dksX5_row_2 11 rfl rfl)
theorem dX5_row_60 : decode cX5_row 60 = .ok (.bipush 60, 2) := dk_16 60 (dk_at dksX5_row_2 12 rfl rfl)
theorem dX5_row_62 : decode cX5_row 62 = .ok (.iadd, 1) := dk_96 (dk_at dksX5_row_2 14 rfl rfl)
theorem dX5_row_63 : decode cX5_row 63 = .ok (.if_icmp .ge 17, 3) := dk_162 0 17 (dk_at dksX5_row_2 15 rfl rfl)
theorem dX5_row_66 : decode cX5_row 66 = .ok (.aload_n 0, 1) := dk_42 (dk_at dksX5_row_2 18 rfl rfl)
theorem dX5_row_67 : decode cX5_row 67 = .ok (.getfield 126, 3) := dk_180 0 126 (dk_at dksX5_row_2 19 rfl rfl)
theorem dX5_row_70 : decode cX5_row 70 = .ok (.iload 4, 2) := dk_21 4 (dk_at dksX5_row_2 22 rfl rfl)
theorem dX5_row_72 : decode cX5_row 72 = .ok (.lconst 0, 1) := dk_9 (dk_at dksX5_row_3 0 rfl rfl)
theorem dX5_row_73 : decode cX5_row 73 = .ok (.lastore, 1) := dk_80 (dk_at dksX5_row_3 1 rfl rfl)
theorem dX5_row_74 : decode cX5_row 74 = .ok (.iinc 4 1, 3) := dk_132 4 1 (dk_at dksX5_row_3 2 rfl rfl)
theorem dX5_row_77 : decode cX5_row 77 = .ok (.goto (-23), 3) := dk_167 255 233 (dk_at dksX5_row_3 5 rfl rfl)
theorem dX5_row_80 : decode cX5_row 80 = .ok (.iconst 1, 1) := dk_4 (dk_at dksX5_row_3 8 rfl rfl)
theorem dX5_row_81 : decode cX5_row 81 = .ok (.ireturn, 1) := dk_172 (dk_at dksX5_row_3 9 rfl rfl)
abbrev cX5_put : ByteArray := prog_25_method_122_code
def yX5_put : MethodName := ⟨RX5, "put", "(IIJ)I"⟩
def dkwX5_put_4 : List UInt8 := [9, 80, 4, 172]
abbrev dktX5_put_4 : List UInt8 := dkwX5_put_4 ++ []
def dkwX5_put_3 : List UInt8 := [133, 167, 0, 24, 21, 6, 6, 160, 0, 7, 33, 167, 0, 14, 33, 9, 148, 153, 0, 7, 10, 167, 0, 4]
abbrev dktX5_put_3 : List UInt8 := dkwX5_put_3 ++ dktX5_put_4
def dkwX5_put_2 : List UInt8 := [167, 0, 49, 21, 6, 4, 160, 0, 10, 33, 136, 147, 133, 167, 0, 36, 21, 6, 5, 160, 0, 9, 33, 136]
abbrev dktX5_put_2 : List UInt8 := dkwX5_put_2 ++ dktX5_put_3
def dkwX5_put_1 : List UInt8 := [100, 54, 6, 42, 180, 0, 126, 16, 60, 27, 104, 28, 96, 21, 6, 154, 0, 10, 33, 136, 145, 133]
abbrev dktX5_put_1 : List UInt8 := dkwX5_put_1 ++ dktX5_put_2
def dkwX5_put_0 : List UInt8 := [42, 27, 28, 182, 1, 214, 54, 5, 21, 5, 156, 0, 6, 21, 5, 172, 16, 254, 42, 180, 0, 120, 27, 46]
abbrev dktX5_put_0 : List UInt8 := dkwX5_put_0 ++ dktX5_put_1
theorem dksX5_put_0 : cX5_put.data.toList.drop 0 = dktX5_put_0 := by decide +kernel
theorem dksX5_put_1 : cX5_put.data.toList.drop 24 = dktX5_put_1 := dk_seg dksX5_put_0 24 rfl rfl
theorem dksX5_put_2 : cX5_put.data.toList.drop 46 = dktX5_put_2 := dk_seg dksX5_put_1 22 rfl rfl
theorem dksX5_put_3 : cX5_put.data.toList.drop 70 = dktX5_put_3 := dk_seg dksX5_put_2 24 rfl rfl
theorem dksX5_put_4 : cX5_put.data.toList.drop 94 = dktX5_put_4 := dk_seg dksX5_put_3 24 rfl rfl
theorem dX5_put_0 : decode cX5_put 0 = .ok (.aload_n 0, 1) := dk_42 (dk_at dksX5_put_0 0 rfl rfl)
theorem dX5_put_1 : decode cX5_put 1 = .ok (.iload_n 1, 1) := dk_27 (dk_at dksX5_put_0 1 rfl rfl)
theorem dX5_put_2 : decode cX5_put 2 = .ok (.iload_n 2, 1) := dk_28 (dk_at dksX5_put_0 2 rfl rfl)
theorem dX5_put_3 : decode cX5_put 3 = .ok (.invokevirtual 470, 3) := dk_182 1 214 (dk_at dksX5_put_0 3 rfl rfl)
theorem dX5_put_6 : decode cX5_put 6 = .ok (.istore 5, 2) := dk_54 5 (dk_at dksX5_put_0 6 rfl rfl)
theorem dX5_put_8 : decode cX5_put 8 = .ok (.iload 5, 2) := dk_21 5 (dk_at dksX5_put_0 8 rfl rfl)
theorem dX5_put_10 : decode cX5_put 10 = .ok (.ifCond .ge 6, 3) := dk_156 0 6 (dk_at dksX5_put_0 10 rfl rfl)
theorem dX5_put_13 : decode cX5_put 13 = .ok (.iload 5, 2) := dk_21 5 (dk_at dksX5_put_0 13 rfl rfl)
theorem dX5_put_15 : decode cX5_put 15 = .ok (.ireturn, 1) := dk_172 (dk_at dksX5_put_0 15 rfl rfl)
theorem dX5_put_16 : decode cX5_put 16 = .ok (.bipush (-2), 2) := dk_16 254 (dk_at dksX5_put_0 16 rfl rfl)
theorem dX5_put_18 : decode cX5_put 18 = .ok (.aload_n 0, 1) := dk_42 (dk_at dksX5_put_0 18 rfl rfl)
theorem dX5_put_19 : decode cX5_put 19 = .ok (.getfield 120, 3) := dk_180 0 120 (dk_at dksX5_put_0 19 rfl rfl)
theorem dX5_put_22 : decode cX5_put 22 = .ok (.iload_n 1, 1) := dk_27 (dk_at dksX5_put_0 22 rfl rfl)
theorem dX5_put_23 : decode cX5_put 23 = .ok (.iaload, 1) := dk_46 (dk_at dksX5_put_0 23 rfl rfl)
theorem dX5_put_24 : decode cX5_put 24 = .ok (.isub, 1) := dk_100 (dk_at dksX5_put_1 0 rfl rfl)
theorem dX5_put_25 : decode cX5_put 25 = .ok (.istore 6, 2) := dk_54 6 (dk_at dksX5_put_1 1 rfl rfl)
theorem dX5_put_27 : decode cX5_put 27 = .ok (.aload_n 0, 1) := dk_42 (dk_at dksX5_put_1 3 rfl rfl)
theorem dX5_put_28 : decode cX5_put 28 = .ok (.getfield 126, 3) := dk_180 0 126 (dk_at dksX5_put_1 4 rfl rfl)
theorem dX5_put_31 : decode cX5_put 31 = .ok (.bipush 60, 2) := dk_16 60 (dk_at dksX5_put_1 7 rfl rfl)
theorem dX5_put_33 : decode cX5_put 33 = .ok (.iload_n 1, 1) := dk_27 (dk_at dksX5_put_1 9 rfl rfl)
theorem dX5_put_34 : decode cX5_put 34 = .ok (.imul, 1) := dk_104 (dk_at dksX5_put_1 10 rfl rfl)
theorem dX5_put_35 : decode cX5_put 35 = .ok (.iload_n 2, 1) := dk_28 (dk_at dksX5_put_1 11 rfl rfl)
theorem dX5_put_36 : decode cX5_put 36 = .ok (.iadd, 1) := dk_96 (dk_at dksX5_put_1 12 rfl rfl)
theorem dX5_put_37 : decode cX5_put 37 = .ok (.iload 6, 2) := dk_21 6 (dk_at dksX5_put_1 13 rfl rfl)
theorem dX5_put_39 : decode cX5_put 39 = .ok (.ifCond .ne 10, 3) := dk_154 0 10 (dk_at dksX5_put_1 15 rfl rfl)
theorem dX5_put_42 : decode cX5_put 42 = .ok (.lload_n 3, 1) := dk_33 (dk_at dksX5_put_1 18 rfl rfl)
theorem dX5_put_43 : decode cX5_put 43 = .ok (.l2i, 1) := dk_136 (dk_at dksX5_put_1 19 rfl rfl)
theorem dX5_put_44 : decode cX5_put 44 = .ok (.i2b, 1) := dk_145 (dk_at dksX5_put_1 20 rfl rfl)
theorem dX5_put_45 : decode cX5_put 45 = .ok (.i2l, 1) := dk_133 (dk_at dksX5_put_1 21 rfl rfl)
theorem dX5_put_46 : decode cX5_put 46 = .ok (.goto 49, 3) := dk_167 0 49 (dk_at dksX5_put_2 0 rfl rfl)
theorem dX5_put_49 : decode cX5_put 49 = .ok (.iload 6, 2) := dk_21 6 (dk_at dksX5_put_2 3 rfl rfl)
theorem dX5_put_51 : decode cX5_put 51 = .ok (.iconst 1, 1) := dk_4 (dk_at dksX5_put_2 5 rfl rfl)
theorem dX5_put_52 : decode cX5_put 52 = .ok (.if_icmp .ne 10, 3) := dk_160 0 10 (dk_at dksX5_put_2 6 rfl rfl)
theorem dX5_put_55 : decode cX5_put 55 = .ok (.lload_n 3, 1) := dk_33 (dk_at dksX5_put_2 9 rfl rfl)
theorem dX5_put_56 : decode cX5_put 56 = .ok (.l2i, 1) := dk_136 (dk_at dksX5_put_2 10 rfl rfl)
theorem dX5_put_57 : decode cX5_put 57 = .ok (.i2s, 1) := dk_147 (dk_at dksX5_put_2 11 rfl rfl)
theorem dX5_put_58 : decode cX5_put 58 = .ok (.i2l, 1) := dk_133 (dk_at dksX5_put_2 12 rfl rfl)
theorem dX5_put_59 : decode cX5_put 59 = .ok (.goto 36, 3) := dk_167 0 36 (dk_at dksX5_put_2 13 rfl rfl)
theorem dX5_put_62 : decode cX5_put 62 = .ok (.iload 6, 2) := dk_21 6 (dk_at dksX5_put_2 16 rfl rfl)
theorem dX5_put_64 : decode cX5_put 64 = .ok (.iconst 2, 1) := dk_5 (dk_at dksX5_put_2 18 rfl rfl)
theorem dX5_put_65 : decode cX5_put 65 = .ok (.if_icmp .ne 9, 3) := dk_160 0 9 (dk_at dksX5_put_2 19 rfl rfl)
theorem dX5_put_68 : decode cX5_put 68 = .ok (.lload_n 3, 1) := dk_33 (dk_at dksX5_put_2 22 rfl rfl)
theorem dX5_put_69 : decode cX5_put 69 = .ok (.l2i, 1) := dk_136 (dk_at dksX5_put_2 23 rfl rfl)
theorem dX5_put_70 : decode cX5_put 70 = .ok (.i2l, 1) := dk_133 (dk_at dksX5_put_3 0 rfl rfl)
theorem dX5_put_71 : decode cX5_put 71 = .ok (.goto 24, 3) := dk_167 0 24 (dk_at dksX5_put_3 1 rfl rfl)
theorem dX5_put_74 : decode cX5_put 74 = .ok (.iload 6, 2) := dk_21 6 (dk_at dksX5_put_3 4 rfl rfl)
theorem dX5_put_76 : decode cX5_put 76 = .ok (.iconst 3, 1) := dk_6 (dk_at dksX5_put_3 6 rfl rfl)
theorem dX5_put_77 : decode cX5_put 77 = .ok (.if_icmp .ne 7, 3) := dk_160 0 7 (dk_at dksX5_put_3 7 rfl rfl)
theorem dX5_put_80 : decode cX5_put 80 = .ok (.lload_n 3, 1) := dk_33 (dk_at dksX5_put_3 10 rfl rfl)
theorem dX5_put_81 : decode cX5_put 81 = .ok (.goto 14, 3) := dk_167 0 14 (dk_at dksX5_put_3 11 rfl rfl)
theorem dX5_put_84 : decode cX5_put 84 = .ok (.lload_n 3, 1) := dk_33 (dk_at dksX5_put_3 14 rfl rfl)
theorem dX5_put_85 : decode cX5_put 85 = .ok (.lconst 0, 1) := dk_9 (dk_at dksX5_put_3 15 rfl rfl)
theorem dX5_put_86 : decode cX5_put 86 = .ok (.lcmp, 1) := dk_148 (dk_at dksX5_put_3 16 rfl rfl)
theorem dX5_put_87 : decode cX5_put 87 = .ok (.ifCond .eq 7, 3) := dk_153 0 7 (dk_at dksX5_put_3 17 rfl rfl)
theorem dX5_put_90 : decode cX5_put 90 = .ok (.lconst 1, 1) := dk_10 (dk_at dksX5_put_3 20 rfl rfl)
theorem dX5_put_91 : decode cX5_put 91 = .ok (.goto 4, 3) := dk_167 0 4 (dk_at dksX5_put_3 21 rfl rfl)
theorem dX5_put_94 : decode cX5_put 94 = .ok (.lconst 0, 1) := dk_9 (dk_at dksX5_put_4 0 rfl rfl)
theorem dX5_put_95 : decode cX5_put 95 = .ok (.lastore, 1) := dk_80 (dk_at dksX5_put_4 1 rfl rfl)
theorem dX5_put_96 : decode cX5_put 96 = .ok (.iconst 1, 1) := dk_4 (dk_at dksX5_put_4 2 rfl rfl)
theorem dX5_put_97 : decode cX5_put 97 = .ok (.ireturn, 1) := dk_172 (dk_at dksX5_put_4 3 rfl rfl)
abbrev cX5_whyNoPlace : ByteArray := prog_25_method_121_code
def yX5_whyNoPlace : MethodName := ⟨RX5, "whyNoPlace", "(II)I"⟩
def dkwX5_whyNoPlace_2 : List UInt8 := [153, 0, 7, 3, 167, 0, 5, 16, 243, 172]
abbrev dktX5_whyNoPlace_2 : List UInt8 := dkwX5_whyNoPlace_2 ++ []
def dkwX5_whyNoPlace_1 : List UInt8 := [180, 0, 120, 27, 46, 155, 0, 6, 16, 244, 172, 28, 3, 42, 180, 0, 123, 27, 46, 4, 100, 184, 0, 136]
abbrev dktX5_whyNoPlace_1 : List UInt8 := dkwX5_whyNoPlace_1 ++ dktX5_whyNoPlace_2
def dkwX5_whyNoPlace_0 : List UInt8 := [27, 184, 0, 164, 154, 0, 5, 2, 172, 42, 180, 0, 120, 27, 46, 2, 160, 0, 6, 16, 245, 172, 42]
abbrev dktX5_whyNoPlace_0 : List UInt8 := dkwX5_whyNoPlace_0 ++ dktX5_whyNoPlace_1
theorem dksX5_whyNoPlace_0 : cX5_whyNoPlace.data.toList.drop 0 = dktX5_whyNoPlace_0 := by decide +kernel
theorem dksX5_whyNoPlace_1 : cX5_whyNoPlace.data.toList.drop 23 = dktX5_whyNoPlace_1 := dk_seg dksX5_whyNoPlace_0 23 rfl rfl
theorem dksX5_whyNoPlace_2 : cX5_whyNoPlace.data.toList.drop 47 = dktX5_whyNoPlace_2 := dk_seg dksX5_whyNoPlace_1 24 rfl rfl
theorem dX5_whyNoPlace_0 : decode cX5_whyNoPlace 0 = .ok (.iload_n 1, 1) := dk_27 (dk_at dksX5_whyNoPlace_0 0 rfl rfl)
theorem dX5_whyNoPlace_1 : decode cX5_whyNoPlace 1 = .ok (.invokestatic 164, 3) := dk_184 0 164 (dk_at dksX5_whyNoPlace_0 1 rfl rfl)
theorem dX5_whyNoPlace_4 : decode cX5_whyNoPlace 4 = .ok (.ifCond .ne 5, 3) := dk_154 0 5 (dk_at dksX5_whyNoPlace_0 4 rfl rfl)
theorem dX5_whyNoPlace_7 : decode cX5_whyNoPlace 7 = .ok (.iconst (-1), 1) := dk_2 (dk_at dksX5_whyNoPlace_0 7 rfl rfl)
theorem dX5_whyNoPlace_8 : decode cX5_whyNoPlace 8 = .ok (.ireturn, 1) := dk_172 (dk_at dksX5_whyNoPlace_0 8 rfl rfl)
theorem dX5_whyNoPlace_9 : decode cX5_whyNoPlace 9 = .ok (.aload_n 0, 1) := dk_42 (dk_at dksX5_whyNoPlace_0 9 rfl rfl)
theorem dX5_whyNoPlace_10 : decode cX5_whyNoPlace 10 = .ok (.getfield 120, 3) := dk_180 0 120 (dk_at dksX5_whyNoPlace_0 10 rfl rfl)
theorem dX5_whyNoPlace_13 : decode cX5_whyNoPlace 13 = .ok (.iload_n 1, 1) := dk_27 (dk_at dksX5_whyNoPlace_0 13 rfl rfl)
theorem dX5_whyNoPlace_14 : decode cX5_whyNoPlace 14 = .ok (.iaload, 1) := dk_46 (dk_at dksX5_whyNoPlace_0 14 rfl rfl)
theorem dX5_whyNoPlace_15 : decode cX5_whyNoPlace 15 = .ok (.iconst (-1), 1) := dk_2 (dk_at dksX5_whyNoPlace_0 15 rfl rfl)
theorem dX5_whyNoPlace_16 : decode cX5_whyNoPlace 16 = .ok (.if_icmp .ne 6, 3) := dk_160 0 6 (dk_at dksX5_whyNoPlace_0 16 rfl rfl)
theorem dX5_whyNoPlace_19 : decode cX5_whyNoPlace 19 = .ok (.bipush (-11), 2) := dk_16 245 (dk_at dksX5_whyNoPlace_0 19 rfl rfl)
theorem dX5_whyNoPlace_21 : decode cX5_whyNoPlace 21 = .ok (.ireturn, 1) := dk_172 (dk_at dksX5_whyNoPlace_0 21 rfl rfl)
theorem dX5_whyNoPlace_22 : decode cX5_whyNoPlace 22 = .ok (.aload_n 0, 1) := dk_42 (dk_at dksX5_whyNoPlace_0 22 rfl rfl)
theorem dX5_whyNoPlace_23 : decode cX5_whyNoPlace 23 = .ok (.getfield 120, 3) := dk_180 0 120 (dk_at dksX5_whyNoPlace_1 0 rfl rfl)
theorem dX5_whyNoPlace_26 : decode cX5_whyNoPlace 26 = .ok (.iload_n 1, 1) := dk_27 (dk_at dksX5_whyNoPlace_1 3 rfl rfl)
theorem dX5_whyNoPlace_27 : decode cX5_whyNoPlace 27 = .ok (.iaload, 1) := dk_46 (dk_at dksX5_whyNoPlace_1 4 rfl rfl)
theorem dX5_whyNoPlace_28 : decode cX5_whyNoPlace 28 = .ok (.ifCond .lt 6, 3) := dk_155 0 6 (dk_at dksX5_whyNoPlace_1 5 rfl rfl)
theorem dX5_whyNoPlace_31 : decode cX5_whyNoPlace 31 = .ok (.bipush (-12), 2) := dk_16 244 (dk_at dksX5_whyNoPlace_1 8 rfl rfl)
theorem dX5_whyNoPlace_33 : decode cX5_whyNoPlace 33 = .ok (.ireturn, 1) := dk_172 (dk_at dksX5_whyNoPlace_1 10 rfl rfl)
theorem dX5_whyNoPlace_34 : decode cX5_whyNoPlace 34 = .ok (.iload_n 2, 1) := dk_28 (dk_at dksX5_whyNoPlace_1 11 rfl rfl)
theorem dX5_whyNoPlace_35 : decode cX5_whyNoPlace 35 = .ok (.iconst 0, 1) := dk_3 (dk_at dksX5_whyNoPlace_1 12 rfl rfl)
theorem dX5_whyNoPlace_36 : decode cX5_whyNoPlace 36 = .ok (.aload_n 0, 1) := dk_42 (dk_at dksX5_whyNoPlace_1 13 rfl rfl)
theorem dX5_whyNoPlace_37 : decode cX5_whyNoPlace 37 = .ok (.getfield 123, 3) := dk_180 0 123 (dk_at dksX5_whyNoPlace_1 14 rfl rfl)
theorem dX5_whyNoPlace_40 : decode cX5_whyNoPlace 40 = .ok (.iload_n 1, 1) := dk_27 (dk_at dksX5_whyNoPlace_1 17 rfl rfl)
theorem dX5_whyNoPlace_41 : decode cX5_whyNoPlace 41 = .ok (.iaload, 1) := dk_46 (dk_at dksX5_whyNoPlace_1 18 rfl rfl)
theorem dX5_whyNoPlace_42 : decode cX5_whyNoPlace 42 = .ok (.iconst 1, 1) := dk_4 (dk_at dksX5_whyNoPlace_1 19 rfl rfl)
theorem dX5_whyNoPlace_43 : decode cX5_whyNoPlace 43 = .ok (.isub, 1) := dk_100 (dk_at dksX5_whyNoPlace_1 20 rfl rfl)
theorem dX5_whyNoPlace_44 : decode cX5_whyNoPlace 44 = .ok (.invokestatic 136, 3) := dk_184 0 136 (dk_at dksX5_whyNoPlace_1 21 rfl rfl)
theorem dX5_whyNoPlace_47 : decode cX5_whyNoPlace 47 = .ok (.ifCond .eq 7, 3) := dk_153 0 7 (dk_at dksX5_whyNoPlace_2 0 rfl rfl)
theorem dX5_whyNoPlace_50 : decode cX5_whyNoPlace 50 = .ok (.iconst 0, 1) := dk_3 (dk_at dksX5_whyNoPlace_2 3 rfl rfl)
theorem dX5_whyNoPlace_51 : decode cX5_whyNoPlace 51 = .ok (.goto 5, 3) := dk_167 0 5 (dk_at dksX5_whyNoPlace_2 4 rfl rfl)
theorem dX5_whyNoPlace_54 : decode cX5_whyNoPlace 54 = .ok (.bipush (-13), 2) := dk_16 243 (dk_at dksX5_whyNoPlace_2 7 rfl rfl)
theorem dX5_whyNoPlace_56 : decode cX5_whyNoPlace 56 = .ok (.ireturn, 1) := dk_172 (dk_at dksX5_whyNoPlace_2 9 rfl rfl)
abbrev cX5_element : ByteArray := prog_25_method_123_code
def yX5_element : MethodName := ⟨RX5, "element", "(II)J"⟩
def dkwX5_element_1 : List UInt8 := [96, 47, 173]
abbrev dktX5_element_1 : List UInt8 := dkwX5_element_1 ++ []
def dkwX5_element_0 : List UInt8 := [42, 27, 28, 182, 1, 214, 156, 0, 9, 20, 1, 124, 167, 0, 14, 42, 180, 0, 126, 16, 60, 27, 104, 28]
abbrev dktX5_element_0 : List UInt8 := dkwX5_element_0 ++ dktX5_element_1
theorem dksX5_element_0 : cX5_element.data.toList.drop 0 = dktX5_element_0 := by decide +kernel
theorem dksX5_element_1 : cX5_element.data.toList.drop 24 = dktX5_element_1 := dk_seg dksX5_element_0 24 rfl rfl
theorem dX5_element_0 : decode cX5_element 0 = .ok (.aload_n 0, 1) := dk_42 (dk_at dksX5_element_0 0 rfl rfl)
theorem dX5_element_1 : decode cX5_element 1 = .ok (.iload_n 1, 1) := dk_27 (dk_at dksX5_element_0 1 rfl rfl)
theorem dX5_element_2 : decode cX5_element 2 = .ok (.iload_n 2, 1) := dk_28 (dk_at dksX5_element_0 2 rfl rfl)
theorem dX5_element_3 : decode cX5_element 3 = .ok (.invokevirtual 470, 3) := dk_182 1 214 (dk_at dksX5_element_0 3 rfl rfl)
theorem dX5_element_6 : decode cX5_element 6 = .ok (.ifCond .ge 9, 3) := dk_156 0 9 (dk_at dksX5_element_0 6 rfl rfl)
theorem dX5_element_9 : decode cX5_element 9 = .ok (.ldc2_w 380, 3) := dk_20 1 124 (dk_at dksX5_element_0 9 rfl rfl)
theorem dX5_element_12 : decode cX5_element 12 = .ok (.goto 14, 3) := dk_167 0 14 (dk_at dksX5_element_0 12 rfl rfl)
theorem dX5_element_15 : decode cX5_element 15 = .ok (.aload_n 0, 1) := dk_42 (dk_at dksX5_element_0 15 rfl rfl)
theorem dX5_element_16 : decode cX5_element 16 = .ok (.getfield 126, 3) := dk_180 0 126 (dk_at dksX5_element_0 16 rfl rfl)
theorem dX5_element_19 : decode cX5_element 19 = .ok (.bipush 60, 2) := dk_16 60 (dk_at dksX5_element_0 19 rfl rfl)
theorem dX5_element_21 : decode cX5_element 21 = .ok (.iload_n 1, 1) := dk_27 (dk_at dksX5_element_0 21 rfl rfl)
theorem dX5_element_22 : decode cX5_element 22 = .ok (.imul, 1) := dk_104 (dk_at dksX5_element_0 22 rfl rfl)
theorem dX5_element_23 : decode cX5_element 23 = .ok (.iload_n 2, 1) := dk_28 (dk_at dksX5_element_0 23 rfl rfl)
theorem dX5_element_24 : decode cX5_element 24 = .ok (.iadd, 1) := dk_96 (dk_at dksX5_element_1 0 rfl rfl)
theorem dX5_element_25 : decode cX5_element 25 = .ok (.laload, 1) := dk_47 (dk_at dksX5_element_1 1 rfl rfl)
theorem dX5_element_26 : decode cX5_element 26 = .ok (.lreturn, 1) := dk_173 (dk_at dksX5_element_1 2 rfl rfl)
abbrev cX5_shift : ByteArray := prog_25_method_124_code
def yX5_shift : MethodName := ⟨RX5, "shift", "(IIIII)I"⟩
def dkwX5_shift_8 : List UInt8 := [167, 255, 224, 21, 5, 172]
abbrev dktX5_shift_8 : List UInt8 := dkwX5_shift_8 ++ []
def dkwX5_shift_7 : List UInt8 := [180, 0, 126, 16, 60, 29, 104, 21, 4, 96, 21, 6, 96, 42, 180, 0, 130, 21, 6, 47, 80, 132, 6, 1]
abbrev dktX5_shift_7 : List UInt8 := dkwX5_shift_7 ++ dktX5_shift_8
def dkwX5_shift_6 : List UInt8 := [21, 6, 96, 47, 80, 132, 6, 1, 167, 255, 225, 3, 54, 6, 21, 6, 21, 5, 162, 0, 31, 42]
abbrev dktX5_shift_6 : List UInt8 := dkwX5_shift_6 ++ dktX5_shift_7
def dkwX5_shift_5 : List UInt8 := [21, 6, 21, 5, 162, 0, 30, 42, 180, 0, 130, 21, 6, 42, 180, 0, 126, 16, 60, 27, 104, 28, 96]
abbrev dktX5_shift_5 : List UInt8 := dkwX5_shift_5 ++ dktX5_shift_6
def dkwX5_shift_4 : List UInt8 := [163, 0, 17, 21, 4, 42, 180, 0, 123, 29, 46, 21, 5, 100, 164, 0, 6, 16, 243, 172, 3, 54, 6]
abbrev dktX5_shift_4 : List UInt8 := dkwX5_shift_4 ++ dktX5_shift_5
def dkwX5_shift_3 : List UInt8 := [155, 0, 39, 28, 155, 0, 35, 21, 4, 155, 0, 30, 28, 42, 180, 0, 123, 27, 46, 21, 5, 100]
abbrev dktX5_shift_3 : List UInt8 := dkwX5_shift_3 ++ dktX5_shift_4
def dkwX5_shift_2 : List UInt8 := [156, 0, 18, 42, 180, 0, 120, 27, 46, 42, 180, 0, 120, 29, 46, 159, 0, 6, 16, 244, 172, 21, 5]
abbrev dktX5_shift_2 : List UInt8 := dkwX5_shift_2 ++ dktX5_shift_3
def dkwX5_shift_1 : List UInt8 := [159, 0, 13, 42, 180, 0, 120, 29, 46, 2, 160, 0, 6, 16, 245, 172, 42, 180, 0, 120, 27, 46]
abbrev dktX5_shift_1 : List UInt8 := dkwX5_shift_1 ++ dktX5_shift_2
def dkwX5_shift_0 : List UInt8 := [27, 184, 0, 164, 153, 0, 10, 29, 184, 0, 164, 154, 0, 5, 2, 172, 42, 180, 0, 120, 27, 46, 2]
abbrev dktX5_shift_0 : List UInt8 := dkwX5_shift_0 ++ dktX5_shift_1
theorem dksX5_shift_0 : cX5_shift.data.toList.drop 0 = dktX5_shift_0 := by decide +kernel
theorem dksX5_shift_1 : cX5_shift.data.toList.drop 23 = dktX5_shift_1 := dk_seg dksX5_shift_0 23 rfl rfl
theorem dksX5_shift_2 : cX5_shift.data.toList.drop 45 = dktX5_shift_2 := dk_seg dksX5_shift_1 22 rfl rfl
theorem dksX5_shift_3 : cX5_shift.data.toList.drop 68 = dktX5_shift_3 := dk_seg dksX5_shift_2 23 rfl rfl
theorem dksX5_shift_4 : cX5_shift.data.toList.drop 90 = dktX5_shift_4 := dk_seg dksX5_shift_3 22 rfl rfl
theorem dksX5_shift_5 : cX5_shift.data.toList.drop 113 = dktX5_shift_5 := dk_seg dksX5_shift_4 23 rfl rfl
theorem dksX5_shift_6 : cX5_shift.data.toList.drop 136 = dktX5_shift_6 := dk_seg dksX5_shift_5 23 rfl rfl
theorem dksX5_shift_7 : cX5_shift.data.toList.drop 158 = dktX5_shift_7 := dk_seg dksX5_shift_6 22 rfl rfl
theorem dksX5_shift_8 : cX5_shift.data.toList.drop 182 = dktX5_shift_8 := dk_seg dksX5_shift_7 24 rfl rfl
theorem dX5_shift_0 : decode cX5_shift 0 = .ok (.iload_n 1, 1) := dk_27 (dk_at dksX5_shift_0 0 rfl rfl)
theorem dX5_shift_1 : decode cX5_shift 1 = .ok (.invokestatic 164, 3) := dk_184 0 164 (dk_at dksX5_shift_0 1 rfl rfl)
theorem dX5_shift_4 : decode cX5_shift 4 = .ok (.ifCond .eq 10, 3) := dk_153 0 10 (dk_at dksX5_shift_0 4 rfl rfl)
theorem dX5_shift_7 : decode cX5_shift 7 = .ok (.iload_n 3, 1) := dk_29 (dk_at dksX5_shift_0 7 rfl rfl)
theorem dX5_shift_8 : decode cX5_shift 8 = .ok (.invokestatic 164, 3) := dk_184 0 164 (dk_at dksX5_shift_0 8 rfl rfl)
theorem dX5_shift_11 : decode cX5_shift 11 = .ok (.ifCond .ne 5, 3) := dk_154 0 5 (dk_at dksX5_shift_0 11 rfl rfl)
theorem dX5_shift_14 : decode cX5_shift 14 = .ok (.iconst (-1), 1) := dk_2 (dk_at dksX5_shift_0 14 rfl rfl)
theorem dX5_shift_15 : decode cX5_shift 15 = .ok (.ireturn, 1) := dk_172 (dk_at dksX5_shift_0 15 rfl rfl)
theorem dX5_shift_16 : decode cX5_shift 16 = .ok (.aload_n 0, 1) := dk_42 (dk_at dksX5_shift_0 16 rfl rfl)
theorem dX5_shift_17 : decode cX5_shift 17 = .ok (.getfield 120, 3) := dk_180 0 120 (dk_at dksX5_shift_0 17 rfl rfl)
theorem dX5_shift_20 : decode cX5_shift 20 = .ok (.iload_n 1, 1) := dk_27 (dk_at dksX5_shift_0 20 rfl rfl)
theorem dX5_shift_21 : decode cX5_shift 21 = .ok (.iaload, 1) := dk_46 (dk_at dksX5_shift_0 21 rfl rfl)
theorem dX5_shift_22 : decode cX5_shift 22 = .ok (.iconst (-1), 1) := dk_2 (dk_at dksX5_shift_0 22 rfl rfl)
theorem dX5_shift_23 : decode cX5_shift 23 = .ok (.if_icmp .eq 13, 3) := dk_159 0 13 (dk_at dksX5_shift_1 0 rfl rfl)
theorem dX5_shift_26 : decode cX5_shift 26 = .ok (.aload_n 0, 1) := dk_42 (dk_at dksX5_shift_1 3 rfl rfl)
theorem dX5_shift_27 : decode cX5_shift 27 = .ok (.getfield 120, 3) := dk_180 0 120 (dk_at dksX5_shift_1 4 rfl rfl)
theorem dX5_shift_30 : decode cX5_shift 30 = .ok (.iload_n 3, 1) := dk_29 (dk_at dksX5_shift_1 7 rfl rfl)
theorem dX5_shift_31 : decode cX5_shift 31 = .ok (.iaload, 1) := dk_46 (dk_at dksX5_shift_1 8 rfl rfl)
theorem dX5_shift_32 : decode cX5_shift 32 = .ok (.iconst (-1), 1) := dk_2 (dk_at dksX5_shift_1 9 rfl rfl)
theorem dX5_shift_33 : decode cX5_shift 33 = .ok (.if_icmp .ne 6, 3) := dk_160 0 6 (dk_at dksX5_shift_1 10 rfl rfl)
theorem dX5_shift_36 : decode cX5_shift 36 = .ok (.bipush (-11), 2) := dk_16 245 (dk_at dksX5_shift_1 13 rfl rfl)
theorem dX5_shift_38 : decode cX5_shift 38 = .ok (.ireturn, 1) := dk_172 (dk_at dksX5_shift_1 15 rfl rfl)
theorem dX5_shift_39 : decode cX5_shift 39 = .ok (.aload_n 0, 1) := dk_42 (dk_at dksX5_shift_1 16 rfl rfl)
theorem dX5_shift_40 : decode cX5_shift 40 = .ok (.getfield 120, 3) := dk_180 0 120 (dk_at dksX5_shift_1 17 rfl rfl)
theorem dX5_shift_43 : decode cX5_shift 43 = .ok (.iload_n 1, 1) := dk_27 (dk_at dksX5_shift_1 20 rfl rfl)
theorem dX5_shift_44 : decode cX5_shift 44 = .ok (.iaload, 1) := dk_46 (dk_at dksX5_shift_1 21 rfl rfl)
theorem dX5_shift_45 : decode cX5_shift 45 = .ok (.ifCond .ge 18, 3) := dk_156 0 18 (dk_at dksX5_shift_2 0 rfl rfl)
theorem dX5_shift_48 : decode cX5_shift 48 = .ok (.aload_n 0, 1) := dk_42 (dk_at dksX5_shift_2 3 rfl rfl)
theorem dX5_shift_49 : decode cX5_shift 49 = .ok (.getfield 120, 3) := dk_180 0 120 (dk_at dksX5_shift_2 4 rfl rfl)
theorem dX5_shift_52 : decode cX5_shift 52 = .ok (.iload_n 1, 1) := dk_27 (dk_at dksX5_shift_2 7 rfl rfl)
theorem dX5_shift_53 : decode cX5_shift 53 = .ok (.iaload, 1) := dk_46 (dk_at dksX5_shift_2 8 rfl rfl)
theorem dX5_shift_54 : decode cX5_shift 54 = .ok (.aload_n 0, 1) := dk_42 (dk_at dksX5_shift_2 9 rfl rfl)
theorem dX5_shift_55 : decode cX5_shift 55 = .ok (.getfield 120, 3) := dk_180 0 120 (dk_at dksX5_shift_2 10 rfl rfl)
theorem dX5_shift_58 : decode cX5_shift 58 = .ok (.iload_n 3, 1) := dk_29 (dk_at dksX5_shift_2 13 rfl rfl)
theorem dX5_shift_59 : decode cX5_shift 59 = .ok (.iaload, 1) := dk_46 (dk_at dksX5_shift_2 14 rfl rfl)
theorem dX5_shift_60 : decode cX5_shift 60 = .ok (.if_icmp .eq 6, 3) := dk_159 0 6 (dk_at dksX5_shift_2 15 rfl rfl)
theorem dX5_shift_63 : decode cX5_shift 63 = .ok (.bipush (-12), 2) := dk_16 244 (dk_at dksX5_shift_2 18 rfl rfl)
theorem dX5_shift_65 : decode cX5_shift 65 = .ok (.ireturn, 1) := dk_172 (dk_at dksX5_shift_2 20 rfl rfl)
theorem dX5_shift_66 : decode cX5_shift 66 = .ok (.iload 5, 2) := dk_21 5 (dk_at dksX5_shift_2 21 rfl rfl)
theorem dX5_shift_68 : decode cX5_shift 68 = .ok (.ifCond .lt 39, 3) := dk_155 0 39 (dk_at dksX5_shift_3 0 rfl rfl)
theorem dX5_shift_71 : decode cX5_shift 71 = .ok (.iload_n 2, 1) := dk_28 (dk_at dksX5_shift_3 3 rfl rfl)
theorem dX5_shift_72 : decode cX5_shift 72 = .ok (.ifCond .lt 35, 3) := dk_155 0 35 (dk_at dksX5_shift_3 4 rfl rfl)
theorem dX5_shift_75 : decode cX5_shift 75 = .ok (.iload 4, 2) := dk_21 4 (dk_at dksX5_shift_3 7 rfl rfl)
theorem dX5_shift_77 : decode cX5_shift 77 = .ok (.ifCond .lt 30, 3) := dk_155 0 30 (dk_at dksX5_shift_3 9 rfl rfl)
theorem dX5_shift_80 : decode cX5_shift 80 = .ok (.iload_n 2, 1) := dk_28 (dk_at dksX5_shift_3 12 rfl rfl)
theorem dX5_shift_81 : decode cX5_shift 81 = .ok (.aload_n 0, 1) := dk_42 (dk_at dksX5_shift_3 13 rfl rfl)
theorem dX5_shift_82 : decode cX5_shift 82 = .ok (.getfield 123, 3) := dk_180 0 123 (dk_at dksX5_shift_3 14 rfl rfl)
theorem dX5_shift_85 : decode cX5_shift 85 = .ok (.iload_n 1, 1) := dk_27 (dk_at dksX5_shift_3 17 rfl rfl)
theorem dX5_shift_86 : decode cX5_shift 86 = .ok (.iaload, 1) := dk_46 (dk_at dksX5_shift_3 18 rfl rfl)
theorem dX5_shift_87 : decode cX5_shift 87 = .ok (.iload 5, 2) := dk_21 5 (dk_at dksX5_shift_3 19 rfl rfl)
theorem dX5_shift_89 : decode cX5_shift 89 = .ok (.isub, 1) := dk_100 (dk_at dksX5_shift_3 21 rfl rfl)
theorem dX5_shift_90 : decode cX5_shift 90 = .ok (.if_icmp .gt 17, 3) := dk_163 0 17 (dk_at dksX5_shift_4 0 rfl rfl)
theorem dX5_shift_93 : decode cX5_shift 93 = .ok (.iload 4, 2) := dk_21 4 (dk_at dksX5_shift_4 3 rfl rfl)
theorem dX5_shift_95 : decode cX5_shift 95 = .ok (.aload_n 0, 1) := dk_42 (dk_at dksX5_shift_4 5 rfl rfl)
theorem dX5_shift_96 : decode cX5_shift 96 = .ok (.getfield 123, 3) := dk_180 0 123 (dk_at dksX5_shift_4 6 rfl rfl)
theorem dX5_shift_99 : decode cX5_shift 99 = .ok (.iload_n 3, 1) := dk_29 (dk_at dksX5_shift_4 9 rfl rfl)
theorem dX5_shift_100 : decode cX5_shift 100 = .ok (.iaload, 1) := dk_46 (dk_at dksX5_shift_4 10 rfl rfl)
theorem dX5_shift_101 : decode cX5_shift 101 = .ok (.iload 5, 2) := dk_21 5 (dk_at dksX5_shift_4 11 rfl rfl)
theorem dX5_shift_103 : decode cX5_shift 103 = .ok (.isub, 1) := dk_100 (dk_at dksX5_shift_4 13 rfl rfl)
theorem dX5_shift_104 : decode cX5_shift 104 = .ok (.if_icmp .le 6, 3) := dk_164 0 6 (dk_at dksX5_shift_4 14 rfl rfl)
theorem dX5_shift_107 : decode cX5_shift 107 = .ok (.bipush (-13), 2) := dk_16 243 (dk_at dksX5_shift_4 17 rfl rfl)
theorem dX5_shift_109 : decode cX5_shift 109 = .ok (.ireturn, 1) := dk_172 (dk_at dksX5_shift_4 19 rfl rfl)
theorem dX5_shift_110 : decode cX5_shift 110 = .ok (.iconst 0, 1) := dk_3 (dk_at dksX5_shift_4 20 rfl rfl)
theorem dX5_shift_111 : decode cX5_shift 111 = .ok (.istore 6, 2) := dk_54 6 (dk_at dksX5_shift_4 21 rfl rfl)
theorem dX5_shift_113 : decode cX5_shift 113 = .ok (.iload 6, 2) := dk_21 6 (dk_at dksX5_shift_5 0 rfl rfl)
theorem dX5_shift_115 : decode cX5_shift 115 = .ok (.iload 5, 2) := dk_21 5 (dk_at dksX5_shift_5 2 rfl rfl)
theorem dX5_shift_117 : decode cX5_shift 117 = .ok (.if_icmp .ge 30, 3) := dk_162 0 30 (dk_at dksX5_shift_5 4 rfl rfl)
theorem dX5_shift_120 : decode cX5_shift 120 = .ok (.aload_n 0, 1) := dk_42 (dk_at dksX5_shift_5 7 rfl rfl)
theorem dX5_shift_121 : decode cX5_shift 121 = .ok (.getfield 130, 3) := dk_180 0 130 (dk_at dksX5_shift_5 8 rfl rfl)
theorem dX5_shift_124 : decode cX5_shift 124 = .ok (.iload 6, 2) := dk_21 6 (dk_at dksX5_shift_5 11 rfl rfl)
theorem dX5_shift_126 : decode cX5_shift 126 = .ok (.aload_n 0, 1) := dk_42 (dk_at dksX5_shift_5 13 rfl rfl)
theorem dX5_shift_127 : decode cX5_shift 127 = .ok (.getfield 126, 3) := dk_180 0 126 (dk_at dksX5_shift_5 14 rfl rfl)
theorem dX5_shift_130 : decode cX5_shift 130 = .ok (.bipush 60, 2) := dk_16 60 (dk_at dksX5_shift_5 17 rfl rfl)
theorem dX5_shift_132 : decode cX5_shift 132 = .ok (.iload_n 1, 1) := dk_27 (dk_at dksX5_shift_5 19 rfl rfl)
theorem dX5_shift_133 : decode cX5_shift 133 = .ok (.imul, 1) := dk_104 (dk_at dksX5_shift_5 20 rfl rfl)
theorem dX5_shift_134 : decode cX5_shift 134 = .ok (.iload_n 2, 1) := dk_28 (dk_at dksX5_shift_5 21 rfl rfl)
theorem dX5_shift_135 : decode cX5_shift 135 = .ok (.iadd, 1) := dk_96 (dk_at dksX5_shift_5 22 rfl rfl)
theorem dX5_shift_136 : decode cX5_shift 136 = .ok (.iload 6, 2) := dk_21 6 (dk_at dksX5_shift_6 0 rfl rfl)
theorem dX5_shift_138 : decode cX5_shift 138 = .ok (.iadd, 1) := dk_96 (dk_at dksX5_shift_6 2 rfl rfl)
theorem dX5_shift_139 : decode cX5_shift 139 = .ok (.laload, 1) := dk_47 (dk_at dksX5_shift_6 3 rfl rfl)
theorem dX5_shift_140 : decode cX5_shift 140 = .ok (.lastore, 1) := dk_80 (dk_at dksX5_shift_6 4 rfl rfl)
theorem dX5_shift_141 : decode cX5_shift 141 = .ok (.iinc 6 1, 3) := dk_132 6 1 (dk_at dksX5_shift_6 5 rfl rfl)
theorem dX5_shift_144 : decode cX5_shift 144 = .ok (.goto (-31), 3) := dk_167 255 225 (dk_at dksX5_shift_6 8 rfl rfl)
theorem dX5_shift_147 : decode cX5_shift 147 = .ok (.iconst 0, 1) := dk_3 (dk_at dksX5_shift_6 11 rfl rfl)
theorem dX5_shift_148 : decode cX5_shift 148 = .ok (.istore 6, 2) := dk_54 6 (dk_at dksX5_shift_6 12 rfl rfl)
theorem dX5_shift_150 : decode cX5_shift 150 = .ok (.iload 6, 2) := dk_21 6 (dk_at dksX5_shift_6 14 rfl rfl)
theorem dX5_shift_152 : decode cX5_shift 152 = .ok (.iload 5, 2) := dk_21 5 (dk_at dksX5_shift_6 16 rfl rfl)
theorem dX5_shift_154 : decode cX5_shift 154 = .ok (.if_icmp .ge 31, 3) := dk_162 0 31 (dk_at dksX5_shift_6 18 rfl rfl)
theorem dX5_shift_157 : decode cX5_shift 157 = .ok (.aload_n 0, 1) := dk_42 (dk_at dksX5_shift_6 21 rfl rfl)
theorem dX5_shift_158 : decode cX5_shift 158 = .ok (.getfield 126, 3) := dk_180 0 126 (dk_at dksX5_shift_7 0 rfl rfl)
theorem dX5_shift_161 : decode cX5_shift 161 = .ok (.bipush 60, 2) := dk_16 60 (dk_at dksX5_shift_7 3 rfl rfl)
theorem dX5_shift_163 : decode cX5_shift 163 = .ok (.iload_n 3, 1) := dk_29 (dk_at dksX5_shift_7 5 rfl rfl)
theorem dX5_shift_164 : decode cX5_shift 164 = .ok (.imul, 1) := dk_104 (dk_at dksX5_shift_7 6 rfl rfl)
theorem dX5_shift_165 : decode cX5_shift 165 = .ok (.iload 4, 2) := dk_21 4 (dk_at dksX5_shift_7 7 rfl rfl)
theorem dX5_shift_167 : decode cX5_shift 167 = .ok (.iadd, 1) := dk_96 (dk_at dksX5_shift_7 9 rfl rfl)
theorem dX5_shift_168 : decode cX5_shift 168 = .ok (.iload 6, 2) := dk_21 6 (dk_at dksX5_shift_7 10 rfl rfl)
theorem dX5_shift_170 : decode cX5_shift 170 = .ok (.iadd, 1) := dk_96 (dk_at dksX5_shift_7 12 rfl rfl)
theorem dX5_shift_171 : decode cX5_shift 171 = .ok (.aload_n 0, 1) := dk_42 (dk_at dksX5_shift_7 13 rfl rfl)
theorem dX5_shift_172 : decode cX5_shift 172 = .ok (.getfield 130, 3) := dk_180 0 130 (dk_at dksX5_shift_7 14 rfl rfl)
theorem dX5_shift_175 : decode cX5_shift 175 = .ok (.iload 6, 2) := dk_21 6 (dk_at dksX5_shift_7 17 rfl rfl)
theorem dX5_shift_177 : decode cX5_shift 177 = .ok (.laload, 1) := dk_47 (dk_at dksX5_shift_7 19 rfl rfl)
theorem dX5_shift_178 : decode cX5_shift 178 = .ok (.lastore, 1) := dk_80 (dk_at dksX5_shift_7 20 rfl rfl)
theorem dX5_shift_179 : decode cX5_shift 179 = .ok (.iinc 6 1, 3) := dk_132 6 1 (dk_at dksX5_shift_7 21 rfl rfl)
theorem dX5_shift_182 : decode cX5_shift 182 = .ok (.goto (-32), 3) := dk_167 255 224 (dk_at dksX5_shift_8 0 rfl rfl)
theorem dX5_shift_185 : decode cX5_shift 185 = .ok (.iload 5, 2) := dk_21 5 (dk_at dksX5_shift_8 3 rfl rfl)
theorem dX5_shift_187 : decode cX5_shift 187 = .ok (.ireturn, 1) := dk_172 (dk_at dksX5_shift_8 5 rfl rfl)
abbrev cX5_taken : ByteArray := prog_25_method_125_code
def yX5_taken : MethodName := ⟨RX5, "taken", "(II)I"⟩
def dkwX5_taken_3 : List UInt8 := [167, 0, 5, 16, 244, 172]
abbrev dktX5_taken_3 : List UInt8 := dkwX5_taken_3 ++ []
def dkwX5_taken_2 : List UInt8 := [180, 0, 120, 27, 46, 46, 28, 184, 1, 178, 153, 0, 17, 42, 180, 0, 114, 42, 180, 0, 120, 27, 46, 46]
abbrev dktX5_taken_2 : List UInt8 := dkwX5_taken_2 ++ dktX5_taken_3
def dkwX5_taken_1 : List UInt8 := [46, 2, 160, 0, 6, 16, 245, 172, 42, 180, 0, 120, 27, 46, 155, 0, 35, 42, 180, 0, 114, 42]
abbrev dktX5_taken_1 : List UInt8 := dkwX5_taken_1 ++ dktX5_taken_2
def dkwX5_taken_0 : List UInt8 := [27, 184, 0, 164, 153, 0, 13, 28, 3, 16, 7, 184, 0, 136, 154, 0, 5, 2, 172, 42, 180, 0, 120, 27]
abbrev dktX5_taken_0 : List UInt8 := dkwX5_taken_0 ++ dktX5_taken_1
theorem dksX5_taken_0 : cX5_taken.data.toList.drop 0 = dktX5_taken_0 := by decide +kernel
theorem dksX5_taken_1 : cX5_taken.data.toList.drop 24 = dktX5_taken_1 := dk_seg dksX5_taken_0 24 rfl rfl
theorem dksX5_taken_2 : cX5_taken.data.toList.drop 46 = dktX5_taken_2 := dk_seg dksX5_taken_1 22 rfl rfl
theorem dksX5_taken_3 : cX5_taken.data.toList.drop 70 = dktX5_taken_3 := dk_seg dksX5_taken_2 24 rfl rfl
theorem dX5_taken_0 : decode cX5_taken 0 = .ok (.iload_n 1, 1) := dk_27 (dk_at dksX5_taken_0 0 rfl rfl)
theorem dX5_taken_1 : decode cX5_taken 1 = .ok (.invokestatic 164, 3) := dk_184 0 164 (dk_at dksX5_taken_0 1 rfl rfl)
theorem dX5_taken_4 : decode cX5_taken 4 = .ok (.ifCond .eq 13, 3) := dk_153 0 13 (dk_at dksX5_taken_0 4 rfl rfl)
theorem dX5_taken_7 : decode cX5_taken 7 = .ok (.iload_n 2, 1) := dk_28 (dk_at dksX5_taken_0 7 rfl rfl)
theorem dX5_taken_8 : decode cX5_taken 8 = .ok (.iconst 0, 1) := dk_3 (dk_at dksX5_taken_0 8 rfl rfl)
theorem dX5_taken_9 : decode cX5_taken 9 = .ok (.bipush 7, 2) := dk_16 7 (dk_at dksX5_taken_0 9 rfl rfl)
theorem dX5_taken_11 : decode cX5_taken 11 = .ok (.invokestatic 136, 3) := dk_184 0 136 (dk_at dksX5_taken_0 11 rfl rfl)
theorem dX5_taken_14 : decode cX5_taken 14 = .ok (.ifCond .ne 5, 3) := dk_154 0 5 (dk_at dksX5_taken_0 14 rfl rfl)
theorem dX5_taken_17 : decode cX5_taken 17 = .ok (.iconst (-1), 1) := dk_2 (dk_at dksX5_taken_0 17 rfl rfl)
theorem dX5_taken_18 : decode cX5_taken 18 = .ok (.ireturn, 1) := dk_172 (dk_at dksX5_taken_0 18 rfl rfl)
theorem dX5_taken_19 : decode cX5_taken 19 = .ok (.aload_n 0, 1) := dk_42 (dk_at dksX5_taken_0 19 rfl rfl)
theorem dX5_taken_20 : decode cX5_taken 20 = .ok (.getfield 120, 3) := dk_180 0 120 (dk_at dksX5_taken_0 20 rfl rfl)
theorem dX5_taken_23 : decode cX5_taken 23 = .ok (.iload_n 1, 1) := dk_27 (dk_at dksX5_taken_0 23 rfl rfl)
theorem dX5_taken_24 : decode cX5_taken 24 = .ok (.iaload, 1) := dk_46 (dk_at dksX5_taken_1 0 rfl rfl)
theorem dX5_taken_25 : decode cX5_taken 25 = .ok (.iconst (-1), 1) := dk_2 (dk_at dksX5_taken_1 1 rfl rfl)
theorem dX5_taken_26 : decode cX5_taken 26 = .ok (.if_icmp .ne 6, 3) := dk_160 0 6 (dk_at dksX5_taken_1 2 rfl rfl)
theorem dX5_taken_29 : decode cX5_taken 29 = .ok (.bipush (-11), 2) := dk_16 245 (dk_at dksX5_taken_1 5 rfl rfl)
theorem dX5_taken_31 : decode cX5_taken 31 = .ok (.ireturn, 1) := dk_172 (dk_at dksX5_taken_1 7 rfl rfl)
theorem dX5_taken_32 : decode cX5_taken 32 = .ok (.aload_n 0, 1) := dk_42 (dk_at dksX5_taken_1 8 rfl rfl)
theorem dX5_taken_33 : decode cX5_taken 33 = .ok (.getfield 120, 3) := dk_180 0 120 (dk_at dksX5_taken_1 9 rfl rfl)
theorem dX5_taken_36 : decode cX5_taken 36 = .ok (.iload_n 1, 1) := dk_27 (dk_at dksX5_taken_1 12 rfl rfl)
theorem dX5_taken_37 : decode cX5_taken 37 = .ok (.iaload, 1) := dk_46 (dk_at dksX5_taken_1 13 rfl rfl)
theorem dX5_taken_38 : decode cX5_taken 38 = .ok (.ifCond .lt 35, 3) := dk_155 0 35 (dk_at dksX5_taken_1 14 rfl rfl)
theorem dX5_taken_41 : decode cX5_taken 41 = .ok (.aload_n 0, 1) := dk_42 (dk_at dksX5_taken_1 17 rfl rfl)
theorem dX5_taken_42 : decode cX5_taken 42 = .ok (.getfield 114, 3) := dk_180 0 114 (dk_at dksX5_taken_1 18 rfl rfl)
theorem dX5_taken_45 : decode cX5_taken 45 = .ok (.aload_n 0, 1) := dk_42 (dk_at dksX5_taken_1 21 rfl rfl)
theorem dX5_taken_46 : decode cX5_taken 46 = .ok (.getfield 120, 3) := dk_180 0 120 (dk_at dksX5_taken_2 0 rfl rfl)
theorem dX5_taken_49 : decode cX5_taken 49 = .ok (.iload_n 1, 1) := dk_27 (dk_at dksX5_taken_2 3 rfl rfl)
theorem dX5_taken_50 : decode cX5_taken 50 = .ok (.iaload, 1) := dk_46 (dk_at dksX5_taken_2 4 rfl rfl)
theorem dX5_taken_51 : decode cX5_taken 51 = .ok (.iaload, 1) := dk_46 (dk_at dksX5_taken_2 5 rfl rfl)
theorem dX5_taken_52 : decode cX5_taken 52 = .ok (.iload_n 2, 1) := dk_28 (dk_at dksX5_taken_2 6 rfl rfl)
theorem dX5_taken_53 : decode cX5_taken 53 = .ok (.invokestatic 434, 3) := dk_184 1 178 (dk_at dksX5_taken_2 7 rfl rfl)
theorem dX5_taken_56 : decode cX5_taken 56 = .ok (.ifCond .eq 17, 3) := dk_153 0 17 (dk_at dksX5_taken_2 10 rfl rfl)
theorem dX5_taken_59 : decode cX5_taken 59 = .ok (.aload_n 0, 1) := dk_42 (dk_at dksX5_taken_2 13 rfl rfl)
theorem dX5_taken_60 : decode cX5_taken 60 = .ok (.getfield 114, 3) := dk_180 0 114 (dk_at dksX5_taken_2 14 rfl rfl)
theorem dX5_taken_63 : decode cX5_taken 63 = .ok (.aload_n 0, 1) := dk_42 (dk_at dksX5_taken_2 17 rfl rfl)
theorem dX5_taken_64 : decode cX5_taken 64 = .ok (.getfield 120, 3) := dk_180 0 120 (dk_at dksX5_taken_2 18 rfl rfl)
theorem dX5_taken_67 : decode cX5_taken 67 = .ok (.iload_n 1, 1) := dk_27 (dk_at dksX5_taken_2 21 rfl rfl)
theorem dX5_taken_68 : decode cX5_taken 68 = .ok (.iaload, 1) := dk_46 (dk_at dksX5_taken_2 22 rfl rfl)
theorem dX5_taken_69 : decode cX5_taken 69 = .ok (.iaload, 1) := dk_46 (dk_at dksX5_taken_2 23 rfl rfl)
theorem dX5_taken_70 : decode cX5_taken 70 = .ok (.goto 5, 3) := dk_167 0 5 (dk_at dksX5_taken_3 0 rfl rfl)
theorem dX5_taken_73 : decode cX5_taken 73 = .ok (.bipush (-12), 2) := dk_16 244 (dk_at dksX5_taken_3 3 rfl rfl)
theorem dX5_taken_75 : decode cX5_taken 75 = .ok (.ireturn, 1) := dk_172 (dk_at dksX5_taken_3 5 rfl rfl)
theorem q121 : (Jvm.Cond.initialized "NailedByWordModel") ∈ lw_all := lw_g (lw_at lw_m1 9 rfl) rfl
theorem q1374 : (Jvm.Cond.instantiable "NailedByWordModel" (67 : Nat)) ∈ lw_all := lw_g (lw_at lw_m6 62 rfl) rfl
theorem q1376 : (Jvm.Cond.instanceMethod ({ cls := "NailedByWordModel", name := "<init>", desc := "()V" } : Jvm.MethodName)) ∈ lw_all := lw_g (lw_at lw_m6 64 rfl) rfl
theorem q1377 : (Jvm.Cond.code ({ cls := "NailedByWordModel", name := "<init>", desc := "()V" } : Jvm.MethodName) prog_25_method_1_code (1 : Nat) (Option.none : Option Jvm.ClassFile.FieldType)) ∈ lw_all := lw_g (lw_at lw_m6 65 rfl) rfl
theorem q1378 : (Jvm.Cond.methodLink "NailedByWordModel" (3 : Nat) ({ cls := "java/lang/Object", name := "<init>", desc := "()V" } : Jvm.MethodName)) ∈ lw_all := lw_g (lw_at lw_m6 66 rfl) rfl
theorem q1379 : (Jvm.Cond.fieldLink "NailedByWordModel" (140 : Nat) "NailedByWordModel" "many" "I") ∈ lw_all := lw_g (lw_at lw_m6 67 rfl) rfl
theorem q1380 : (Jvm.Cond.fieldLink "NailedByWordModel" (9 : Nat) "NailedByWordModel" "placeOf" "[I") ∈ lw_all := lw_g (lw_at lw_m6 68 rfl) rfl
theorem q1381 : (Jvm.Cond.fieldLink "NailedByWordModel" (15 : Nat) "NailedByWordModel" "bootsOf" "[I") ∈ lw_all := lw_g (lw_at lw_m6 69 rfl) rfl
theorem q1382 : (Jvm.Cond.fieldLink "NailedByWordModel" (143 : Nat) "NailedByWordModel" "promiseMany" "I") ∈ lw_all := lw_g (lw_at lw_m6 70 rfl) rfl
theorem q1383 : (Jvm.Cond.fieldLink "NailedByWordModel" (18 : Nat) "NailedByWordModel" "byOf" "[I") ∈ lw_all := lw_g (lw_at lw_m6 71 rfl) rfl
theorem q1384 : (Jvm.Cond.fieldLink "NailedByWordModel" (21 : Nat) "NailedByWordModel" "toOf" "[I") ∈ lw_all := lw_g (lw_at lw_m6 72 rfl) rfl
theorem q1385 : (Jvm.Cond.fieldLink "NailedByWordModel" (24 : Nat) "NailedByWordModel" "atOf" "[I") ∈ lw_all := lw_g (lw_at lw_m6 73 rfl) rfl
theorem q1386 : (Jvm.Cond.fieldLink "NailedByWordModel" (27 : Nat) "NailedByWordModel" "weightOf" "[I") ∈ lw_all := lw_g (lw_at lw_m6 74 rfl) rfl
theorem q1387 : (Jvm.Cond.fieldLink "NailedByWordModel" (30 : Nat) "NailedByWordModel" "fromOf" "[I") ∈ lw_all := lw_g (lw_at lw_m6 75 rfl) rfl
theorem q1388 : (Jvm.Cond.fieldLink "NailedByWordModel" (33 : Nat) "NailedByWordModel" "tillOf" "[I") ∈ lw_all := lw_g (lw_at lw_m6 76 rfl) rfl
theorem q1389 : (Jvm.Cond.fieldLink "NailedByWordModel" (36 : Nat) "NailedByWordModel" "forgotOf" "[I") ∈ lw_all := lw_g (lw_at lw_m6 77 rfl) rfl
theorem q1390 : (Jvm.Cond.fieldLink "NailedByWordModel" (39 : Nat) "NailedByWordModel" "goneOf" "[I") ∈ lw_all := lw_g (lw_at lw_m6 78 rfl) rfl
theorem q1391 : (Jvm.Cond.fieldLink "NailedByWordModel" (42 : Nat) "NailedByWordModel" "holdsFrom" "I") ∈ lw_all := lw_g (lw_at lw_m6 79 rfl) rfl
theorem q1392 : (Jvm.Cond.fieldLink "NailedByWordModel" (153 : Nat) "NailedByWordModel" "today" "I") ∈ lw_all := lw_g (lw_at lw_m6 80 rfl) rfl
theorem q1393 : (Jvm.Cond.fieldLink "NailedByWordModel" (46 : Nat) "NailedByWordModel" "ledOf" "[I") ∈ lw_all := lw_g (lw_at lw_m6 81 rfl) rfl
theorem q1394 : (Jvm.Cond.fieldLink "NailedByWordModel" (176 : Nat) "NailedByWordModel" "doneMany" "I") ∈ lw_all := lw_g (lw_at lw_m6 82 rfl) rfl
theorem q1395 : (Jvm.Cond.fieldLink "NailedByWordModel" (173 : Nat) "NailedByWordModel" "undoneMany" "I") ∈ lw_all := lw_g (lw_at lw_m6 83 rfl) rfl
theorem q1396 : (Jvm.Cond.fieldLink "NailedByWordModel" (49 : Nat) "NailedByWordModel" "changeOf" "[I") ∈ lw_all := lw_g (lw_at lw_m6 84 rfl) rfl
theorem q1397 : (Jvm.Cond.fieldLink "NailedByWordModel" (52 : Nat) "NailedByWordModel" "changeAt" "[I") ∈ lw_all := lw_g (lw_at lw_m6 85 rfl) rfl
theorem q1398 : (Jvm.Cond.fieldLink "NailedByWordModel" (55 : Nat) "NailedByWordModel" "before" "[I") ∈ lw_all := lw_g (lw_at lw_m6 86 rfl) rfl
theorem q1399 : (Jvm.Cond.fieldLink "NailedByWordModel" (58 : Nat) "NailedByWordModel" "behind" "[I") ∈ lw_all := lw_g (lw_at lw_m6 87 rfl) rfl
theorem q1400 : (Jvm.Cond.fieldLink "NailedByWordModel" (61 : Nat) "NailedByWordModel" "tape" "[B") ∈ lw_all := lw_g (lw_at lw_m6 88 rfl) rfl
theorem q1401 : (Jvm.Cond.fieldLink "NailedByWordModel" (196 : Nat) "NailedByWordModel" "taped" "I") ∈ lw_all := lw_g (lw_at lw_m6 89 rfl) rfl
theorem q1402 : (Jvm.Cond.fieldLink "NailedByWordModel" (199 : Nat) "NailedByWordModel" "here" "I") ∈ lw_all := lw_g (lw_at lw_m6 90 rfl) rfl
theorem q1403 : (Jvm.Cond.fieldLink "NailedByWordModel" (202 : Nat) "NailedByWordModel" "fault" "I") ∈ lw_all := lw_g (lw_at lw_m6 91 rfl) rfl
theorem q1404 : (Jvm.Cond.fieldLink "NailedByWordModel" (208 : Nat) "NailedByWordModel" "open" "I") ∈ lw_all := lw_g (lw_at lw_m6 92 rfl) rfl
theorem q1405 : (Jvm.Cond.fieldLink "NailedByWordModel" (205 : Nat) "NailedByWordModel" "laid" "I") ∈ lw_all := lw_g (lw_at lw_m6 93 rfl) rfl
theorem q1406 : (Jvm.Cond.fieldLink "NailedByWordModel" (65 : Nat) "NailedByWordModel" "act" "[B") ∈ lw_all := lw_g (lw_at lw_m6 94 rfl) rfl
theorem q1407 : (Jvm.Cond.fieldLink "NailedByWordModel" (68 : Nat) "NailedByWordModel" "with" "[I") ∈ lw_all := lw_g (lw_at lw_m6 95 rfl) rfl
theorem q1408 : (Jvm.Cond.fieldLink "NailedByWordModel" (71 : Nat) "NailedByWordModel" "lineMany" "[I") ∈ lw_all := lw_g (lw_at lw_m6 96 rfl) rfl
theorem q1409 : (Jvm.Cond.fieldLink "NailedByWordModel" (74 : Nat) "NailedByWordModel" "testEnd" "[S") ∈ lw_all := lw_g (lw_at lw_m6 97 rfl) rfl
theorem q1410 : (Jvm.Cond.fieldLink "NailedByWordModel" (78 : Nat) "NailedByWordModel" "lineEnd" "[S") ∈ lw_all := lw_g (lw_at lw_m6 98 rfl) rfl
theorem q1411 : (Jvm.Cond.fieldLink "NailedByWordModel" (81 : Nat) "NailedByWordModel" "facts" "[I") ∈ lw_all := lw_g (lw_at lw_m6 99 rfl) rfl
theorem q1412 : (Jvm.Cond.fieldLink "NailedByWordModel" (84 : Nat) "NailedByWordModel" "pile" "[I") ∈ lw_all := lw_g (lw_at lw_m6 100 rfl) rfl
theorem q1413 : (Jvm.Cond.fieldLink "NailedByWordModel" (263 : Nat) "NailedByWordModel" "hasLaw" "Z") ∈ lw_all := lw_g (lw_at lw_m6 101 rfl) rfl
theorem q1414 : (Jvm.Cond.fieldLink "NailedByWordModel" (300 : Nat) "NailedByWordModel" "heldDays" "I") ∈ lw_all := lw_g (lw_at lw_m6 102 rfl) rfl
theorem q1415 : (Jvm.Cond.fieldLink "NailedByWordModel" (306 : Nat) "NailedByWordModel" "keptBits" "I") ∈ lw_all := lw_g (lw_at lw_m6 103 rfl) rfl
theorem q1416 : (Jvm.Cond.fieldLink "NailedByWordModel" (87 : Nat) "NailedByWordModel" "tried" "[I") ∈ lw_all := lw_g (lw_at lw_m6 104 rfl) rfl
theorem q1417 : (Jvm.Cond.fieldLink "NailedByWordModel" (90 : Nat) "NailedByWordModel" "bestTried" "[I") ∈ lw_all := lw_g (lw_at lw_m6 105 rfl) rfl
theorem q1418 : (Jvm.Cond.fieldLink "NailedByWordModel" (321 : Nat) "NailedByWordModel" "mostKept" "I") ∈ lw_all := lw_g (lw_at lw_m6 106 rfl) rfl
theorem q1419 : (Jvm.Cond.fieldLink "NailedByWordModel" (93 : Nat) "NailedByWordModel" "rounds" "[I") ∈ lw_all := lw_g (lw_at lw_m6 107 rfl) rfl
theorem q1420 : (Jvm.Cond.fieldLink "NailedByWordModel" (96 : Nat) "NailedByWordModel" "bestRound" "[I") ∈ lw_all := lw_g (lw_at lw_m6 108 rfl) rfl
theorem q1421 : (Jvm.Cond.fieldLink "NailedByWordModel" (358 : Nat) "NailedByWordModel" "roundMany" "I") ∈ lw_all := lw_g (lw_at lw_m6 109 rfl) rfl
theorem q1422 : (Jvm.Cond.fieldLink "NailedByWordModel" (364 : Nat) "NailedByWordModel" "leastFar" "I") ∈ lw_all := lw_g (lw_at lw_m6 110 rfl) rfl
theorem q1423 : (Jvm.Cond.fieldLink "NailedByWordModel" (374 : Nat) "NailedByWordModel" "freeWays" "J") ∈ lw_all := lw_g (lw_at lw_m6 111 rfl) rfl
theorem q1424 : (Jvm.Cond.fieldLink "NailedByWordModel" (370 : Nat) "NailedByWordModel" "allWays" "J") ∈ lw_all := lw_g (lw_at lw_m6 112 rfl) rfl
theorem q1425 : (Jvm.Cond.fieldLink "NailedByWordModel" (389 : Nat) "NailedByWordModel" "man" "I") ∈ lw_all := lw_g (lw_at lw_m6 113 rfl) rfl
theorem q1426 : (Jvm.Cond.fieldLink "NailedByWordModel" (386 : Nat) "NailedByWordModel" "child" "I") ∈ lw_all := lw_g (lw_at lw_m6 114 rfl) rfl
theorem q1427 : (Jvm.Cond.fieldLink "NailedByWordModel" (395 : Nat) "NailedByWordModel" "goal" "I") ∈ lw_all := lw_g (lw_at lw_m6 115 rfl) rfl
theorem q1428 : (Jvm.Cond.fieldLink "NailedByWordModel" (409 : Nat) "NailedByWordModel" "hasImage" "Z") ∈ lw_all := lw_g (lw_at lw_m6 116 rfl) rfl
theorem q1429 : (Jvm.Cond.fieldLink "NailedByWordModel" (412 : Nat) "NailedByWordModel" "keptDay" "I") ∈ lw_all := lw_g (lw_at lw_m6 117 rfl) rfl
theorem q1430 : (Jvm.Cond.fieldLink "NailedByWordModel" (415 : Nat) "NailedByWordModel" "keptMany" "I") ∈ lw_all := lw_g (lw_at lw_m6 118 rfl) rfl
theorem q1431 : (Jvm.Cond.fieldLink "NailedByWordModel" (418 : Nat) "NailedByWordModel" "keptPromises" "I") ∈ lw_all := lw_g (lw_at lw_m6 119 rfl) rfl
theorem q1432 : (Jvm.Cond.fieldLink "NailedByWordModel" (99 : Nat) "NailedByWordModel" "keptPlaces" "[I") ∈ lw_all := lw_g (lw_at lw_m6 120 rfl) rfl
theorem q1433 : (Jvm.Cond.fieldLink "NailedByWordModel" (102 : Nat) "NailedByWordModel" "keptBoots" "[I") ∈ lw_all := lw_g (lw_at lw_m6 121 rfl) rfl
theorem q1434 : (Jvm.Cond.fieldLink "NailedByWordModel" (105 : Nat) "NailedByWordModel" "keptForgot" "[I") ∈ lw_all := lw_g (lw_at lw_m6 122 rfl) rfl
theorem q1435 : (Jvm.Cond.fieldLink "NailedByWordModel" (108 : Nat) "NailedByWordModel" "keptGone" "[I") ∈ lw_all := lw_g (lw_at lw_m6 123 rfl) rfl
theorem q1436 : (Jvm.Cond.fieldLink "NailedByWordModel" (111 : Nat) "NailedByWordModel" "keptLed" "[I") ∈ lw_all := lw_g (lw_at lw_m6 124 rfl) rfl
theorem q1437 : (Jvm.Cond.fieldLink "NailedByWordModel" (421 : Nat) "NailedByWordModel" "bodies" "I") ∈ lw_all := lw_g (lw_at lw_m6 125 rfl) rfl
theorem q1438 : (Jvm.Cond.fieldLink "NailedByWordModel" (114 : Nat) "NailedByWordModel" "kind" "[I") ∈ lw_all := lw_g (lw_at lw_m6 126 rfl) rfl
theorem q1439 : (Jvm.Cond.fieldLink "NailedByWordModel" (424 : Nat) "NailedByWordModel" "traces" "I") ∈ lw_all := lw_g (lw_at lw_m6 127 rfl) rfl
theorem q1440 : (Jvm.Cond.fieldLink "NailedByWordModel" (117 : Nat) "NailedByWordModel" "traced" "[I") ∈ lw_all := lw_g (lw_at lw_m6 128 rfl) rfl
theorem q1441 : (Jvm.Cond.fieldLink "NailedByWordModel" (120 : Nat) "NailedByWordModel" "holds" "[I") ∈ lw_all := lw_g (lw_at lw_m6 129 rfl) rfl
theorem q1442 : (Jvm.Cond.fieldLink "NailedByWordModel" (123 : Nat) "NailedByWordModel" "size" "[I") ∈ lw_all := lw_g (lw_at lw_m6 130 rfl) rfl
theorem q1443 : (Jvm.Cond.fieldLink "NailedByWordModel" (126 : Nat) "NailedByWordModel" "elements" "[J") ∈ lw_all := lw_g (lw_at lw_m6 131 rfl) rfl
theorem q1444 : (Jvm.Cond.fieldLink "NailedByWordModel" (130 : Nat) "NailedByWordModel" "shifted" "[J") ∈ lw_all := lw_g (lw_at lw_m6 132 rfl) rfl
theorem q1445 : (Jvm.Cond.lays "NailedByWordModel" "NailedByWordModel" "code" "I") ∈ lw_all := lw_g (lw_at lw_m6 133 rfl) rfl
theorem q1446 : (Jvm.Cond.soleField "NailedByWordModel" "code") ∈ lw_all := lw_g (lw_at lw_m6 134 rfl) rfl
theorem q1447 : (Jvm.Cond.lays "NailedByWordModel" "NailedByWordModel" "many" "I") ∈ lw_all := lw_g (lw_at lw_m6 135 rfl) rfl
theorem q1448 : (Jvm.Cond.soleField "NailedByWordModel" "many") ∈ lw_all := lw_g (lw_at lw_m6 136 rfl) rfl
theorem q1449 : (Jvm.Cond.laysFinal "NailedByWordModel" "NailedByWordModel" "placeOf" "[I") ∈ lw_all := lw_g (lw_at lw_m6 137 rfl) rfl
theorem q1450 : (Jvm.Cond.soleField "NailedByWordModel" "placeOf") ∈ lw_all := lw_g (lw_at lw_m6 138 rfl) rfl
theorem q1451 : (Jvm.Cond.laysFinal "NailedByWordModel" "NailedByWordModel" "bootsOf" "[I") ∈ lw_all := lw_g (lw_at lw_m6 139 rfl) rfl
theorem q1452 : (Jvm.Cond.soleField "NailedByWordModel" "bootsOf") ∈ lw_all := lw_g (lw_at lw_m6 140 rfl) rfl
theorem q1453 : (Jvm.Cond.lays "NailedByWordModel" "NailedByWordModel" "promiseMany" "I") ∈ lw_all := lw_g (lw_at lw_m6 141 rfl) rfl
theorem q1454 : (Jvm.Cond.soleField "NailedByWordModel" "promiseMany") ∈ lw_all := lw_g (lw_at lw_m6 142 rfl) rfl
theorem q1455 : (Jvm.Cond.laysFinal "NailedByWordModel" "NailedByWordModel" "byOf" "[I") ∈ lw_all := lw_g (lw_at lw_m6 143 rfl) rfl
theorem q1456 : (Jvm.Cond.soleField "NailedByWordModel" "byOf") ∈ lw_all := lw_g (lw_at lw_m6 144 rfl) rfl
theorem q1457 : (Jvm.Cond.laysFinal "NailedByWordModel" "NailedByWordModel" "toOf" "[I") ∈ lw_all := lw_g (lw_at lw_m6 145 rfl) rfl
theorem q1458 : (Jvm.Cond.soleField "NailedByWordModel" "toOf") ∈ lw_all := lw_g (lw_at lw_m6 146 rfl) rfl
theorem q1459 : (Jvm.Cond.laysFinal "NailedByWordModel" "NailedByWordModel" "atOf" "[I") ∈ lw_all := lw_g (lw_at lw_m6 147 rfl) rfl
theorem q1460 : (Jvm.Cond.soleField "NailedByWordModel" "atOf") ∈ lw_all := lw_g (lw_at lw_m6 148 rfl) rfl
theorem q1461 : (Jvm.Cond.laysFinal "NailedByWordModel" "NailedByWordModel" "weightOf" "[I") ∈ lw_all := lw_g (lw_at lw_m6 149 rfl) rfl
theorem q1462 : (Jvm.Cond.soleField "NailedByWordModel" "weightOf") ∈ lw_all := lw_g (lw_at lw_m6 150 rfl) rfl
theorem q1463 : (Jvm.Cond.laysFinal "NailedByWordModel" "NailedByWordModel" "fromOf" "[I") ∈ lw_all := lw_g (lw_at lw_m6 151 rfl) rfl
theorem q1464 : (Jvm.Cond.soleField "NailedByWordModel" "fromOf") ∈ lw_all := lw_g (lw_at lw_m6 152 rfl) rfl
theorem q1465 : (Jvm.Cond.laysFinal "NailedByWordModel" "NailedByWordModel" "tillOf" "[I") ∈ lw_all := lw_g (lw_at lw_m6 153 rfl) rfl
theorem q1466 : (Jvm.Cond.soleField "NailedByWordModel" "tillOf") ∈ lw_all := lw_g (lw_at lw_m6 154 rfl) rfl
theorem q1467 : (Jvm.Cond.laysFinal "NailedByWordModel" "NailedByWordModel" "forgotOf" "[I") ∈ lw_all := lw_g (lw_at lw_m6 155 rfl) rfl
theorem q1468 : (Jvm.Cond.soleField "NailedByWordModel" "forgotOf") ∈ lw_all := lw_g (lw_at lw_m6 156 rfl) rfl
theorem q1469 : (Jvm.Cond.laysFinal "NailedByWordModel" "NailedByWordModel" "goneOf" "[I") ∈ lw_all := lw_g (lw_at lw_m6 157 rfl) rfl
theorem q1470 : (Jvm.Cond.soleField "NailedByWordModel" "goneOf") ∈ lw_all := lw_g (lw_at lw_m6 158 rfl) rfl
theorem q1471 : (Jvm.Cond.lays "NailedByWordModel" "NailedByWordModel" "holdsFrom" "I") ∈ lw_all := lw_g (lw_at lw_m6 159 rfl) rfl
theorem q1472 : (Jvm.Cond.soleField "NailedByWordModel" "holdsFrom") ∈ lw_all := lw_g (lw_at lw_m6 160 rfl) rfl
theorem q1473 : (Jvm.Cond.lays "NailedByWordModel" "NailedByWordModel" "today" "I") ∈ lw_all := lw_g (lw_at lw_m6 161 rfl) rfl
theorem q1474 : (Jvm.Cond.soleField "NailedByWordModel" "today") ∈ lw_all := lw_g (lw_at lw_m6 162 rfl) rfl
theorem q1475 : (Jvm.Cond.laysFinal "NailedByWordModel" "NailedByWordModel" "ledOf" "[I") ∈ lw_all := lw_g (lw_at lw_m6 163 rfl) rfl
theorem q1476 : (Jvm.Cond.soleField "NailedByWordModel" "ledOf") ∈ lw_all := lw_g (lw_at lw_m6 164 rfl) rfl
theorem q1477 : (Jvm.Cond.lays "NailedByWordModel" "NailedByWordModel" "doneMany" "I") ∈ lw_all := lw_g (lw_at lw_m6 165 rfl) rfl
theorem q1478 : (Jvm.Cond.soleField "NailedByWordModel" "doneMany") ∈ lw_all := lw_g (lw_at lw_m6 166 rfl) rfl
theorem q1479 : (Jvm.Cond.lays "NailedByWordModel" "NailedByWordModel" "undoneMany" "I") ∈ lw_all := lw_g (lw_at lw_m6 167 rfl) rfl
theorem q1480 : (Jvm.Cond.soleField "NailedByWordModel" "undoneMany") ∈ lw_all := lw_g (lw_at lw_m6 168 rfl) rfl
theorem q1481 : (Jvm.Cond.laysFinal "NailedByWordModel" "NailedByWordModel" "changeOf" "[I") ∈ lw_all := lw_g (lw_at lw_m6 169 rfl) rfl
theorem q1482 : (Jvm.Cond.soleField "NailedByWordModel" "changeOf") ∈ lw_all := lw_g (lw_at lw_m6 170 rfl) rfl
theorem q1483 : (Jvm.Cond.laysFinal "NailedByWordModel" "NailedByWordModel" "changeAt" "[I") ∈ lw_all := lw_g (lw_at lw_m6 171 rfl) rfl
theorem q1484 : (Jvm.Cond.soleField "NailedByWordModel" "changeAt") ∈ lw_all := lw_g (lw_at lw_m6 172 rfl) rfl
theorem q1485 : (Jvm.Cond.laysFinal "NailedByWordModel" "NailedByWordModel" "before" "[I") ∈ lw_all := lw_g (lw_at lw_m6 173 rfl) rfl
theorem q1486 : (Jvm.Cond.soleField "NailedByWordModel" "before") ∈ lw_all := lw_g (lw_at lw_m6 174 rfl) rfl
theorem q1487 : (Jvm.Cond.laysFinal "NailedByWordModel" "NailedByWordModel" "behind" "[I") ∈ lw_all := lw_g (lw_at lw_m6 175 rfl) rfl
theorem q1488 : (Jvm.Cond.soleField "NailedByWordModel" "behind") ∈ lw_all := lw_g (lw_at lw_m6 176 rfl) rfl
theorem q1489 : (Jvm.Cond.laysFinal "NailedByWordModel" "NailedByWordModel" "tape" "[B") ∈ lw_all := lw_g (lw_at lw_m6 177 rfl) rfl
theorem q1490 : (Jvm.Cond.soleField "NailedByWordModel" "tape") ∈ lw_all := lw_g (lw_at lw_m6 178 rfl) rfl
theorem q1491 : (Jvm.Cond.lays "NailedByWordModel" "NailedByWordModel" "taped" "I") ∈ lw_all := lw_g (lw_at lw_m6 179 rfl) rfl
theorem q1492 : (Jvm.Cond.soleField "NailedByWordModel" "taped") ∈ lw_all := lw_g (lw_at lw_m6 180 rfl) rfl
theorem q1493 : (Jvm.Cond.lays "NailedByWordModel" "NailedByWordModel" "here" "I") ∈ lw_all := lw_g (lw_at lw_m6 181 rfl) rfl
theorem q1494 : (Jvm.Cond.soleField "NailedByWordModel" "here") ∈ lw_all := lw_g (lw_at lw_m6 182 rfl) rfl
theorem q1495 : (Jvm.Cond.lays "NailedByWordModel" "NailedByWordModel" "fault" "I") ∈ lw_all := lw_g (lw_at lw_m6 183 rfl) rfl
theorem q1496 : (Jvm.Cond.soleField "NailedByWordModel" "fault") ∈ lw_all := lw_g (lw_at lw_m6 184 rfl) rfl
theorem q1497 : (Jvm.Cond.lays "NailedByWordModel" "NailedByWordModel" "open" "I") ∈ lw_all := lw_g (lw_at lw_m6 185 rfl) rfl
theorem q1498 : (Jvm.Cond.soleField "NailedByWordModel" "open") ∈ lw_all := lw_g (lw_at lw_m6 186 rfl) rfl
theorem q1499 : (Jvm.Cond.lays "NailedByWordModel" "NailedByWordModel" "laid" "I") ∈ lw_all := lw_g (lw_at lw_m6 187 rfl) rfl
theorem q1500 : (Jvm.Cond.soleField "NailedByWordModel" "laid") ∈ lw_all := lw_g (lw_at lw_m6 188 rfl) rfl
theorem q1501 : (Jvm.Cond.laysFinal "NailedByWordModel" "NailedByWordModel" "act" "[B") ∈ lw_all := lw_g (lw_at lw_m6 189 rfl) rfl
theorem q1502 : (Jvm.Cond.soleField "NailedByWordModel" "act") ∈ lw_all := lw_g (lw_at lw_m6 190 rfl) rfl
theorem q1503 : (Jvm.Cond.laysFinal "NailedByWordModel" "NailedByWordModel" "with" "[I") ∈ lw_all := lw_g (lw_at lw_m6 191 rfl) rfl
theorem q1504 : (Jvm.Cond.soleField "NailedByWordModel" "with") ∈ lw_all := lw_g (lw_at lw_m6 192 rfl) rfl
theorem q1505 : (Jvm.Cond.laysFinal "NailedByWordModel" "NailedByWordModel" "lineMany" "[I") ∈ lw_all := lw_g (lw_at lw_m6 193 rfl) rfl
theorem q1506 : (Jvm.Cond.soleField "NailedByWordModel" "lineMany") ∈ lw_all := lw_g (lw_at lw_m6 194 rfl) rfl
theorem q1507 : (Jvm.Cond.laysFinal "NailedByWordModel" "NailedByWordModel" "testEnd" "[S") ∈ lw_all := lw_g (lw_at lw_m6 195 rfl) rfl
theorem q1508 : (Jvm.Cond.soleField "NailedByWordModel" "testEnd") ∈ lw_all := lw_g (lw_at lw_m6 196 rfl) rfl
theorem q1509 : (Jvm.Cond.laysFinal "NailedByWordModel" "NailedByWordModel" "lineEnd" "[S") ∈ lw_all := lw_g (lw_at lw_m6 197 rfl) rfl
theorem q1510 : (Jvm.Cond.soleField "NailedByWordModel" "lineEnd") ∈ lw_all := lw_g (lw_at lw_m6 198 rfl) rfl
theorem q1511 : (Jvm.Cond.laysFinal "NailedByWordModel" "NailedByWordModel" "facts" "[I") ∈ lw_all := lw_g (lw_at lw_m6 199 rfl) rfl
theorem q1512 : (Jvm.Cond.soleField "NailedByWordModel" "facts") ∈ lw_all := lw_g (lw_at lw_m6 200 rfl) rfl
theorem q1513 : (Jvm.Cond.laysFinal "NailedByWordModel" "NailedByWordModel" "pile" "[I") ∈ lw_all := lw_g (lw_at lw_m6 201 rfl) rfl
theorem q1514 : (Jvm.Cond.soleField "NailedByWordModel" "pile") ∈ lw_all := lw_g (lw_at lw_m6 202 rfl) rfl
theorem q1515 : (Jvm.Cond.lays "NailedByWordModel" "NailedByWordModel" "hasLaw" "Z") ∈ lw_all := lw_g (lw_at lw_m6 203 rfl) rfl
theorem q1516 : (Jvm.Cond.soleField "NailedByWordModel" "hasLaw") ∈ lw_all := lw_g (lw_at lw_m6 204 rfl) rfl
theorem q1517 : (Jvm.Cond.lays "NailedByWordModel" "NailedByWordModel" "heldDays" "I") ∈ lw_all := lw_g (lw_at lw_m6 205 rfl) rfl
theorem q1518 : (Jvm.Cond.soleField "NailedByWordModel" "heldDays") ∈ lw_all := lw_g (lw_at lw_m6 206 rfl) rfl
theorem q1519 : (Jvm.Cond.lays "NailedByWordModel" "NailedByWordModel" "keptBits" "I") ∈ lw_all := lw_g (lw_at lw_m6 207 rfl) rfl
theorem q1520 : (Jvm.Cond.soleField "NailedByWordModel" "keptBits") ∈ lw_all := lw_g (lw_at lw_m6 208 rfl) rfl
theorem q1521 : (Jvm.Cond.laysFinal "NailedByWordModel" "NailedByWordModel" "tried" "[I") ∈ lw_all := lw_g (lw_at lw_m6 209 rfl) rfl
theorem q1522 : (Jvm.Cond.soleField "NailedByWordModel" "tried") ∈ lw_all := lw_g (lw_at lw_m6 210 rfl) rfl
theorem q1523 : (Jvm.Cond.laysFinal "NailedByWordModel" "NailedByWordModel" "bestTried" "[I") ∈ lw_all := lw_g (lw_at lw_m6 211 rfl) rfl
theorem q1524 : (Jvm.Cond.soleField "NailedByWordModel" "bestTried") ∈ lw_all := lw_g (lw_at lw_m6 212 rfl) rfl
theorem q1525 : (Jvm.Cond.lays "NailedByWordModel" "NailedByWordModel" "mostKept" "I") ∈ lw_all := lw_g (lw_at lw_m6 213 rfl) rfl
theorem q1526 : (Jvm.Cond.soleField "NailedByWordModel" "mostKept") ∈ lw_all := lw_g (lw_at lw_m6 214 rfl) rfl
theorem q1527 : (Jvm.Cond.laysFinal "NailedByWordModel" "NailedByWordModel" "rounds" "[I") ∈ lw_all := lw_g (lw_at lw_m6 215 rfl) rfl
theorem q1528 : (Jvm.Cond.soleField "NailedByWordModel" "rounds") ∈ lw_all := lw_g (lw_at lw_m6 216 rfl) rfl
theorem q1529 : (Jvm.Cond.laysFinal "NailedByWordModel" "NailedByWordModel" "bestRound" "[I") ∈ lw_all := lw_g (lw_at lw_m6 217 rfl) rfl
theorem q1530 : (Jvm.Cond.soleField "NailedByWordModel" "bestRound") ∈ lw_all := lw_g (lw_at lw_m6 218 rfl) rfl
theorem q1531 : (Jvm.Cond.lays "NailedByWordModel" "NailedByWordModel" "roundMany" "I") ∈ lw_all := lw_g (lw_at lw_m6 219 rfl) rfl
theorem q1532 : (Jvm.Cond.soleField "NailedByWordModel" "roundMany") ∈ lw_all := lw_g (lw_at lw_m6 220 rfl) rfl
theorem q1533 : (Jvm.Cond.lays "NailedByWordModel" "NailedByWordModel" "leastFar" "I") ∈ lw_all := lw_g (lw_at lw_m6 221 rfl) rfl
theorem q1534 : (Jvm.Cond.soleField "NailedByWordModel" "leastFar") ∈ lw_all := lw_g (lw_at lw_m6 222 rfl) rfl
theorem q1535 : (Jvm.Cond.lays "NailedByWordModel" "NailedByWordModel" "freeWays" "J") ∈ lw_all := lw_g (lw_at lw_m6 223 rfl) rfl
theorem q1536 : (Jvm.Cond.soleField "NailedByWordModel" "freeWays") ∈ lw_all := lw_g (lw_at lw_m6 224 rfl) rfl
theorem q1537 : (Jvm.Cond.lays "NailedByWordModel" "NailedByWordModel" "allWays" "J") ∈ lw_all := lw_g (lw_at lw_m6 225 rfl) rfl
theorem q1538 : (Jvm.Cond.soleField "NailedByWordModel" "allWays") ∈ lw_all := lw_g (lw_at lw_m6 226 rfl) rfl
theorem q1539 : (Jvm.Cond.lays "NailedByWordModel" "NailedByWordModel" "man" "I") ∈ lw_all := lw_g (lw_at lw_m6 227 rfl) rfl
theorem q1540 : (Jvm.Cond.soleField "NailedByWordModel" "man") ∈ lw_all := lw_g (lw_at lw_m6 228 rfl) rfl
theorem q1541 : (Jvm.Cond.lays "NailedByWordModel" "NailedByWordModel" "child" "I") ∈ lw_all := lw_g (lw_at lw_m6 229 rfl) rfl
theorem q1542 : (Jvm.Cond.soleField "NailedByWordModel" "child") ∈ lw_all := lw_g (lw_at lw_m6 230 rfl) rfl
theorem q1543 : (Jvm.Cond.lays "NailedByWordModel" "NailedByWordModel" "goal" "I") ∈ lw_all := lw_g (lw_at lw_m6 231 rfl) rfl
theorem q1544 : (Jvm.Cond.soleField "NailedByWordModel" "goal") ∈ lw_all := lw_g (lw_at lw_m6 232 rfl) rfl
theorem q1545 : (Jvm.Cond.lays "NailedByWordModel" "NailedByWordModel" "hasImage" "Z") ∈ lw_all := lw_g (lw_at lw_m6 233 rfl) rfl
theorem q1546 : (Jvm.Cond.soleField "NailedByWordModel" "hasImage") ∈ lw_all := lw_g (lw_at lw_m6 234 rfl) rfl
theorem q1547 : (Jvm.Cond.lays "NailedByWordModel" "NailedByWordModel" "keptDay" "I") ∈ lw_all := lw_g (lw_at lw_m6 235 rfl) rfl
theorem q1548 : (Jvm.Cond.soleField "NailedByWordModel" "keptDay") ∈ lw_all := lw_g (lw_at lw_m6 236 rfl) rfl
theorem q1549 : (Jvm.Cond.lays "NailedByWordModel" "NailedByWordModel" "keptMany" "I") ∈ lw_all := lw_g (lw_at lw_m6 237 rfl) rfl
theorem q1550 : (Jvm.Cond.soleField "NailedByWordModel" "keptMany") ∈ lw_all := lw_g (lw_at lw_m6 238 rfl) rfl
theorem q1551 : (Jvm.Cond.lays "NailedByWordModel" "NailedByWordModel" "keptPromises" "I") ∈ lw_all := lw_g (lw_at lw_m6 239 rfl) rfl
theorem q1552 : (Jvm.Cond.soleField "NailedByWordModel" "keptPromises") ∈ lw_all := lw_g (lw_at lw_m7 0 rfl) rfl
theorem q1553 : (Jvm.Cond.laysFinal "NailedByWordModel" "NailedByWordModel" "keptPlaces" "[I") ∈ lw_all := lw_g (lw_at lw_m7 1 rfl) rfl
theorem q1554 : (Jvm.Cond.soleField "NailedByWordModel" "keptPlaces") ∈ lw_all := lw_g (lw_at lw_m7 2 rfl) rfl
theorem q1555 : (Jvm.Cond.laysFinal "NailedByWordModel" "NailedByWordModel" "keptBoots" "[I") ∈ lw_all := lw_g (lw_at lw_m7 3 rfl) rfl
theorem q1556 : (Jvm.Cond.soleField "NailedByWordModel" "keptBoots") ∈ lw_all := lw_g (lw_at lw_m7 4 rfl) rfl
theorem q1557 : (Jvm.Cond.laysFinal "NailedByWordModel" "NailedByWordModel" "keptForgot" "[I") ∈ lw_all := lw_g (lw_at lw_m7 5 rfl) rfl
theorem q1558 : (Jvm.Cond.soleField "NailedByWordModel" "keptForgot") ∈ lw_all := lw_g (lw_at lw_m7 6 rfl) rfl
theorem q1559 : (Jvm.Cond.laysFinal "NailedByWordModel" "NailedByWordModel" "keptGone" "[I") ∈ lw_all := lw_g (lw_at lw_m7 7 rfl) rfl
theorem q1560 : (Jvm.Cond.soleField "NailedByWordModel" "keptGone") ∈ lw_all := lw_g (lw_at lw_m7 8 rfl) rfl
theorem q1561 : (Jvm.Cond.laysFinal "NailedByWordModel" "NailedByWordModel" "keptLed" "[I") ∈ lw_all := lw_g (lw_at lw_m7 9 rfl) rfl
theorem q1562 : (Jvm.Cond.soleField "NailedByWordModel" "keptLed") ∈ lw_all := lw_g (lw_at lw_m7 10 rfl) rfl
theorem q1563 : (Jvm.Cond.lays "NailedByWordModel" "NailedByWordModel" "bodies" "I") ∈ lw_all := lw_g (lw_at lw_m7 11 rfl) rfl
theorem q1564 : (Jvm.Cond.soleField "NailedByWordModel" "bodies") ∈ lw_all := lw_g (lw_at lw_m7 12 rfl) rfl
theorem q1565 : (Jvm.Cond.laysFinal "NailedByWordModel" "NailedByWordModel" "kind" "[I") ∈ lw_all := lw_g (lw_at lw_m7 13 rfl) rfl
theorem q1566 : (Jvm.Cond.soleField "NailedByWordModel" "kind") ∈ lw_all := lw_g (lw_at lw_m7 14 rfl) rfl
theorem q1567 : (Jvm.Cond.lays "NailedByWordModel" "NailedByWordModel" "traces" "I") ∈ lw_all := lw_g (lw_at lw_m7 15 rfl) rfl
theorem q1568 : (Jvm.Cond.soleField "NailedByWordModel" "traces") ∈ lw_all := lw_g (lw_at lw_m7 16 rfl) rfl
theorem q1569 : (Jvm.Cond.laysFinal "NailedByWordModel" "NailedByWordModel" "traced" "[I") ∈ lw_all := lw_g (lw_at lw_m7 17 rfl) rfl
theorem q1570 : (Jvm.Cond.soleField "NailedByWordModel" "traced") ∈ lw_all := lw_g (lw_at lw_m7 18 rfl) rfl
theorem q1571 : (Jvm.Cond.laysFinal "NailedByWordModel" "NailedByWordModel" "holds" "[I") ∈ lw_all := lw_g (lw_at lw_m7 19 rfl) rfl
theorem q1572 : (Jvm.Cond.soleField "NailedByWordModel" "holds") ∈ lw_all := lw_g (lw_at lw_m7 20 rfl) rfl
theorem q1573 : (Jvm.Cond.laysFinal "NailedByWordModel" "NailedByWordModel" "size" "[I") ∈ lw_all := lw_g (lw_at lw_m7 21 rfl) rfl
theorem q1574 : (Jvm.Cond.soleField "NailedByWordModel" "size") ∈ lw_all := lw_g (lw_at lw_m7 22 rfl) rfl
theorem q1575 : (Jvm.Cond.laysFinal "NailedByWordModel" "NailedByWordModel" "elements" "[J") ∈ lw_all := lw_g (lw_at lw_m7 23 rfl) rfl
theorem q1576 : (Jvm.Cond.soleField "NailedByWordModel" "elements") ∈ lw_all := lw_g (lw_at lw_m7 24 rfl) rfl
theorem q1577 : (Jvm.Cond.laysFinal "NailedByWordModel" "NailedByWordModel" "shifted" "[J") ∈ lw_all := lw_g (lw_at lw_m7 25 rfl) rfl
theorem q1578 : (Jvm.Cond.soleField "NailedByWordModel" "shifted") ∈ lw_all := lw_g (lw_at lw_m7 26 rfl) rfl
theorem q1579 : (Jvm.Cond.superclass "NailedByWordModel" "java/lang/Object") ∈ lw_all := lw_g (lw_at lw_m7 27 rfl) rfl
theorem q1581 : (Jvm.Cond.instanceMethod ({ cls := "NailedByWordModel", name := "person", desc := "(I)I" } : Jvm.MethodName)) ∈ lw_all := lw_g (lw_at lw_m7 29 rfl) rfl
theorem q1582 : (Jvm.Cond.selects "NailedByWordModel" ({ cls := "NailedByWordModel", name := "person", desc := "(I)I" } : Jvm.MethodName) ({ cls := "NailedByWordModel", name := "person", desc := "(I)I" } : Jvm.MethodName)) ∈ lw_all := lw_g (lw_at lw_m7 30 rfl) rfl
theorem q1583 : (Jvm.Cond.code ({ cls := "NailedByWordModel", name := "person", desc := "(I)I" } : Jvm.MethodName) prog_25_method_10_code (2 : Nat) (Option.some Jvm.ClassFile.FieldType.int)) ∈ lw_all := lw_g (lw_at lw_m7 31 rfl) rfl
theorem q1584 : (Jvm.Cond.methodLink "NailedByWordModel" (150 : Nat) ({ cls := "NailedByWordModel", name := "isPlaceOf", desc := "(I)Z" } : Jvm.MethodName)) ∈ lw_all := lw_g (lw_at lw_m7 32 rfl) rfl
theorem q1585 : (Jvm.Cond.static ({ cls := "NailedByWordModel", name := "isPlaceOf", desc := "(I)Z" } : Jvm.MethodName)) ∈ lw_all := lw_g (lw_at lw_m7 33 rfl) rfl
theorem q1586 : (Jvm.Cond.code ({ cls := "NailedByWordModel", name := "isPlaceOf", desc := "(I)Z" } : Jvm.MethodName) prog_25_method_6_code (1 : Nat) (Option.some Jvm.ClassFile.FieldType.boolean)) ∈ lw_all := lw_g (lw_at lw_m7 34 rfl) rfl
theorem q1587 : (Jvm.Cond.methodLink "NailedByWordModel" (136 : Nat) ({ cls := "NailedByWordModel", name := "in", desc := "(III)Z" } : Jvm.MethodName)) ∈ lw_all := lw_g (lw_at lw_m7 35 rfl) rfl
theorem q1588 : (Jvm.Cond.static ({ cls := "NailedByWordModel", name := "in", desc := "(III)Z" } : Jvm.MethodName)) ∈ lw_all := lw_g (lw_at lw_m7 36 rfl) rfl
theorem q1589 : (Jvm.Cond.code ({ cls := "NailedByWordModel", name := "in", desc := "(III)Z" } : Jvm.MethodName) prog_25_method_3_code (3 : Nat) (Option.some Jvm.ClassFile.FieldType.boolean)) ∈ lw_all := lw_g (lw_at lw_m7 37 rfl) rfl
theorem q1591 : (Jvm.Cond.instanceMethod ({ cls := "NailedByWordModel", name := "promise", desc := "(II)I" } : Jvm.MethodName)) ∈ lw_all := lw_g (lw_at lw_m7 39 rfl) rfl
theorem q1592 : (Jvm.Cond.selects "NailedByWordModel" ({ cls := "NailedByWordModel", name := "promise", desc := "(II)I" } : Jvm.MethodName) ({ cls := "NailedByWordModel", name := "promise", desc := "(II)I" } : Jvm.MethodName)) ∈ lw_all := lw_g (lw_at lw_m7 40 rfl) rfl
theorem q1593 : (Jvm.Cond.code ({ cls := "NailedByWordModel", name := "promise", desc := "(II)I" } : Jvm.MethodName) prog_25_method_12_code (3 : Nat) (Option.some Jvm.ClassFile.FieldType.int)) ∈ lw_all := lw_g (lw_at lw_m7 41 rfl) rfl
theorem q1594 : (Jvm.Cond.methodLink "NailedByWordModel" (156 : Nat) ({ cls := "NailedByWordModel", name := "areTwo", desc := "(II)Z" } : Jvm.MethodName)) ∈ lw_all := lw_g (lw_at lw_m7 42 rfl) rfl
theorem q1595 : (Jvm.Cond.privateMethod ({ cls := "NailedByWordModel", name := "areTwo", desc := "(II)Z" } : Jvm.MethodName)) ∈ lw_tbl := lw_at lw_m7 43 rfl
theorem q1596 : (Jvm.Cond.instanceMethod ({ cls := "NailedByWordModel", name := "areTwo", desc := "(II)Z" } : Jvm.MethodName)) ∈ lw_all := lw_g (lw_at lw_m7 44 rfl) rfl
theorem q1597 : (Jvm.Cond.code ({ cls := "NailedByWordModel", name := "areTwo", desc := "(II)Z" } : Jvm.MethodName) prog_25_method_9_code (3 : Nat) (Option.some Jvm.ClassFile.FieldType.boolean)) ∈ lw_all := lw_g (lw_at lw_m7 45 rfl) rfl
theorem q1598 : (Jvm.Cond.methodLink "NailedByWordModel" (146 : Nat) ({ cls := "NailedByWordModel", name := "isOne", desc := "(I)Z" } : Jvm.MethodName)) ∈ lw_all := lw_g (lw_at lw_m7 46 rfl) rfl
theorem q1599 : (Jvm.Cond.privateMethod ({ cls := "NailedByWordModel", name := "isOne", desc := "(I)Z" } : Jvm.MethodName)) ∈ lw_tbl := lw_at lw_m7 47 rfl
theorem q1600 : (Jvm.Cond.instanceMethod ({ cls := "NailedByWordModel", name := "isOne", desc := "(I)Z" } : Jvm.MethodName)) ∈ lw_all := lw_g (lw_at lw_m7 48 rfl) rfl
theorem q1601 : (Jvm.Cond.code ({ cls := "NailedByWordModel", name := "isOne", desc := "(I)Z" } : Jvm.MethodName) prog_25_method_7_code (2 : Nat) (Option.some Jvm.ClassFile.FieldType.boolean)) ∈ lw_all := lw_g (lw_at lw_m7 49 rfl) rfl
theorem q1602 : (Jvm.Cond.methodLink "NailedByWordModel" (160 : Nat) ({ cls := "NailedByWordModel", name := "addPromise", desc := "(IIIII)I" } : Jvm.MethodName)) ∈ lw_all := lw_g (lw_at lw_m7 50 rfl) rfl
theorem q1603 : (Jvm.Cond.privateMethod ({ cls := "NailedByWordModel", name := "addPromise", desc := "(IIIII)I" } : Jvm.MethodName)) ∈ lw_tbl := lw_at lw_m7 51 rfl
theorem q1604 : (Jvm.Cond.instanceMethod ({ cls := "NailedByWordModel", name := "addPromise", desc := "(IIIII)I" } : Jvm.MethodName)) ∈ lw_all := lw_g (lw_at lw_m7 52 rfl) rfl
theorem q1605 : (Jvm.Cond.code ({ cls := "NailedByWordModel", name := "addPromise", desc := "(IIIII)I" } : Jvm.MethodName) prog_25_method_11_code (7 : Nat) (Option.some Jvm.ClassFile.FieldType.int)) ∈ lw_all := lw_g (lw_at lw_m7 53 rfl) rfl
theorem q1607 : (Jvm.Cond.instanceMethod ({ cls := "NailedByWordModel", name := "promises", desc := "(III)I" } : Jvm.MethodName)) ∈ lw_all := lw_g (lw_at lw_m7 55 rfl) rfl
theorem q1608 : (Jvm.Cond.selects "NailedByWordModel" ({ cls := "NailedByWordModel", name := "promises", desc := "(III)I" } : Jvm.MethodName) ({ cls := "NailedByWordModel", name := "promises", desc := "(III)I" } : Jvm.MethodName)) ∈ lw_all := lw_g (lw_at lw_m7 56 rfl) rfl
theorem q1609 : (Jvm.Cond.code ({ cls := "NailedByWordModel", name := "promises", desc := "(III)I" } : Jvm.MethodName) prog_25_method_13_code (8 : Nat) (Option.some Jvm.ClassFile.FieldType.int)) ∈ lw_all := lw_g (lw_at lw_m7 57 rfl) rfl
theorem q1610 : (Jvm.Cond.methodLink "NailedByWordModel" (164 : Nat) ({ cls := "NailedByWordModel", name := "isShelf", desc := "(I)Z" } : Jvm.MethodName)) ∈ lw_all := lw_g (lw_at lw_m7 58 rfl) rfl
theorem q1611 : (Jvm.Cond.static ({ cls := "NailedByWordModel", name := "isShelf", desc := "(I)Z" } : Jvm.MethodName)) ∈ lw_all := lw_g (lw_at lw_m7 59 rfl) rfl
theorem q1612 : (Jvm.Cond.code ({ cls := "NailedByWordModel", name := "isShelf", desc := "(I)Z" } : Jvm.MethodName) prog_25_method_118_code (1 : Nat) (Option.some Jvm.ClassFile.FieldType.boolean)) ∈ lw_all := lw_g (lw_at lw_m7 60 rfl) rfl
theorem q1613 : (Jvm.Cond.constantLong "NailedByWordModel" (167 : Nat) (4 : Int64)) ∈ lw_all := lw_g (lw_at lw_m7 61 rfl) rfl
theorem q1615 : (Jvm.Cond.instanceMethod ({ cls := "NailedByWordModel", name := "undo", desc := "()I" } : Jvm.MethodName)) ∈ lw_all := lw_g (lw_at lw_m7 63 rfl) rfl
theorem q1616 : (Jvm.Cond.selects "NailedByWordModel" ({ cls := "NailedByWordModel", name := "undo", desc := "()I" } : Jvm.MethodName) ({ cls := "NailedByWordModel", name := "undo", desc := "()I" } : Jvm.MethodName)) ∈ lw_all := lw_g (lw_at lw_m7 64 rfl) rfl
theorem q1617 : (Jvm.Cond.code ({ cls := "NailedByWordModel", name := "undo", desc := "()I" } : Jvm.MethodName) prog_25_method_17_code (1 : Nat) (Option.some Jvm.ClassFile.FieldType.int)) ∈ lw_all := lw_g (lw_at lw_m7 65 rfl) rfl
theorem q1618 : (Jvm.Cond.methodLink "NailedByWordModel" (179 : Nat) ({ cls := "NailedByWordModel", name := "lays", desc := "(III)V" } : Jvm.MethodName)) ∈ lw_all := lw_g (lw_at lw_m7 66 rfl) rfl
theorem q1619 : (Jvm.Cond.privateMethod ({ cls := "NailedByWordModel", name := "lays", desc := "(III)V" } : Jvm.MethodName)) ∈ lw_tbl := lw_at lw_m7 67 rfl
theorem q1620 : (Jvm.Cond.instanceMethod ({ cls := "NailedByWordModel", name := "lays", desc := "(III)V" } : Jvm.MethodName)) ∈ lw_all := lw_g (lw_at lw_m7 68 rfl) rfl
theorem q1621 : (Jvm.Cond.code ({ cls := "NailedByWordModel", name := "lays", desc := "(III)V" } : Jvm.MethodName) prog_25_method_15_code (4 : Nat) (Option.none : Option Jvm.ClassFile.FieldType)) ∈ lw_all := lw_g (lw_at lw_m7 69 rfl) rfl
theorem q1623 : (Jvm.Cond.instanceMethod ({ cls := "NailedByWordModel", name := "redo", desc := "()I" } : Jvm.MethodName)) ∈ lw_all := lw_g (lw_at lw_m7 71 rfl) rfl
theorem q1624 : (Jvm.Cond.selects "NailedByWordModel" ({ cls := "NailedByWordModel", name := "redo", desc := "()I" } : Jvm.MethodName) ({ cls := "NailedByWordModel", name := "redo", desc := "()I" } : Jvm.MethodName)) ∈ lw_all := lw_g (lw_at lw_m7 72 rfl) rfl
theorem q1625 : (Jvm.Cond.code ({ cls := "NailedByWordModel", name := "redo", desc := "()I" } : Jvm.MethodName) prog_25_method_18_code (1 : Nat) (Option.some Jvm.ClassFile.FieldType.int)) ∈ lw_all := lw_g (lw_at lw_m7 73 rfl) rfl
theorem q1627 : (Jvm.Cond.instanceMethod ({ cls := "NailedByWordModel", name := "mend", desc := "(III)I" } : Jvm.MethodName)) ∈ lw_all := lw_g (lw_at lw_m7 75 rfl) rfl
theorem q1628 : (Jvm.Cond.selects "NailedByWordModel" ({ cls := "NailedByWordModel", name := "mend", desc := "(III)I" } : Jvm.MethodName) ({ cls := "NailedByWordModel", name := "mend", desc := "(III)I" } : Jvm.MethodName)) ∈ lw_all := lw_g (lw_at lw_m7 76 rfl) rfl
theorem q1629 : (Jvm.Cond.code ({ cls := "NailedByWordModel", name := "mend", desc := "(III)I" } : Jvm.MethodName) prog_25_method_21_code (4 : Nat) (Option.some Jvm.ClassFile.FieldType.int)) ∈ lw_all := lw_g (lw_at lw_m7 77 rfl) rfl
theorem q1630 : (Jvm.Cond.methodLink "NailedByWordModel" (186 : Nat) ({ cls := "NailedByWordModel", name := "isPlace", desc := "(II)Z" } : Jvm.MethodName)) ∈ lw_all := lw_g (lw_at lw_m7 78 rfl) rfl
theorem q1631 : (Jvm.Cond.privateMethod ({ cls := "NailedByWordModel", name := "isPlace", desc := "(II)Z" } : Jvm.MethodName)) ∈ lw_tbl := lw_at lw_m7 79 rfl
theorem q1632 : (Jvm.Cond.instanceMethod ({ cls := "NailedByWordModel", name := "isPlace", desc := "(II)Z" } : Jvm.MethodName)) ∈ lw_all := lw_g (lw_at lw_m7 80 rfl) rfl
theorem q1633 : (Jvm.Cond.code ({ cls := "NailedByWordModel", name := "isPlace", desc := "(II)Z" } : Jvm.MethodName) prog_25_method_19_code (3 : Nat) (Option.some Jvm.ClassFile.FieldType.boolean)) ∈ lw_all := lw_g (lw_at lw_m7 81 rfl) rfl
theorem q1634 : (Jvm.Cond.methodLink "NailedByWordModel" (183 : Nat) ({ cls := "NailedByWordModel", name := "isPromise", desc := "(I)Z" } : Jvm.MethodName)) ∈ lw_all := lw_g (lw_at lw_m7 82 rfl) rfl
theorem q1635 : (Jvm.Cond.privateMethod ({ cls := "NailedByWordModel", name := "isPromise", desc := "(I)Z" } : Jvm.MethodName)) ∈ lw_tbl := lw_at lw_m7 83 rfl
theorem q1636 : (Jvm.Cond.instanceMethod ({ cls := "NailedByWordModel", name := "isPromise", desc := "(I)Z" } : Jvm.MethodName)) ∈ lw_all := lw_g (lw_at lw_m7 84 rfl) rfl
theorem q1637 : (Jvm.Cond.code ({ cls := "NailedByWordModel", name := "isPromise", desc := "(I)Z" } : Jvm.MethodName) prog_25_method_8_code (2 : Nat) (Option.some Jvm.ClassFile.FieldType.boolean)) ∈ lw_all := lw_g (lw_at lw_m7 85 rfl) rfl
theorem q1638 : (Jvm.Cond.methodLink "NailedByWordModel" (189 : Nat) ({ cls := "NailedByWordModel", name := "mayHave", desc := "(II)Z" } : Jvm.MethodName)) ∈ lw_all := lw_g (lw_at lw_m7 86 rfl) rfl
theorem q1639 : (Jvm.Cond.static ({ cls := "NailedByWordModel", name := "mayHave", desc := "(II)Z" } : Jvm.MethodName)) ∈ lw_all := lw_g (lw_at lw_m7 87 rfl) rfl
theorem q1640 : (Jvm.Cond.code ({ cls := "NailedByWordModel", name := "mayHave", desc := "(II)Z" } : Jvm.MethodName) prog_25_method_20_code (2 : Nat) (Option.some Jvm.ClassFile.FieldType.boolean)) ∈ lw_all := lw_g (lw_at lw_m7 88 rfl) rfl
theorem q1641 : (Jvm.Cond.methodLink "NailedByWordModel" (192 : Nat) ({ cls := "NailedByWordModel", name := "changes", desc := "(III)I" } : Jvm.MethodName)) ∈ lw_all := lw_g (lw_at lw_m7 89 rfl) rfl
theorem q1642 : (Jvm.Cond.privateMethod ({ cls := "NailedByWordModel", name := "changes", desc := "(III)I" } : Jvm.MethodName)) ∈ lw_tbl := lw_at lw_m7 90 rfl
theorem q1643 : (Jvm.Cond.instanceMethod ({ cls := "NailedByWordModel", name := "changes", desc := "(III)I" } : Jvm.MethodName)) ∈ lw_all := lw_g (lw_at lw_m7 91 rfl) rfl
theorem q1644 : (Jvm.Cond.code ({ cls := "NailedByWordModel", name := "changes", desc := "(III)I" } : Jvm.MethodName) prog_25_method_16_code (6 : Nat) (Option.some Jvm.ClassFile.FieldType.int)) ∈ lw_all := lw_g (lw_at lw_m7 92 rfl) rfl
theorem q1645 : (Jvm.Cond.methodLink "NailedByWordModel" (169 : Nat) ({ cls := "NailedByWordModel", name := "valueAt", desc := "(II)I" } : Jvm.MethodName)) ∈ lw_all := lw_g (lw_at lw_m7 93 rfl) rfl
theorem q1646 : (Jvm.Cond.privateMethod ({ cls := "NailedByWordModel", name := "valueAt", desc := "(II)I" } : Jvm.MethodName)) ∈ lw_tbl := lw_at lw_m7 94 rfl
theorem q1647 : (Jvm.Cond.instanceMethod ({ cls := "NailedByWordModel", name := "valueAt", desc := "(II)I" } : Jvm.MethodName)) ∈ lw_all := lw_g (lw_at lw_m7 95 rfl) rfl
theorem q1648 : (Jvm.Cond.code ({ cls := "NailedByWordModel", name := "valueAt", desc := "(II)I" } : Jvm.MethodName) prog_25_method_14_code (3 : Nat) (Option.some Jvm.ClassFile.FieldType.int)) ∈ lw_all := lw_g (lw_at lw_m7 96 rfl) rfl
theorem q1650 : (Jvm.Cond.instanceMethod ({ cls := "NailedByWordModel", name := "of", desc := "(II)I" } : Jvm.MethodName)) ∈ lw_all := lw_g (lw_at lw_m7 98 rfl) rfl
theorem q1651 : (Jvm.Cond.selects "NailedByWordModel" ({ cls := "NailedByWordModel", name := "of", desc := "(II)I" } : Jvm.MethodName) ({ cls := "NailedByWordModel", name := "of", desc := "(II)I" } : Jvm.MethodName)) ∈ lw_all := lw_g (lw_at lw_m7 99 rfl) rfl
theorem q1652 : (Jvm.Cond.code ({ cls := "NailedByWordModel", name := "of", desc := "(II)I" } : Jvm.MethodName) prog_25_method_22_code (3 : Nat) (Option.some Jvm.ClassFile.FieldType.int)) ∈ lw_all := lw_g (lw_at lw_m7 100 rfl) rfl
theorem q1654 : (Jvm.Cond.instanceMethod ({ cls := "NailedByWordModel", name := "feed", desc := "(I)I" } : Jvm.MethodName)) ∈ lw_all := lw_g (lw_at lw_m7 102 rfl) rfl
theorem q1655 : (Jvm.Cond.selects "NailedByWordModel" ({ cls := "NailedByWordModel", name := "feed", desc := "(I)I" } : Jvm.MethodName) ({ cls := "NailedByWordModel", name := "feed", desc := "(I)I" } : Jvm.MethodName)) ∈ lw_all := lw_g (lw_at lw_m7 103 rfl) rfl
theorem q1656 : (Jvm.Cond.code ({ cls := "NailedByWordModel", name := "feed", desc := "(I)I" } : Jvm.MethodName) prog_25_method_23_code (2 : Nat) (Option.some Jvm.ClassFile.FieldType.int)) ∈ lw_all := lw_g (lw_at lw_m7 104 rfl) rfl
theorem q1658 : (Jvm.Cond.instanceMethod ({ cls := "NailedByWordModel", name := "law", desc := "()I" } : Jvm.MethodName)) ∈ lw_all := lw_g (lw_at lw_m7 106 rfl) rfl
theorem q1659 : (Jvm.Cond.selects "NailedByWordModel" ({ cls := "NailedByWordModel", name := "law", desc := "()I" } : Jvm.MethodName) ({ cls := "NailedByWordModel", name := "law", desc := "()I" } : Jvm.MethodName)) ∈ lw_all := lw_g (lw_at lw_m7 107 rfl) rfl
theorem q1660 : (Jvm.Cond.code ({ cls := "NailedByWordModel", name := "law", desc := "()I" } : Jvm.MethodName) prog_25_method_41_code (2 : Nat) (Option.some Jvm.ClassFile.FieldType.int)) ∈ lw_all := lw_g (lw_at lw_m7 108 rfl) rfl
theorem q1661 : (Jvm.Cond.methodLink "NailedByWordModel" (260 : Nat) ({ cls := "NailedByWordModel", name := "readText", desc := "(I)I" } : Jvm.MethodName)) ∈ lw_all := lw_g (lw_at lw_m7 109 rfl) rfl
theorem q1662 : (Jvm.Cond.privateMethod ({ cls := "NailedByWordModel", name := "readText", desc := "(I)I" } : Jvm.MethodName)) ∈ lw_tbl := lw_at lw_m7 110 rfl
theorem q1663 : (Jvm.Cond.instanceMethod ({ cls := "NailedByWordModel", name := "readText", desc := "(I)I" } : Jvm.MethodName)) ∈ lw_all := lw_g (lw_at lw_m7 111 rfl) rfl
theorem q1664 : (Jvm.Cond.code ({ cls := "NailedByWordModel", name := "readText", desc := "(I)I" } : Jvm.MethodName) prog_25_method_37_code (3 : Nat) (Option.some Jvm.ClassFile.FieldType.int)) ∈ lw_all := lw_g (lw_at lw_m7 112 rfl) rfl
theorem q1665 : (Jvm.Cond.methodLink "NailedByWordModel" (251 : Nat) ({ cls := "NailedByWordModel", name := "line", desc := "()V" } : Jvm.MethodName)) ∈ lw_all := lw_g (lw_at lw_m7 113 rfl) rfl
theorem q1666 : (Jvm.Cond.privateMethod ({ cls := "NailedByWordModel", name := "line", desc := "()V" } : Jvm.MethodName)) ∈ lw_tbl := lw_at lw_m7 114 rfl
theorem q1667 : (Jvm.Cond.instanceMethod ({ cls := "NailedByWordModel", name := "line", desc := "()V" } : Jvm.MethodName)) ∈ lw_all := lw_g (lw_at lw_m7 115 rfl) rfl
theorem q1668 : (Jvm.Cond.code ({ cls := "NailedByWordModel", name := "line", desc := "()V" } : Jvm.MethodName) prog_25_method_36_code (2 : Nat) (Option.none : Option Jvm.ClassFile.FieldType)) ∈ lw_all := lw_g (lw_at lw_m7 116 rfl) rfl
theorem q1669 : (Jvm.Cond.methodLink "NailedByWordModel" (233 : Nat) ({ cls := "NailedByWordModel", name := "either", desc := "()V" } : Jvm.MethodName)) ∈ lw_all := lw_g (lw_at lw_m7 117 rfl) rfl
theorem q1670 : (Jvm.Cond.privateMethod ({ cls := "NailedByWordModel", name := "either", desc := "()V" } : Jvm.MethodName)) ∈ lw_tbl := lw_at lw_m7 118 rfl
theorem q1671 : (Jvm.Cond.instanceMethod ({ cls := "NailedByWordModel", name := "either", desc := "()V" } : Jvm.MethodName)) ∈ lw_all := lw_g (lw_at lw_m7 119 rfl) rfl
theorem q1672 : (Jvm.Cond.code ({ cls := "NailedByWordModel", name := "either", desc := "()V" } : Jvm.MethodName) prog_25_method_35_code (1 : Nat) (Option.none : Option Jvm.ClassFile.FieldType)) ∈ lw_all := lw_g (lw_at lw_m7 120 rfl) rfl
theorem q1673 : (Jvm.Cond.methodLink "NailedByWordModel" (248 : Nat) ({ cls := "NailedByWordModel", name := "both", desc := "()V" } : Jvm.MethodName)) ∈ lw_all := lw_g (lw_at lw_m7 121 rfl) rfl
theorem q1674 : (Jvm.Cond.privateMethod ({ cls := "NailedByWordModel", name := "both", desc := "()V" } : Jvm.MethodName)) ∈ lw_tbl := lw_at lw_m7 122 rfl
theorem q1675 : (Jvm.Cond.instanceMethod ({ cls := "NailedByWordModel", name := "both", desc := "()V" } : Jvm.MethodName)) ∈ lw_all := lw_g (lw_at lw_m7 123 rfl) rfl
theorem q1676 : (Jvm.Cond.code ({ cls := "NailedByWordModel", name := "both", desc := "()V" } : Jvm.MethodName) prog_25_method_34_code (1 : Nat) (Option.none : Option Jvm.ClassFile.FieldType)) ∈ lw_all := lw_g (lw_at lw_m7 124 rfl) rfl
theorem q1677 : (Jvm.Cond.methodLink "NailedByWordModel" (245 : Nat) ({ cls := "NailedByWordModel", name := "compared", desc := "()V" } : Jvm.MethodName)) ∈ lw_all := lw_g (lw_at lw_m7 125 rfl) rfl
theorem q1678 : (Jvm.Cond.privateMethod ({ cls := "NailedByWordModel", name := "compared", desc := "()V" } : Jvm.MethodName)) ∈ lw_tbl := lw_at lw_m7 126 rfl
theorem q1679 : (Jvm.Cond.instanceMethod ({ cls := "NailedByWordModel", name := "compared", desc := "()V" } : Jvm.MethodName)) ∈ lw_all := lw_g (lw_at lw_m7 127 rfl) rfl
theorem q1680 : (Jvm.Cond.code ({ cls := "NailedByWordModel", name := "compared", desc := "()V" } : Jvm.MethodName) prog_25_method_33_code (2 : Nat) (Option.none : Option Jvm.ClassFile.FieldType)) ∈ lw_all := lw_g (lw_at lw_m7 128 rfl) rfl
theorem q1681 : (Jvm.Cond.methodLink "NailedByWordModel" (242 : Nat) ({ cls := "NailedByWordModel", name := "sum", desc := "()V" } : Jvm.MethodName)) ∈ lw_all := lw_g (lw_at lw_m7 129 rfl) rfl
theorem q1682 : (Jvm.Cond.privateMethod ({ cls := "NailedByWordModel", name := "sum", desc := "()V" } : Jvm.MethodName)) ∈ lw_tbl := lw_at lw_m7 130 rfl
theorem q1683 : (Jvm.Cond.instanceMethod ({ cls := "NailedByWordModel", name := "sum", desc := "()V" } : Jvm.MethodName)) ∈ lw_all := lw_g (lw_at lw_m7 131 rfl) rfl
theorem q1684 : (Jvm.Cond.code ({ cls := "NailedByWordModel", name := "sum", desc := "()V" } : Jvm.MethodName) prog_25_method_32_code (2 : Nat) (Option.none : Option Jvm.ClassFile.FieldType)) ∈ lw_all := lw_g (lw_at lw_m7 132 rfl) rfl
theorem q1685 : (Jvm.Cond.methodLink "NailedByWordModel" (239 : Nat) ({ cls := "NailedByWordModel", name := "product", desc := "()V" } : Jvm.MethodName)) ∈ lw_all := lw_g (lw_at lw_m7 133 rfl) rfl
theorem q1686 : (Jvm.Cond.privateMethod ({ cls := "NailedByWordModel", name := "product", desc := "()V" } : Jvm.MethodName)) ∈ lw_tbl := lw_at lw_m7 134 rfl
theorem q1687 : (Jvm.Cond.instanceMethod ({ cls := "NailedByWordModel", name := "product", desc := "()V" } : Jvm.MethodName)) ∈ lw_all := lw_g (lw_at lw_m7 135 rfl) rfl
theorem q1688 : (Jvm.Cond.code ({ cls := "NailedByWordModel", name := "product", desc := "()V" } : Jvm.MethodName) prog_25_method_31_code (2 : Nat) (Option.none : Option Jvm.ClassFile.FieldType)) ∈ lw_all := lw_g (lw_at lw_m7 136 rfl) rfl
theorem q1689 : (Jvm.Cond.methodLink "NailedByWordModel" (230 : Nat) ({ cls := "NailedByWordModel", name := "operand", desc := "()V" } : Jvm.MethodName)) ∈ lw_all := lw_g (lw_at lw_m7 137 rfl) rfl
theorem q1690 : (Jvm.Cond.privateMethod ({ cls := "NailedByWordModel", name := "operand", desc := "()V" } : Jvm.MethodName)) ∈ lw_tbl := lw_at lw_m7 138 rfl
theorem q1691 : (Jvm.Cond.instanceMethod ({ cls := "NailedByWordModel", name := "operand", desc := "()V" } : Jvm.MethodName)) ∈ lw_all := lw_g (lw_at lw_m7 139 rfl) rfl
theorem q1692 : (Jvm.Cond.code ({ cls := "NailedByWordModel", name := "operand", desc := "()V" } : Jvm.MethodName) prog_25_method_30_code (2 : Nat) (Option.none : Option Jvm.ClassFile.FieldType)) ∈ lw_all := lw_g (lw_at lw_m7 140 rfl) rfl
theorem q1693 : (Jvm.Cond.methodLink "NailedByWordModel" (214 : Nat) ({ cls := "NailedByWordModel", name := "look", desc := "()I" } : Jvm.MethodName)) ∈ lw_all := lw_g (lw_at lw_m7 141 rfl) rfl
theorem q1694 : (Jvm.Cond.privateMethod ({ cls := "NailedByWordModel", name := "look", desc := "()I" } : Jvm.MethodName)) ∈ lw_tbl := lw_at lw_m7 142 rfl
theorem q1695 : (Jvm.Cond.instanceMethod ({ cls := "NailedByWordModel", name := "look", desc := "()I" } : Jvm.MethodName)) ∈ lw_all := lw_g (lw_at lw_m7 143 rfl) rfl
theorem q1696 : (Jvm.Cond.code ({ cls := "NailedByWordModel", name := "look", desc := "()I" } : Jvm.MethodName) prog_25_method_24_code (1 : Nat) (Option.some Jvm.ClassFile.FieldType.int)) ∈ lw_all := lw_g (lw_at lw_m7 144 rfl) rfl
theorem q1697 : (Jvm.Cond.methodLink "NailedByWordModel" (222 : Nat) ({ cls := "NailedByWordModel", name := "nameOf", desc := "(I)I" } : Jvm.MethodName)) ∈ lw_all := lw_g (lw_at lw_m7 145 rfl) rfl
theorem q1698 : (Jvm.Cond.static ({ cls := "NailedByWordModel", name := "nameOf", desc := "(I)I" } : Jvm.MethodName)) ∈ lw_all := lw_g (lw_at lw_m7 146 rfl) rfl
theorem q1699 : (Jvm.Cond.code ({ cls := "NailedByWordModel", name := "nameOf", desc := "(I)I" } : Jvm.MethodName) prog_25_method_27_code (1 : Nat) (Option.some Jvm.ClassFile.FieldType.int)) ∈ lw_all := lw_g (lw_at lw_m7 147 rfl) rfl
theorem q1700 : (Jvm.Cond.methodLink "NailedByWordModel" (218 : Nat) ({ cls := "NailedByWordModel", name := "addStep", desc := "(II)V" } : Jvm.MethodName)) ∈ lw_all := lw_g (lw_at lw_m7 148 rfl) rfl
theorem q1701 : (Jvm.Cond.privateMethod ({ cls := "NailedByWordModel", name := "addStep", desc := "(II)V" } : Jvm.MethodName)) ∈ lw_tbl := lw_at lw_m7 149 rfl
theorem q1702 : (Jvm.Cond.instanceMethod ({ cls := "NailedByWordModel", name := "addStep", desc := "(II)V" } : Jvm.MethodName)) ∈ lw_all := lw_g (lw_at lw_m7 150 rfl) rfl
theorem q1703 : (Jvm.Cond.code ({ cls := "NailedByWordModel", name := "addStep", desc := "(II)V" } : Jvm.MethodName) prog_25_method_26_code (3 : Nat) (Option.none : Option Jvm.ClassFile.FieldType)) ∈ lw_all := lw_g (lw_at lw_m7 151 rfl) rfl
theorem q1704 : (Jvm.Cond.methodLink "NailedByWordModel" (226 : Nat) ({ cls := "NailedByWordModel", name := "opens", desc := "()Z" } : Jvm.MethodName)) ∈ lw_all := lw_g (lw_at lw_m7 152 rfl) rfl
theorem q1705 : (Jvm.Cond.privateMethod ({ cls := "NailedByWordModel", name := "opens", desc := "()Z" } : Jvm.MethodName)) ∈ lw_tbl := lw_at lw_m7 153 rfl
theorem q1706 : (Jvm.Cond.instanceMethod ({ cls := "NailedByWordModel", name := "opens", desc := "()Z" } : Jvm.MethodName)) ∈ lw_all := lw_g (lw_at lw_m7 154 rfl) rfl
theorem q1707 : (Jvm.Cond.code ({ cls := "NailedByWordModel", name := "opens", desc := "()Z" } : Jvm.MethodName) prog_25_method_28_code (1 : Nat) (Option.some Jvm.ClassFile.FieldType.boolean)) ∈ lw_all := lw_g (lw_at lw_m7 155 rfl) rfl
theorem q1708 : (Jvm.Cond.methodLink "NailedByWordModel" (211 : Nat) ({ cls := "NailedByWordModel", name := "wrong", desc := "()V" } : Jvm.MethodName)) ∈ lw_all := lw_g (lw_at lw_m7 156 rfl) rfl
theorem q1709 : (Jvm.Cond.privateMethod ({ cls := "NailedByWordModel", name := "wrong", desc := "()V" } : Jvm.MethodName)) ∈ lw_tbl := lw_at lw_m7 157 rfl
theorem q1710 : (Jvm.Cond.instanceMethod ({ cls := "NailedByWordModel", name := "wrong", desc := "()V" } : Jvm.MethodName)) ∈ lw_all := lw_g (lw_at lw_m7 158 rfl) rfl
theorem q1711 : (Jvm.Cond.code ({ cls := "NailedByWordModel", name := "wrong", desc := "()V" } : Jvm.MethodName) prog_25_method_25_code (1 : Nat) (Option.none : Option Jvm.ClassFile.FieldType)) ∈ lw_all := lw_g (lw_at lw_m7 159 rfl) rfl
theorem q1712 : (Jvm.Cond.methodLink "NailedByWordModel" (236 : Nat) ({ cls := "NailedByWordModel", name := "figure", desc := "()V" } : Jvm.MethodName)) ∈ lw_all := lw_g (lw_at lw_m7 160 rfl) rfl
theorem q1713 : (Jvm.Cond.privateMethod ({ cls := "NailedByWordModel", name := "figure", desc := "()V" } : Jvm.MethodName)) ∈ lw_tbl := lw_at lw_m7 161 rfl
theorem q1714 : (Jvm.Cond.instanceMethod ({ cls := "NailedByWordModel", name := "figure", desc := "()V" } : Jvm.MethodName)) ∈ lw_all := lw_g (lw_at lw_m7 162 rfl) rfl
theorem q1715 : (Jvm.Cond.code ({ cls := "NailedByWordModel", name := "figure", desc := "()V" } : Jvm.MethodName) prog_25_method_29_code (3 : Nat) (Option.none : Option Jvm.ClassFile.FieldType)) ∈ lw_all := lw_g (lw_at lw_m7 163 rfl) rfl
theorem q1717 : (Jvm.Cond.instanceMethod ({ cls := "NailedByWordModel", name := "hard", desc := "(I)I" } : Jvm.MethodName)) ∈ lw_all := lw_g (lw_at lw_m7 165 rfl) rfl
theorem q1718 : (Jvm.Cond.selects "NailedByWordModel" ({ cls := "NailedByWordModel", name := "hard", desc := "(I)I" } : Jvm.MethodName) ({ cls := "NailedByWordModel", name := "hard", desc := "(I)I" } : Jvm.MethodName)) ∈ lw_all := lw_g (lw_at lw_m7 166 rfl) rfl
theorem q1719 : (Jvm.Cond.code ({ cls := "NailedByWordModel", name := "hard", desc := "(I)I" } : Jvm.MethodName) prog_25_method_45_code (2 : Nat) (Option.some Jvm.ClassFile.FieldType.int)) ∈ lw_all := lw_g (lw_at lw_m7 167 rfl) rfl
theorem q1720 : (Jvm.Cond.methodLink "NailedByWordModel" (276 : Nat) ({ cls := "NailedByWordModel", name := "hardOn", desc := "(II)I" } : Jvm.MethodName)) ∈ lw_all := lw_g (lw_at lw_m7 168 rfl) rfl
theorem q1721 : (Jvm.Cond.privateMethod ({ cls := "NailedByWordModel", name := "hardOn", desc := "(II)I" } : Jvm.MethodName)) ∈ lw_tbl := lw_at lw_m7 169 rfl
theorem q1722 : (Jvm.Cond.instanceMethod ({ cls := "NailedByWordModel", name := "hardOn", desc := "(II)I" } : Jvm.MethodName)) ∈ lw_all := lw_g (lw_at lw_m7 170 rfl) rfl
theorem q1723 : (Jvm.Cond.code ({ cls := "NailedByWordModel", name := "hardOn", desc := "(II)I" } : Jvm.MethodName) prog_25_method_44_code (5 : Nat) (Option.some Jvm.ClassFile.FieldType.int)) ∈ lw_all := lw_g (lw_at lw_m7 171 rfl) rfl
theorem q1724 : (Jvm.Cond.methodLink "NailedByWordModel" (270 : Nat) ({ cls := "NailedByWordModel", name := "othersWith", desc := "(II)I" } : Jvm.MethodName)) ∈ lw_all := lw_g (lw_at lw_m7 172 rfl) rfl
theorem q1725 : (Jvm.Cond.privateMethod ({ cls := "NailedByWordModel", name := "othersWith", desc := "(II)I" } : Jvm.MethodName)) ∈ lw_tbl := lw_at lw_m7 173 rfl
theorem q1726 : (Jvm.Cond.instanceMethod ({ cls := "NailedByWordModel", name := "othersWith", desc := "(II)I" } : Jvm.MethodName)) ∈ lw_all := lw_g (lw_at lw_m7 174 rfl) rfl
theorem q1727 : (Jvm.Cond.code ({ cls := "NailedByWordModel", name := "othersWith", desc := "(II)I" } : Jvm.MethodName) prog_25_method_43_code (5 : Nat) (Option.some Jvm.ClassFile.FieldType.int)) ∈ lw_all := lw_g (lw_at lw_m7 175 rfl) rfl
theorem q1728 : (Jvm.Cond.methodLink "NailedByWordModel" (267 : Nat) ({ cls := "NailedByWordModel", name := "isOn", desc := "(II)Z" } : Jvm.MethodName)) ∈ lw_all := lw_g (lw_at lw_m7 176 rfl) rfl
theorem q1729 : (Jvm.Cond.privateMethod ({ cls := "NailedByWordModel", name := "isOn", desc := "(II)Z" } : Jvm.MethodName)) ∈ lw_tbl := lw_at lw_m7 177 rfl
theorem q1730 : (Jvm.Cond.instanceMethod ({ cls := "NailedByWordModel", name := "isOn", desc := "(II)Z" } : Jvm.MethodName)) ∈ lw_all := lw_g (lw_at lw_m7 178 rfl) rfl
theorem q1731 : (Jvm.Cond.code ({ cls := "NailedByWordModel", name := "isOn", desc := "(II)Z" } : Jvm.MethodName) prog_25_method_42_code (3 : Nat) (Option.some Jvm.ClassFile.FieldType.boolean)) ∈ lw_all := lw_g (lw_at lw_m7 179 rfl) rfl
theorem q1732 : (Jvm.Cond.methodLink "NailedByWordModel" (273 : Nat) ({ cls := "NailedByWordModel", name := "gives", desc := "(I)I" } : Jvm.MethodName)) ∈ lw_all := lw_g (lw_at lw_m7 180 rfl) rfl
theorem q1733 : (Jvm.Cond.privateMethod ({ cls := "NailedByWordModel", name := "gives", desc := "(I)I" } : Jvm.MethodName)) ∈ lw_tbl := lw_at lw_m7 181 rfl
theorem q1734 : (Jvm.Cond.instanceMethod ({ cls := "NailedByWordModel", name := "gives", desc := "(I)I" } : Jvm.MethodName)) ∈ lw_all := lw_g (lw_at lw_m7 182 rfl) rfl
theorem q1735 : (Jvm.Cond.code ({ cls := "NailedByWordModel", name := "gives", desc := "(I)I" } : Jvm.MethodName) prog_25_method_40_code (4 : Nat) (Option.some Jvm.ClassFile.FieldType.int)) ∈ lw_all := lw_g (lw_at lw_m7 183 rfl) rfl
theorem q1736 : (Jvm.Cond.methodLink "NailedByWordModel" (257 : Nat) ({ cls := "NailedByWordModel", name := "worked", desc := "(III)I" } : Jvm.MethodName)) ∈ lw_all := lw_g (lw_at lw_m7 184 rfl) rfl
theorem q1737 : (Jvm.Cond.privateMethod ({ cls := "NailedByWordModel", name := "worked", desc := "(III)I" } : Jvm.MethodName)) ∈ lw_tbl := lw_at lw_m7 185 rfl
theorem q1738 : (Jvm.Cond.instanceMethod ({ cls := "NailedByWordModel", name := "worked", desc := "(III)I" } : Jvm.MethodName)) ∈ lw_all := lw_g (lw_at lw_m7 186 rfl) rfl
theorem q1739 : (Jvm.Cond.code ({ cls := "NailedByWordModel", name := "worked", desc := "(III)I" } : Jvm.MethodName) prog_25_method_39_code (7 : Nat) (Option.some Jvm.ClassFile.FieldType.int)) ∈ lw_all := lw_g (lw_at lw_m7 187 rfl) rfl
theorem q1740 : (Jvm.Cond.methodLink "NailedByWordModel" (254 : Nat) ({ cls := "NailedByWordModel", name := "twoOf", desc := "(III)I" } : Jvm.MethodName)) ∈ lw_all := lw_g (lw_at lw_m7 188 rfl) rfl
theorem q1741 : (Jvm.Cond.static ({ cls := "NailedByWordModel", name := "twoOf", desc := "(III)I" } : Jvm.MethodName)) ∈ lw_all := lw_g (lw_at lw_m7 189 rfl) rfl
theorem q1742 : (Jvm.Cond.code ({ cls := "NailedByWordModel", name := "twoOf", desc := "(III)I" } : Jvm.MethodName) prog_25_method_38_code (3 : Nat) (Option.some Jvm.ClassFile.FieldType.int)) ∈ lw_all := lw_g (lw_at lw_m7 190 rfl) rfl
theorem q1744 : (Jvm.Cond.instanceMethod ({ cls := "NailedByWordModel", name := "held", desc := "(II)I" } : Jvm.MethodName)) ∈ lw_all := lw_g (lw_at lw_m7 192 rfl) rfl
theorem q1745 : (Jvm.Cond.selects "NailedByWordModel" ({ cls := "NailedByWordModel", name := "held", desc := "(II)I" } : Jvm.MethodName) ({ cls := "NailedByWordModel", name := "held", desc := "(II)I" } : Jvm.MethodName)) ∈ lw_all := lw_g (lw_at lw_m7 193 rfl) rfl
theorem q1746 : (Jvm.Cond.code ({ cls := "NailedByWordModel", name := "held", desc := "(II)I" } : Jvm.MethodName) prog_25_method_50_code (3 : Nat) (Option.some Jvm.ClassFile.FieldType.int)) ∈ lw_all := lw_g (lw_at lw_m7 194 rfl) rfl
theorem q1747 : (Jvm.Cond.methodLink "NailedByWordModel" (282 : Nat) ({ cls := "NailedByWordModel", name := "heldBy", desc := "(III)I" } : Jvm.MethodName)) ∈ lw_all := lw_g (lw_at lw_m7 195 rfl) rfl
theorem q1748 : (Jvm.Cond.privateMethod ({ cls := "NailedByWordModel", name := "heldBy", desc := "(III)I" } : Jvm.MethodName)) ∈ lw_tbl := lw_at lw_m7 196 rfl
theorem q1749 : (Jvm.Cond.instanceMethod ({ cls := "NailedByWordModel", name := "heldBy", desc := "(III)I" } : Jvm.MethodName)) ∈ lw_all := lw_g (lw_at lw_m7 197 rfl) rfl
theorem q1750 : (Jvm.Cond.code ({ cls := "NailedByWordModel", name := "heldBy", desc := "(III)I" } : Jvm.MethodName) prog_25_method_47_code (6 : Nat) (Option.some Jvm.ClassFile.FieldType.int)) ∈ lw_all := lw_g (lw_at lw_m7 198 rfl) rfl
theorem q1751 : (Jvm.Cond.methodLink "NailedByWordModel" (279 : Nat) ({ cls := "NailedByWordModel", name := "holdsAt", desc := "(III)Z" } : Jvm.MethodName)) ∈ lw_all := lw_g (lw_at lw_m7 199 rfl) rfl
theorem q1752 : (Jvm.Cond.privateMethod ({ cls := "NailedByWordModel", name := "holdsAt", desc := "(III)Z" } : Jvm.MethodName)) ∈ lw_tbl := lw_at lw_m7 200 rfl
theorem q1753 : (Jvm.Cond.instanceMethod ({ cls := "NailedByWordModel", name := "holdsAt", desc := "(III)Z" } : Jvm.MethodName)) ∈ lw_all := lw_g (lw_at lw_m7 201 rfl) rfl
theorem q1754 : (Jvm.Cond.code ({ cls := "NailedByWordModel", name := "holdsAt", desc := "(III)Z" } : Jvm.MethodName) prog_25_method_46_code (4 : Nat) (Option.some Jvm.ClassFile.FieldType.boolean)) ∈ lw_all := lw_g (lw_at lw_m7 202 rfl) rfl
theorem q1755 : (Jvm.Cond.methodLink "NailedByWordModel" (285 : Nat) ({ cls := "NailedByWordModel", name := "hardestNow", desc := "(I)I" } : Jvm.MethodName)) ∈ lw_all := lw_g (lw_at lw_m7 203 rfl) rfl
theorem q1756 : (Jvm.Cond.privateMethod ({ cls := "NailedByWordModel", name := "hardestNow", desc := "(I)I" } : Jvm.MethodName)) ∈ lw_tbl := lw_at lw_m7 204 rfl
theorem q1757 : (Jvm.Cond.instanceMethod ({ cls := "NailedByWordModel", name := "hardestNow", desc := "(I)I" } : Jvm.MethodName)) ∈ lw_all := lw_g (lw_at lw_m7 205 rfl) rfl
theorem q1758 : (Jvm.Cond.code ({ cls := "NailedByWordModel", name := "hardestNow", desc := "(I)I" } : Jvm.MethodName) prog_25_method_49_code (4 : Nat) (Option.some Jvm.ClassFile.FieldType.int)) ∈ lw_all := lw_g (lw_at lw_m7 206 rfl) rfl
theorem q1760 : (Jvm.Cond.instanceMethod ({ cls := "NailedByWordModel", name := "route", desc := "(IIII)I" } : Jvm.MethodName)) ∈ lw_all := lw_g (lw_at lw_m7 208 rfl) rfl
theorem q1761 : (Jvm.Cond.selects "NailedByWordModel" ({ cls := "NailedByWordModel", name := "route", desc := "(IIII)I" } : Jvm.MethodName) ({ cls := "NailedByWordModel", name := "route", desc := "(IIII)I" } : Jvm.MethodName)) ∈ lw_all := lw_g (lw_at lw_m7 209 rfl) rfl
theorem q1762 : (Jvm.Cond.code ({ cls := "NailedByWordModel", name := "route", desc := "(IIII)I" } : Jvm.MethodName) prog_25_method_58_code (8 : Nat) (Option.some Jvm.ClassFile.FieldType.int)) ∈ lw_all := lw_g (lw_at lw_m7 210 rfl) rfl
theorem q1763 : (Jvm.Cond.methodLink "NailedByWordModel" (294 : Nat) ({ cls := "NailedByWordModel", name := "rowFault", desc := "(I)I" } : Jvm.MethodName)) ∈ lw_all := lw_g (lw_at lw_m7 211 rfl) rfl
theorem q1764 : (Jvm.Cond.privateMethod ({ cls := "NailedByWordModel", name := "rowFault", desc := "(I)I" } : Jvm.MethodName)) ∈ lw_tbl := lw_at lw_m7 212 rfl
theorem q1765 : (Jvm.Cond.instanceMethod ({ cls := "NailedByWordModel", name := "rowFault", desc := "(I)I" } : Jvm.MethodName)) ∈ lw_all := lw_g (lw_at lw_m7 213 rfl) rfl
theorem q1766 : (Jvm.Cond.code ({ cls := "NailedByWordModel", name := "rowFault", desc := "(I)I" } : Jvm.MethodName) prog_25_method_53_code (2 : Nat) (Option.some Jvm.ClassFile.FieldType.int)) ∈ lw_all := lw_g (lw_at lw_m7 214 rfl) rfl
theorem q1767 : (Jvm.Cond.methodLink "NailedByWordModel" (297 : Nat) ({ cls := "NailedByWordModel", name := "stepsOf", desc := "(I)I" } : Jvm.MethodName)) ∈ lw_all := lw_g (lw_at lw_m7 215 rfl) rfl
theorem q1768 : (Jvm.Cond.privateMethod ({ cls := "NailedByWordModel", name := "stepsOf", desc := "(I)I" } : Jvm.MethodName)) ∈ lw_tbl := lw_at lw_m7 216 rfl
theorem q1769 : (Jvm.Cond.instanceMethod ({ cls := "NailedByWordModel", name := "stepsOf", desc := "(I)I" } : Jvm.MethodName)) ∈ lw_all := lw_g (lw_at lw_m7 217 rfl) rfl
theorem q1770 : (Jvm.Cond.code ({ cls := "NailedByWordModel", name := "stepsOf", desc := "(I)I" } : Jvm.MethodName) prog_25_method_55_code (3 : Nat) (Option.some Jvm.ClassFile.FieldType.int)) ∈ lw_all := lw_g (lw_at lw_m7 218 rfl) rfl
theorem q1771 : (Jvm.Cond.methodLink "NailedByWordModel" (288 : Nat) ({ cls := "NailedByWordModel", name := "at", desc := "(II)I" } : Jvm.MethodName)) ∈ lw_all := lw_g (lw_at lw_m7 219 rfl) rfl
theorem q1772 : (Jvm.Cond.privateMethod ({ cls := "NailedByWordModel", name := "at", desc := "(II)I" } : Jvm.MethodName)) ∈ lw_tbl := lw_at lw_m7 220 rfl
theorem q1773 : (Jvm.Cond.instanceMethod ({ cls := "NailedByWordModel", name := "at", desc := "(II)I" } : Jvm.MethodName)) ∈ lw_all := lw_g (lw_at lw_m7 221 rfl) rfl
theorem q1774 : (Jvm.Cond.code ({ cls := "NailedByWordModel", name := "at", desc := "(II)I" } : Jvm.MethodName) prog_25_method_54_code (3 : Nat) (Option.some Jvm.ClassFile.FieldType.int)) ∈ lw_all := lw_g (lw_at lw_m7 222 rfl) rfl
theorem q1775 : (Jvm.Cond.methodLink "NailedByWordModel" (303 : Nat) ({ cls := "NailedByWordModel", name := "keptAt", desc := "(III)I" } : Jvm.MethodName)) ∈ lw_all := lw_g (lw_at lw_m7 223 rfl) rfl
theorem q1776 : (Jvm.Cond.privateMethod ({ cls := "NailedByWordModel", name := "keptAt", desc := "(III)I" } : Jvm.MethodName)) ∈ lw_tbl := lw_at lw_m7 224 rfl
theorem q1777 : (Jvm.Cond.instanceMethod ({ cls := "NailedByWordModel", name := "keptAt", desc := "(III)I" } : Jvm.MethodName)) ∈ lw_all := lw_g (lw_at lw_m7 225 rfl) rfl
theorem q1778 : (Jvm.Cond.code ({ cls := "NailedByWordModel", name := "keptAt", desc := "(III)I" } : Jvm.MethodName) prog_25_method_56_code (6 : Nat) (Option.some Jvm.ClassFile.FieldType.int)) ∈ lw_all := lw_g (lw_at lw_m7 226 rfl) rfl
theorem q1779 : (Jvm.Cond.methodLink "NailedByWordModel" (309 : Nat) ({ cls := "NailedByWordModel", name := "dayOn", desc := "(I)I" } : Jvm.MethodName)) ∈ lw_all := lw_g (lw_at lw_m7 227 rfl) rfl
theorem q1780 : (Jvm.Cond.privateMethod ({ cls := "NailedByWordModel", name := "dayOn", desc := "(I)I" } : Jvm.MethodName)) ∈ lw_tbl := lw_at lw_m7 228 rfl
theorem q1781 : (Jvm.Cond.instanceMethod ({ cls := "NailedByWordModel", name := "dayOn", desc := "(I)I" } : Jvm.MethodName)) ∈ lw_all := lw_g (lw_at lw_m7 229 rfl) rfl
theorem q1782 : (Jvm.Cond.code ({ cls := "NailedByWordModel", name := "dayOn", desc := "(I)I" } : Jvm.MethodName) prog_25_method_52_code (2 : Nat) (Option.some Jvm.ClassFile.FieldType.int)) ∈ lw_all := lw_g (lw_at lw_m7 230 rfl) rfl
theorem q1783 : (Jvm.Cond.methodLink "NailedByWordModel" (312 : Nat) ({ cls := "NailedByWordModel", name := "isHeld", desc := "(III)Z" } : Jvm.MethodName)) ∈ lw_all := lw_g (lw_at lw_m7 231 rfl) rfl
theorem q1784 : (Jvm.Cond.privateMethod ({ cls := "NailedByWordModel", name := "isHeld", desc := "(III)Z" } : Jvm.MethodName)) ∈ lw_tbl := lw_at lw_m7 232 rfl
theorem q1785 : (Jvm.Cond.instanceMethod ({ cls := "NailedByWordModel", name := "isHeld", desc := "(III)Z" } : Jvm.MethodName)) ∈ lw_all := lw_g (lw_at lw_m7 233 rfl) rfl
theorem q1786 : (Jvm.Cond.code ({ cls := "NailedByWordModel", name := "isHeld", desc := "(III)Z" } : Jvm.MethodName) prog_25_method_48_code (4 : Nat) (Option.some Jvm.ClassFile.FieldType.boolean)) ∈ lw_all := lw_g (lw_at lw_m7 234 rfl) rfl
theorem q1787 : (Jvm.Cond.methodLink "NailedByWordModel" (315 : Nat) ({ cls := "NailedByWordModel", name := "stepped", desc := "(II)I" } : Jvm.MethodName)) ∈ lw_all := lw_g (lw_at lw_m7 235 rfl) rfl
theorem q1788 : (Jvm.Cond.static ({ cls := "NailedByWordModel", name := "stepped", desc := "(II)I" } : Jvm.MethodName)) ∈ lw_all := lw_g (lw_at lw_m7 236 rfl) rfl
theorem q1789 : (Jvm.Cond.code ({ cls := "NailedByWordModel", name := "stepped", desc := "(II)I" } : Jvm.MethodName) prog_25_method_51_code (4 : Nat) (Option.some Jvm.ClassFile.FieldType.int)) ∈ lw_all := lw_g (lw_at lw_m7 237 rfl) rfl
theorem q1790 : (Jvm.Cond.methodLink "NailedByWordModel" (318 : Nat) ({ cls := "NailedByWordModel", name := "weightsOf", desc := "(I)I" } : Jvm.MethodName)) ∈ lw_all := lw_g (lw_at lw_m7 238 rfl) rfl
theorem q1791 : (Jvm.Cond.privateMethod ({ cls := "NailedByWordModel", name := "weightsOf", desc := "(I)I" } : Jvm.MethodName)) ∈ lw_tbl := lw_at lw_m7 239 rfl
theorem q1792 : (Jvm.Cond.instanceMethod ({ cls := "NailedByWordModel", name := "weightsOf", desc := "(I)I" } : Jvm.MethodName)) ∈ lw_all := lw_g (lw_at lw_m8 0 rfl) rfl
theorem q1793 : (Jvm.Cond.code ({ cls := "NailedByWordModel", name := "weightsOf", desc := "(I)I" } : Jvm.MethodName) prog_25_method_57_code (4 : Nat) (Option.some Jvm.ClassFile.FieldType.int)) ∈ lw_all := lw_g (lw_at lw_m8 1 rfl) rfl
theorem q1794 : (Jvm.Cond.methodLink "NailedByWordModel" (291 : Nat) ({ cls := "NailedByWordModel", name := "has", desc := "(II)Z" } : Jvm.MethodName)) ∈ lw_all := lw_g (lw_at lw_m8 2 rfl) rfl
theorem q1795 : (Jvm.Cond.static ({ cls := "NailedByWordModel", name := "has", desc := "(II)Z" } : Jvm.MethodName)) ∈ lw_all := lw_g (lw_at lw_m8 3 rfl) rfl
theorem q1796 : (Jvm.Cond.code ({ cls := "NailedByWordModel", name := "has", desc := "(II)Z" } : Jvm.MethodName) prog_25_method_4_code (2 : Nat) (Option.some Jvm.ClassFile.FieldType.boolean)) ∈ lw_all := lw_g (lw_at lw_m8 4 rfl) rfl
theorem q1798 : (Jvm.Cond.instanceMethod ({ cls := "NailedByWordModel", name := "best", desc := "(III)I" } : Jvm.MethodName)) ∈ lw_all := lw_g (lw_at lw_m8 6 rfl) rfl
theorem q1799 : (Jvm.Cond.selects "NailedByWordModel" ({ cls := "NailedByWordModel", name := "best", desc := "(III)I" } : Jvm.MethodName) ({ cls := "NailedByWordModel", name := "best", desc := "(III)I" } : Jvm.MethodName)) ∈ lw_all := lw_g (lw_at lw_m8 7 rfl) rfl
theorem q1800 : (Jvm.Cond.code ({ cls := "NailedByWordModel", name := "best", desc := "(III)I" } : Jvm.MethodName) prog_25_method_60_code (4 : Nat) (Option.some Jvm.ClassFile.FieldType.int)) ∈ lw_all := lw_g (lw_at lw_m8 8 rfl) rfl
theorem q1801 : (Jvm.Cond.methodLink "NailedByWordModel" (324 : Nat) ({ cls := "NailedByWordModel", name := "goBest", desc := "(IIIII)V" } : Jvm.MethodName)) ∈ lw_all := lw_g (lw_at lw_m8 9 rfl) rfl
theorem q1802 : (Jvm.Cond.privateMethod ({ cls := "NailedByWordModel", name := "goBest", desc := "(IIIII)V" } : Jvm.MethodName)) ∈ lw_tbl := lw_at lw_m8 10 rfl
theorem q1803 : (Jvm.Cond.instanceMethod ({ cls := "NailedByWordModel", name := "goBest", desc := "(IIIII)V" } : Jvm.MethodName)) ∈ lw_all := lw_g (lw_at lw_m8 11 rfl) rfl
theorem q1804 : (Jvm.Cond.code ({ cls := "NailedByWordModel", name := "goBest", desc := "(IIIII)V" } : Jvm.MethodName) prog_25_method_59_code (9 : Nat) (Option.none : Option Jvm.ClassFile.FieldType)) ∈ lw_all := lw_g (lw_at lw_m8 12 rfl) rfl
theorem q1806 : (Jvm.Cond.instanceMethod ({ cls := "NailedByWordModel", name := "soonest", desc := "(II)I" } : Jvm.MethodName)) ∈ lw_all := lw_g (lw_at lw_m8 14 rfl) rfl
theorem q1807 : (Jvm.Cond.selects "NailedByWordModel" ({ cls := "NailedByWordModel", name := "soonest", desc := "(II)I" } : Jvm.MethodName) ({ cls := "NailedByWordModel", name := "soonest", desc := "(II)I" } : Jvm.MethodName)) ∈ lw_all := lw_g (lw_at lw_m8 15 rfl) rfl
theorem q1808 : (Jvm.Cond.code ({ cls := "NailedByWordModel", name := "soonest", desc := "(II)I" } : Jvm.MethodName) prog_25_method_62_code (5 : Nat) (Option.some Jvm.ClassFile.FieldType.int)) ∈ lw_all := lw_g (lw_at lw_m8 16 rfl) rfl
theorem q1809 : (Jvm.Cond.methodLink "NailedByWordModel" (328 : Nat) ({ cls := "NailedByWordModel", name := "dayFrom", desc := "(III)I" } : Jvm.MethodName)) ∈ lw_all := lw_g (lw_at lw_m8 17 rfl) rfl
theorem q1810 : (Jvm.Cond.privateMethod ({ cls := "NailedByWordModel", name := "dayFrom", desc := "(III)I" } : Jvm.MethodName)) ∈ lw_tbl := lw_at lw_m8 18 rfl
theorem q1811 : (Jvm.Cond.instanceMethod ({ cls := "NailedByWordModel", name := "dayFrom", desc := "(III)I" } : Jvm.MethodName)) ∈ lw_all := lw_g (lw_at lw_m8 19 rfl) rfl
theorem q1812 : (Jvm.Cond.code ({ cls := "NailedByWordModel", name := "dayFrom", desc := "(III)I" } : Jvm.MethodName) prog_25_method_61_code (7 : Nat) (Option.some Jvm.ClassFile.FieldType.int)) ∈ lw_all := lw_g (lw_at lw_m8 20 rfl) rfl
theorem q1814 : (Jvm.Cond.instanceMethod ({ cls := "NailedByWordModel", name := "free", desc := "(I)I" } : Jvm.MethodName)) ∈ lw_all := lw_g (lw_at lw_m8 22 rfl) rfl
theorem q1815 : (Jvm.Cond.selects "NailedByWordModel" ({ cls := "NailedByWordModel", name := "free", desc := "(I)I" } : Jvm.MethodName) ({ cls := "NailedByWordModel", name := "free", desc := "(I)I" } : Jvm.MethodName)) ∈ lw_all := lw_g (lw_at lw_m8 23 rfl) rfl
theorem q1816 : (Jvm.Cond.code ({ cls := "NailedByWordModel", name := "free", desc := "(I)I" } : Jvm.MethodName) prog_25_method_63_code (4 : Nat) (Option.some Jvm.ClassFile.FieldType.int)) ∈ lw_all := lw_g (lw_at lw_m8 24 rfl) rfl
theorem q1818 : (Jvm.Cond.instanceMethod ({ cls := "NailedByWordModel", name := "words", desc := "(II)I" } : Jvm.MethodName)) ∈ lw_all := lw_g (lw_at lw_m8 26 rfl) rfl
theorem q1819 : (Jvm.Cond.selects "NailedByWordModel" ({ cls := "NailedByWordModel", name := "words", desc := "(II)I" } : Jvm.MethodName) ({ cls := "NailedByWordModel", name := "words", desc := "(II)I" } : Jvm.MethodName)) ∈ lw_all := lw_g (lw_at lw_m8 27 rfl) rfl
theorem q1820 : (Jvm.Cond.code ({ cls := "NailedByWordModel", name := "words", desc := "(II)I" } : Jvm.MethodName) prog_25_method_66_code (6 : Nat) (Option.some Jvm.ClassFile.FieldType.int)) ∈ lw_all := lw_g (lw_at lw_m8 28 rfl) rfl
theorem q1821 : (Jvm.Cond.methodLink "NailedByWordModel" (331 : Nat) ({ cls := "NailedByWordModel", name := "hereOf", desc := "(I)I" } : Jvm.MethodName)) ∈ lw_all := lw_g (lw_at lw_m8 29 rfl) rfl
theorem q1822 : (Jvm.Cond.privateMethod ({ cls := "NailedByWordModel", name := "hereOf", desc := "(I)I" } : Jvm.MethodName)) ∈ lw_tbl := lw_at lw_m8 30 rfl
theorem q1823 : (Jvm.Cond.instanceMethod ({ cls := "NailedByWordModel", name := "hereOf", desc := "(I)I" } : Jvm.MethodName)) ∈ lw_all := lw_g (lw_at lw_m8 31 rfl) rfl
theorem q1824 : (Jvm.Cond.code ({ cls := "NailedByWordModel", name := "hereOf", desc := "(I)I" } : Jvm.MethodName) prog_25_method_64_code (2 : Nat) (Option.some Jvm.ClassFile.FieldType.int)) ∈ lw_all := lw_g (lw_at lw_m8 32 rfl) rfl
theorem q1825 : (Jvm.Cond.methodLink "NailedByWordModel" (334 : Nat) ({ cls := "NailedByWordModel", name := "bitsOf", desc := "(I)I" } : Jvm.MethodName)) ∈ lw_all := lw_g (lw_at lw_m8 33 rfl) rfl
theorem q1826 : (Jvm.Cond.static ({ cls := "NailedByWordModel", name := "bitsOf", desc := "(I)I" } : Jvm.MethodName)) ∈ lw_all := lw_g (lw_at lw_m8 34 rfl) rfl
theorem q1827 : (Jvm.Cond.code ({ cls := "NailedByWordModel", name := "bitsOf", desc := "(I)I" } : Jvm.MethodName) prog_25_method_5_code (3 : Nat) (Option.some Jvm.ClassFile.FieldType.int)) ∈ lw_all := lw_g (lw_at lw_m8 35 rfl) rfl
theorem q1828 : (Jvm.Cond.methodLink "NailedByWordModel" (337 : Nat) ({ cls := "NailedByWordModel", name := "freesBy", desc := "(III)Z" } : Jvm.MethodName)) ∈ lw_all := lw_g (lw_at lw_m8 36 rfl) rfl
theorem q1829 : (Jvm.Cond.privateMethod ({ cls := "NailedByWordModel", name := "freesBy", desc := "(III)Z" } : Jvm.MethodName)) ∈ lw_tbl := lw_at lw_m8 37 rfl
theorem q1830 : (Jvm.Cond.instanceMethod ({ cls := "NailedByWordModel", name := "freesBy", desc := "(III)Z" } : Jvm.MethodName)) ∈ lw_all := lw_g (lw_at lw_m8 38 rfl) rfl
theorem q1831 : (Jvm.Cond.code ({ cls := "NailedByWordModel", name := "freesBy", desc := "(III)Z" } : Jvm.MethodName) prog_25_method_65_code (7 : Nat) (Option.some Jvm.ClassFile.FieldType.boolean)) ∈ lw_all := lw_g (lw_at lw_m8 39 rfl) rfl
theorem q1833 : (Jvm.Cond.instanceMethod ({ cls := "NailedByWordModel", name := "breaks", desc := "(II)I" } : Jvm.MethodName)) ∈ lw_all := lw_g (lw_at lw_m8 41 rfl) rfl
theorem q1834 : (Jvm.Cond.selects "NailedByWordModel" ({ cls := "NailedByWordModel", name := "breaks", desc := "(II)I" } : Jvm.MethodName) ({ cls := "NailedByWordModel", name := "breaks", desc := "(II)I" } : Jvm.MethodName)) ∈ lw_all := lw_g (lw_at lw_m8 42 rfl) rfl
theorem q1835 : (Jvm.Cond.code ({ cls := "NailedByWordModel", name := "breaks", desc := "(II)I" } : Jvm.MethodName) prog_25_method_67_code (6 : Nat) (Option.some Jvm.ClassFile.FieldType.int)) ∈ lw_all := lw_g (lw_at lw_m8 43 rfl) rfl
theorem q1837 : (Jvm.Cond.instanceMethod ({ cls := "NailedByWordModel", name := "all", desc := "(I)I" } : Jvm.MethodName)) ∈ lw_all := lw_g (lw_at lw_m8 45 rfl) rfl
theorem q1838 : (Jvm.Cond.selects "NailedByWordModel" ({ cls := "NailedByWordModel", name := "all", desc := "(I)I" } : Jvm.MethodName) ({ cls := "NailedByWordModel", name := "all", desc := "(I)I" } : Jvm.MethodName)) ∈ lw_all := lw_g (lw_at lw_m8 46 rfl) rfl
theorem q1839 : (Jvm.Cond.code ({ cls := "NailedByWordModel", name := "all", desc := "(I)I" } : Jvm.MethodName) prog_25_method_71_code (4 : Nat) (Option.some Jvm.ClassFile.FieldType.int)) ∈ lw_all := lw_g (lw_at lw_m8 47 rfl) rfl
theorem q1840 : (Jvm.Cond.methodLink "NailedByWordModel" (346 : Nat) ({ cls := "NailedByWordModel", name := "allFree", desc := "(I)Z" } : Jvm.MethodName)) ∈ lw_all := lw_g (lw_at lw_m8 48 rfl) rfl
theorem q1841 : (Jvm.Cond.privateMethod ({ cls := "NailedByWordModel", name := "allFree", desc := "(I)Z" } : Jvm.MethodName)) ∈ lw_tbl := lw_at lw_m8 49 rfl
theorem q1842 : (Jvm.Cond.instanceMethod ({ cls := "NailedByWordModel", name := "allFree", desc := "(I)Z" } : Jvm.MethodName)) ∈ lw_all := lw_g (lw_at lw_m8 50 rfl) rfl
theorem q1843 : (Jvm.Cond.code ({ cls := "NailedByWordModel", name := "allFree", desc := "(I)Z" } : Jvm.MethodName) prog_25_method_70_code (5 : Nat) (Option.some Jvm.ClassFile.FieldType.boolean)) ∈ lw_all := lw_g (lw_at lw_m8 51 rfl) rfl
theorem q1844 : (Jvm.Cond.methodLink "NailedByWordModel" (340 : Nat) ({ cls := "NailedByWordModel", name := "promisedTo", desc := "(I)I" } : Jvm.MethodName)) ∈ lw_all := lw_g (lw_at lw_m8 52 rfl) rfl
theorem q1845 : (Jvm.Cond.privateMethod ({ cls := "NailedByWordModel", name := "promisedTo", desc := "(I)I" } : Jvm.MethodName)) ∈ lw_tbl := lw_at lw_m8 53 rfl
theorem q1846 : (Jvm.Cond.instanceMethod ({ cls := "NailedByWordModel", name := "promisedTo", desc := "(I)I" } : Jvm.MethodName)) ∈ lw_all := lw_g (lw_at lw_m8 54 rfl) rfl
theorem q1847 : (Jvm.Cond.code ({ cls := "NailedByWordModel", name := "promisedTo", desc := "(I)I" } : Jvm.MethodName) prog_25_method_69_code (4 : Nat) (Option.some Jvm.ClassFile.FieldType.int)) ∈ lw_all := lw_g (lw_at lw_m8 55 rfl) rfl
theorem q1848 : (Jvm.Cond.methodLink "NailedByWordModel" (343 : Nat) ({ cls := "NailedByWordModel", name := "nobodyHeld", desc := "()Z" } : Jvm.MethodName)) ∈ lw_all := lw_g (lw_at lw_m8 56 rfl) rfl
theorem q1849 : (Jvm.Cond.privateMethod ({ cls := "NailedByWordModel", name := "nobodyHeld", desc := "()Z" } : Jvm.MethodName)) ∈ lw_tbl := lw_at lw_m8 57 rfl
theorem q1850 : (Jvm.Cond.instanceMethod ({ cls := "NailedByWordModel", name := "nobodyHeld", desc := "()Z" } : Jvm.MethodName)) ∈ lw_all := lw_g (lw_at lw_m8 58 rfl) rfl
theorem q1851 : (Jvm.Cond.code ({ cls := "NailedByWordModel", name := "nobodyHeld", desc := "()Z" } : Jvm.MethodName) prog_25_method_68_code (2 : Nat) (Option.some Jvm.ClassFile.FieldType.boolean)) ∈ lw_all := lw_g (lw_at lw_m8 59 rfl) rfl
theorem q1853 : (Jvm.Cond.instanceMethod ({ cls := "NailedByWordModel", name := "ring", desc := "()I" } : Jvm.MethodName)) ∈ lw_all := lw_g (lw_at lw_m8 61 rfl) rfl
theorem q1854 : (Jvm.Cond.selects "NailedByWordModel" ({ cls := "NailedByWordModel", name := "ring", desc := "()I" } : Jvm.MethodName) ({ cls := "NailedByWordModel", name := "ring", desc := "()I" } : Jvm.MethodName)) ∈ lw_all := lw_g (lw_at lw_m8 62 rfl) rfl
theorem q1855 : (Jvm.Cond.code ({ cls := "NailedByWordModel", name := "ring", desc := "()I" } : Jvm.MethodName) prog_25_method_73_code (5 : Nat) (Option.some Jvm.ClassFile.FieldType.int)) ∈ lw_all := lw_g (lw_at lw_m8 63 rfl) rfl
theorem q1856 : (Jvm.Cond.methodLink "NailedByWordModel" (349 : Nat) ({ cls := "NailedByWordModel", name := "heldToward", desc := "(I)I" } : Jvm.MethodName)) ∈ lw_all := lw_g (lw_at lw_m8 64 rfl) rfl
theorem q1857 : (Jvm.Cond.privateMethod ({ cls := "NailedByWordModel", name := "heldToward", desc := "(I)I" } : Jvm.MethodName)) ∈ lw_tbl := lw_at lw_m8 65 rfl
theorem q1858 : (Jvm.Cond.instanceMethod ({ cls := "NailedByWordModel", name := "heldToward", desc := "(I)I" } : Jvm.MethodName)) ∈ lw_all := lw_g (lw_at lw_m8 66 rfl) rfl
theorem q1859 : (Jvm.Cond.code ({ cls := "NailedByWordModel", name := "heldToward", desc := "(I)I" } : Jvm.MethodName) prog_25_method_72_code (4 : Nat) (Option.some Jvm.ClassFile.FieldType.int)) ∈ lw_all := lw_g (lw_at lw_m8 67 rfl) rfl
theorem q1861 : (Jvm.Cond.instanceMethod ({ cls := "NailedByWordModel", name := "judge", desc := "(II)I" } : Jvm.MethodName)) ∈ lw_all := lw_g (lw_at lw_m8 69 rfl) rfl
theorem q1862 : (Jvm.Cond.selects "NailedByWordModel" ({ cls := "NailedByWordModel", name := "judge", desc := "(II)I" } : Jvm.MethodName) ({ cls := "NailedByWordModel", name := "judge", desc := "(II)I" } : Jvm.MethodName)) ∈ lw_all := lw_g (lw_at lw_m8 70 rfl) rfl
theorem q1863 : (Jvm.Cond.code ({ cls := "NailedByWordModel", name := "judge", desc := "(II)I" } : Jvm.MethodName) prog_25_method_75_code (7 : Nat) (Option.some Jvm.ClassFile.FieldType.int)) ∈ lw_all := lw_g (lw_at lw_m8 71 rfl) rfl
theorem q1864 : (Jvm.Cond.methodLink "NailedByWordModel" (352 : Nat) ({ cls := "NailedByWordModel", name := "areShelves", desc := "(I)Z" } : Jvm.MethodName)) ∈ lw_all := lw_g (lw_at lw_m8 72 rfl) rfl
theorem q1865 : (Jvm.Cond.static ({ cls := "NailedByWordModel", name := "areShelves", desc := "(I)Z" } : Jvm.MethodName)) ∈ lw_all := lw_g (lw_at lw_m8 73 rfl) rfl
theorem q1866 : (Jvm.Cond.code ({ cls := "NailedByWordModel", name := "areShelves", desc := "(I)Z" } : Jvm.MethodName) prog_25_method_74_code (1 : Nat) (Option.some Jvm.ClassFile.FieldType.boolean)) ∈ lw_all := lw_g (lw_at lw_m8 74 rfl) rfl
theorem q1868 : (Jvm.Cond.instanceMethod ({ cls := "NailedByWordModel", name := "can", desc := "(II)I" } : Jvm.MethodName)) ∈ lw_all := lw_g (lw_at lw_m8 76 rfl) rfl
theorem q1869 : (Jvm.Cond.selects "NailedByWordModel" ({ cls := "NailedByWordModel", name := "can", desc := "(II)I" } : Jvm.MethodName) ({ cls := "NailedByWordModel", name := "can", desc := "(II)I" } : Jvm.MethodName)) ∈ lw_all := lw_g (lw_at lw_m8 77 rfl) rfl
theorem q1870 : (Jvm.Cond.code ({ cls := "NailedByWordModel", name := "can", desc := "(II)I" } : Jvm.MethodName) prog_25_method_77_code (3 : Nat) (Option.some Jvm.ClassFile.FieldType.int)) ∈ lw_all := lw_g (lw_at lw_m8 78 rfl) rfl
theorem q1871 : (Jvm.Cond.methodLink "NailedByWordModel" (355 : Nat) ({ cls := "NailedByWordModel", name := "canBe", desc := "(II)Z" } : Jvm.MethodName)) ∈ lw_all := lw_g (lw_at lw_m8 79 rfl) rfl
theorem q1872 : (Jvm.Cond.privateMethod ({ cls := "NailedByWordModel", name := "canBe", desc := "(II)Z" } : Jvm.MethodName)) ∈ lw_tbl := lw_at lw_m8 80 rfl
theorem q1873 : (Jvm.Cond.instanceMethod ({ cls := "NailedByWordModel", name := "canBe", desc := "(II)Z" } : Jvm.MethodName)) ∈ lw_all := lw_g (lw_at lw_m8 81 rfl) rfl
theorem q1874 : (Jvm.Cond.code ({ cls := "NailedByWordModel", name := "canBe", desc := "(II)Z" } : Jvm.MethodName) prog_25_method_76_code (6 : Nat) (Option.some Jvm.ClassFile.FieldType.boolean)) ∈ lw_all := lw_g (lw_at lw_m8 82 rfl) rfl
theorem q1876 : (Jvm.Cond.instanceMethod ({ cls := "NailedByWordModel", name := "who", desc := "(I)I" } : Jvm.MethodName)) ∈ lw_all := lw_g (lw_at lw_m8 84 rfl) rfl
theorem q1877 : (Jvm.Cond.selects "NailedByWordModel" ({ cls := "NailedByWordModel", name := "who", desc := "(I)I" } : Jvm.MethodName) ({ cls := "NailedByWordModel", name := "who", desc := "(I)I" } : Jvm.MethodName)) ∈ lw_all := lw_g (lw_at lw_m8 85 rfl) rfl
theorem q1878 : (Jvm.Cond.code ({ cls := "NailedByWordModel", name := "who", desc := "(I)I" } : Jvm.MethodName) prog_25_method_78_code (4 : Nat) (Option.some Jvm.ClassFile.FieldType.int)) ∈ lw_all := lw_g (lw_at lw_m8 86 rfl) rfl
theorem q1880 : (Jvm.Cond.instanceMethod ({ cls := "NailedByWordModel", name := "feeds", desc := "(II)I" } : Jvm.MethodName)) ∈ lw_all := lw_g (lw_at lw_m8 88 rfl) rfl
theorem q1881 : (Jvm.Cond.selects "NailedByWordModel" ({ cls := "NailedByWordModel", name := "feeds", desc := "(II)I" } : Jvm.MethodName) ({ cls := "NailedByWordModel", name := "feeds", desc := "(II)I" } : Jvm.MethodName)) ∈ lw_all := lw_g (lw_at lw_m8 89 rfl) rfl
theorem q1882 : (Jvm.Cond.code ({ cls := "NailedByWordModel", name := "feeds", desc := "(II)I" } : Jvm.MethodName) prog_25_method_81_code (5 : Nat) (Option.some Jvm.ClassFile.FieldType.int)) ∈ lw_all := lw_g (lw_at lw_m8 90 rfl) rfl
theorem q1883 : (Jvm.Cond.methodLink "NailedByWordModel" (367 : Nat) ({ cls := "NailedByWordModel", name := "goRound", desc := "(IIIII)V" } : Jvm.MethodName)) ∈ lw_all := lw_g (lw_at lw_m8 91 rfl) rfl
theorem q1884 : (Jvm.Cond.privateMethod ({ cls := "NailedByWordModel", name := "goRound", desc := "(IIIII)V" } : Jvm.MethodName)) ∈ lw_tbl := lw_at lw_m8 92 rfl
theorem q1885 : (Jvm.Cond.instanceMethod ({ cls := "NailedByWordModel", name := "goRound", desc := "(IIIII)V" } : Jvm.MethodName)) ∈ lw_all := lw_g (lw_at lw_m8 93 rfl) rfl
theorem q1886 : (Jvm.Cond.code ({ cls := "NailedByWordModel", name := "goRound", desc := "(IIIII)V" } : Jvm.MethodName) prog_25_method_80_code (8 : Nat) (Option.none : Option Jvm.ClassFile.FieldType)) ∈ lw_all := lw_g (lw_at lw_m8 94 rfl) rfl
theorem q1887 : (Jvm.Cond.methodLink "NailedByWordModel" (361 : Nat) ({ cls := "NailedByWordModel", name := "farOf", desc := "(II)I" } : Jvm.MethodName)) ∈ lw_all := lw_g (lw_at lw_m8 95 rfl) rfl
theorem q1888 : (Jvm.Cond.static ({ cls := "NailedByWordModel", name := "farOf", desc := "(II)I" } : Jvm.MethodName)) ∈ lw_all := lw_g (lw_at lw_m8 96 rfl) rfl
theorem q1889 : (Jvm.Cond.code ({ cls := "NailedByWordModel", name := "farOf", desc := "(II)I" } : Jvm.MethodName) prog_25_method_79_code (4 : Nat) (Option.some Jvm.ClassFile.FieldType.int)) ∈ lw_all := lw_g (lw_at lw_m8 97 rfl) rfl
theorem q1891 : (Jvm.Cond.instanceMethod ({ cls := "NailedByWordModel", name := "odds", desc := "(II)J" } : Jvm.MethodName)) ∈ lw_all := lw_g (lw_at lw_m8 99 rfl) rfl
theorem q1892 : (Jvm.Cond.selects "NailedByWordModel" ({ cls := "NailedByWordModel", name := "odds", desc := "(II)J" } : Jvm.MethodName) ({ cls := "NailedByWordModel", name := "odds", desc := "(II)J" } : Jvm.MethodName)) ∈ lw_all := lw_g (lw_at lw_m8 100 rfl) rfl
theorem q1893 : (Jvm.Cond.code ({ cls := "NailedByWordModel", name := "odds", desc := "(II)J" } : Jvm.MethodName) prog_25_method_84_code (3 : Nat) (Option.some Jvm.ClassFile.FieldType.long)) ∈ lw_all := lw_g (lw_at lw_m8 101 rfl) rfl
theorem q1894 : (Jvm.Cond.constantLong "NailedByWordModel" (380 : Nat) (-9223372036854775808 : Int64)) ∈ lw_all := lw_g (lw_at lw_m8 102 rfl) rfl
theorem q1895 : (Jvm.Cond.methodLink "NailedByWordModel" (377 : Nat) ({ cls := "NailedByWordModel", name := "goForgot", desc := "(III)V" } : Jvm.MethodName)) ∈ lw_all := lw_g (lw_at lw_m8 103 rfl) rfl
theorem q1896 : (Jvm.Cond.privateMethod ({ cls := "NailedByWordModel", name := "goForgot", desc := "(III)V" } : Jvm.MethodName)) ∈ lw_tbl := lw_at lw_m8 104 rfl
theorem q1897 : (Jvm.Cond.instanceMethod ({ cls := "NailedByWordModel", name := "goForgot", desc := "(III)V" } : Jvm.MethodName)) ∈ lw_all := lw_g (lw_at lw_m8 105 rfl) rfl
theorem q1898 : (Jvm.Cond.code ({ cls := "NailedByWordModel", name := "goForgot", desc := "(III)V" } : Jvm.MethodName) prog_25_method_82_code (5 : Nat) (Option.none : Option Jvm.ClassFile.FieldType)) ∈ lw_all := lw_g (lw_at lw_m8 106 rfl) rfl
theorem q1899 : (Jvm.Cond.methodLink "NailedByWordModel" (382 : Nat) ({ cls := "NailedByWordModel", name := "lowest", desc := "(JJI)J" } : Jvm.MethodName)) ∈ lw_all := lw_g (lw_at lw_m8 107 rfl) rfl
theorem q1900 : (Jvm.Cond.static ({ cls := "NailedByWordModel", name := "lowest", desc := "(JJI)J" } : Jvm.MethodName)) ∈ lw_all := lw_g (lw_at lw_m8 108 rfl) rfl
theorem q1901 : (Jvm.Cond.code ({ cls := "NailedByWordModel", name := "lowest", desc := "(JJI)J" } : Jvm.MethodName) prog_25_method_83_code (11 : Nat) (Option.some Jvm.ClassFile.FieldType.long)) ∈ lw_all := lw_g (lw_at lw_m8 109 rfl) rfl
theorem q1903 : (Jvm.Cond.instanceMethod ({ cls := "NailedByWordModel", name := "rued", desc := "(II)I" } : Jvm.MethodName)) ∈ lw_all := lw_g (lw_at lw_m8 111 rfl) rfl
theorem q1904 : (Jvm.Cond.selects "NailedByWordModel" ({ cls := "NailedByWordModel", name := "rued", desc := "(II)I" } : Jvm.MethodName) ({ cls := "NailedByWordModel", name := "rued", desc := "(II)I" } : Jvm.MethodName)) ∈ lw_all := lw_g (lw_at lw_m8 112 rfl) rfl
theorem q1905 : (Jvm.Cond.code ({ cls := "NailedByWordModel", name := "rued", desc := "(II)I" } : Jvm.MethodName) prog_25_method_85_code (7 : Nat) (Option.some Jvm.ClassFile.FieldType.int)) ∈ lw_all := lw_g (lw_at lw_m8 113 rfl) rfl
theorem q1907 : (Jvm.Cond.instanceMethod ({ cls := "NailedByWordModel", name := "byTurns", desc := "(IIII)I" } : Jvm.MethodName)) ∈ lw_all := lw_g (lw_at lw_m8 115 rfl) rfl
theorem q1908 : (Jvm.Cond.selects "NailedByWordModel" ({ cls := "NailedByWordModel", name := "byTurns", desc := "(IIII)I" } : Jvm.MethodName) ({ cls := "NailedByWordModel", name := "byTurns", desc := "(IIII)I" } : Jvm.MethodName)) ∈ lw_all := lw_g (lw_at lw_m8 116 rfl) rfl
theorem q1909 : (Jvm.Cond.code ({ cls := "NailedByWordModel", name := "byTurns", desc := "(IIII)I" } : Jvm.MethodName) prog_25_method_90_code (8 : Nat) (Option.some Jvm.ClassFile.FieldType.int)) ∈ lw_all := lw_g (lw_at lw_m8 117 rfl) rfl
theorem q1910 : (Jvm.Cond.methodLink "NailedByWordModel" (402 : Nat) ({ cls := "NailedByWordModel", name := "manBest", desc := "(III)I" } : Jvm.MethodName)) ∈ lw_all := lw_g (lw_at lw_m8 118 rfl) rfl
theorem q1911 : (Jvm.Cond.privateMethod ({ cls := "NailedByWordModel", name := "manBest", desc := "(III)I" } : Jvm.MethodName)) ∈ lw_tbl := lw_at lw_m8 119 rfl
theorem q1912 : (Jvm.Cond.instanceMethod ({ cls := "NailedByWordModel", name := "manBest", desc := "(III)I" } : Jvm.MethodName)) ∈ lw_all := lw_g (lw_at lw_m8 120 rfl) rfl
theorem q1913 : (Jvm.Cond.code ({ cls := "NailedByWordModel", name := "manBest", desc := "(III)I" } : Jvm.MethodName) prog_25_method_88_code (7 : Nat) (Option.some Jvm.ClassFile.FieldType.int)) ∈ lw_all := lw_g (lw_at lw_m8 121 rfl) rfl
theorem q1914 : (Jvm.Cond.methodLink "NailedByWordModel" (398 : Nat) ({ cls := "NailedByWordModel", name := "byStep", desc := "(IIII)I" } : Jvm.MethodName)) ∈ lw_all := lw_g (lw_at lw_m8 122 rfl) rfl
theorem q1915 : (Jvm.Cond.privateMethod ({ cls := "NailedByWordModel", name := "byStep", desc := "(IIII)I" } : Jvm.MethodName)) ∈ lw_tbl := lw_at lw_m8 123 rfl
theorem q1916 : (Jvm.Cond.instanceMethod ({ cls := "NailedByWordModel", name := "byStep", desc := "(IIII)I" } : Jvm.MethodName)) ∈ lw_all := lw_g (lw_at lw_m8 124 rfl) rfl
theorem q1917 : (Jvm.Cond.code ({ cls := "NailedByWordModel", name := "byStep", desc := "(IIII)I" } : Jvm.MethodName) prog_25_method_87_code (6 : Nat) (Option.some Jvm.ClassFile.FieldType.int)) ∈ lw_all := lw_g (lw_at lw_m8 125 rfl) rfl
theorem q1918 : (Jvm.Cond.methodLink "NailedByWordModel" (392 : Nat) ({ cls := "NailedByWordModel", name := "childBest", desc := "(III)I" } : Jvm.MethodName)) ∈ lw_all := lw_g (lw_at lw_m8 126 rfl) rfl
theorem q1919 : (Jvm.Cond.privateMethod ({ cls := "NailedByWordModel", name := "childBest", desc := "(III)I" } : Jvm.MethodName)) ∈ lw_tbl := lw_at lw_m8 127 rfl
theorem q1920 : (Jvm.Cond.instanceMethod ({ cls := "NailedByWordModel", name := "childBest", desc := "(III)I" } : Jvm.MethodName)) ∈ lw_all := lw_g (lw_at lw_m8 128 rfl) rfl
theorem q1921 : (Jvm.Cond.code ({ cls := "NailedByWordModel", name := "childBest", desc := "(III)I" } : Jvm.MethodName) prog_25_method_89_code (7 : Nat) (Option.some Jvm.ClassFile.FieldType.int)) ∈ lw_all := lw_g (lw_at lw_m8 129 rfl) rfl
theorem q1922 : (Jvm.Cond.methodLink "NailedByWordModel" (405 : Nat) ({ cls := "NailedByWordModel", name := "leastToForget", desc := "()I" } : Jvm.MethodName)) ∈ lw_all := lw_g (lw_at lw_m8 130 rfl) rfl
theorem q1923 : (Jvm.Cond.privateMethod ({ cls := "NailedByWordModel", name := "leastToForget", desc := "()I" } : Jvm.MethodName)) ∈ lw_tbl := lw_at lw_m8 131 rfl
theorem q1924 : (Jvm.Cond.instanceMethod ({ cls := "NailedByWordModel", name := "leastToForget", desc := "()I" } : Jvm.MethodName)) ∈ lw_all := lw_g (lw_at lw_m8 132 rfl) rfl
theorem q1925 : (Jvm.Cond.code ({ cls := "NailedByWordModel", name := "leastToForget", desc := "()I" } : Jvm.MethodName) prog_25_method_86_code (2 : Nat) (Option.some Jvm.ClassFile.FieldType.int)) ∈ lw_all := lw_g (lw_at lw_m8 133 rfl) rfl
theorem q1927 : (Jvm.Cond.instanceMethod ({ cls := "NailedByWordModel", name := "drawn", desc := "(IIII)I" } : Jvm.MethodName)) ∈ lw_all := lw_g (lw_at lw_m8 135 rfl) rfl
theorem q1928 : (Jvm.Cond.selects "NailedByWordModel" ({ cls := "NailedByWordModel", name := "drawn", desc := "(IIII)I" } : Jvm.MethodName) ({ cls := "NailedByWordModel", name := "drawn", desc := "(IIII)I" } : Jvm.MethodName)) ∈ lw_all := lw_g (lw_at lw_m8 136 rfl) rfl
theorem q1929 : (Jvm.Cond.code ({ cls := "NailedByWordModel", name := "drawn", desc := "(IIII)I" } : Jvm.MethodName) prog_25_method_91_code (11 : Nat) (Option.some Jvm.ClassFile.FieldType.int)) ∈ lw_all := lw_g (lw_at lw_m8 137 rfl) rfl
theorem q1930 : (Jvm.Cond.constant "NailedByWordModel" (408 : Nat) (1103515245 : Int32)) ∈ lw_all := lw_g (lw_at lw_m8 138 rfl) rfl
theorem q1932 : (Jvm.Cond.instanceMethod ({ cls := "NailedByWordModel", name := "step", desc := "(II)I" } : Jvm.MethodName)) ∈ lw_all := lw_g (lw_at lw_m8 140 rfl) rfl
theorem q1933 : (Jvm.Cond.selects "NailedByWordModel" ({ cls := "NailedByWordModel", name := "step", desc := "(II)I" } : Jvm.MethodName) ({ cls := "NailedByWordModel", name := "step", desc := "(II)I" } : Jvm.MethodName)) ∈ lw_all := lw_g (lw_at lw_m8 141 rfl) rfl
theorem q1934 : (Jvm.Cond.code ({ cls := "NailedByWordModel", name := "step", desc := "(II)I" } : Jvm.MethodName) prog_25_method_92_code (3 : Nat) (Option.some Jvm.ClassFile.FieldType.int)) ∈ lw_all := lw_g (lw_at lw_m8 142 rfl) rfl
theorem q1936 : (Jvm.Cond.instanceMethod ({ cls := "NailedByWordModel", name := "pull", desc := "(I)I" } : Jvm.MethodName)) ∈ lw_all := lw_g (lw_at lw_m8 144 rfl) rfl
theorem q1937 : (Jvm.Cond.selects "NailedByWordModel" ({ cls := "NailedByWordModel", name := "pull", desc := "(I)I" } : Jvm.MethodName) ({ cls := "NailedByWordModel", name := "pull", desc := "(I)I" } : Jvm.MethodName)) ∈ lw_all := lw_g (lw_at lw_m8 145 rfl) rfl
theorem q1938 : (Jvm.Cond.code ({ cls := "NailedByWordModel", name := "pull", desc := "(I)I" } : Jvm.MethodName) prog_25_method_93_code (3 : Nat) (Option.some Jvm.ClassFile.FieldType.int)) ∈ lw_all := lw_g (lw_at lw_m8 146 rfl) rfl
theorem q1940 : (Jvm.Cond.instanceMethod ({ cls := "NailedByWordModel", name := "letOff", desc := "(I)I" } : Jvm.MethodName)) ∈ lw_all := lw_g (lw_at lw_m8 148 rfl) rfl
theorem q1941 : (Jvm.Cond.selects "NailedByWordModel" ({ cls := "NailedByWordModel", name := "letOff", desc := "(I)I" } : Jvm.MethodName) ({ cls := "NailedByWordModel", name := "letOff", desc := "(I)I" } : Jvm.MethodName)) ∈ lw_all := lw_g (lw_at lw_m8 149 rfl) rfl
theorem q1942 : (Jvm.Cond.code ({ cls := "NailedByWordModel", name := "letOff", desc := "(I)I" } : Jvm.MethodName) prog_25_method_94_code (2 : Nat) (Option.some Jvm.ClassFile.FieldType.int)) ∈ lw_all := lw_g (lw_at lw_m8 150 rfl) rfl
theorem q1944 : (Jvm.Cond.instanceMethod ({ cls := "NailedByWordModel", name := "forget", desc := "(I)I" } : Jvm.MethodName)) ∈ lw_all := lw_g (lw_at lw_m8 152 rfl) rfl
theorem q1945 : (Jvm.Cond.selects "NailedByWordModel" ({ cls := "NailedByWordModel", name := "forget", desc := "(I)I" } : Jvm.MethodName) ({ cls := "NailedByWordModel", name := "forget", desc := "(I)I" } : Jvm.MethodName)) ∈ lw_all := lw_g (lw_at lw_m8 153 rfl) rfl
theorem q1946 : (Jvm.Cond.code ({ cls := "NailedByWordModel", name := "forget", desc := "(I)I" } : Jvm.MethodName) prog_25_method_95_code (2 : Nat) (Option.some Jvm.ClassFile.FieldType.int)) ∈ lw_all := lw_g (lw_at lw_m8 154 rfl) rfl
theorem q1948 : (Jvm.Cond.instanceMethod ({ cls := "NailedByWordModel", name := "day", desc := "()I" } : Jvm.MethodName)) ∈ lw_all := lw_g (lw_at lw_m8 156 rfl) rfl
theorem q1949 : (Jvm.Cond.selects "NailedByWordModel" ({ cls := "NailedByWordModel", name := "day", desc := "()I" } : Jvm.MethodName) ({ cls := "NailedByWordModel", name := "day", desc := "()I" } : Jvm.MethodName)) ∈ lw_all := lw_g (lw_at lw_m8 157 rfl) rfl
theorem q1950 : (Jvm.Cond.code ({ cls := "NailedByWordModel", name := "day", desc := "()I" } : Jvm.MethodName) prog_25_method_96_code (1 : Nat) (Option.some Jvm.ClassFile.FieldType.int)) ∈ lw_all := lw_g (lw_at lw_m8 158 rfl) rfl
theorem q1952 : (Jvm.Cond.instanceMethod ({ cls := "NailedByWordModel", name := "led", desc := "(I)I" } : Jvm.MethodName)) ∈ lw_all := lw_g (lw_at lw_m8 160 rfl) rfl
theorem q1953 : (Jvm.Cond.selects "NailedByWordModel" ({ cls := "NailedByWordModel", name := "led", desc := "(I)I" } : Jvm.MethodName) ({ cls := "NailedByWordModel", name := "led", desc := "(I)I" } : Jvm.MethodName)) ∈ lw_all := lw_g (lw_at lw_m8 161 rfl) rfl
theorem q1954 : (Jvm.Cond.code ({ cls := "NailedByWordModel", name := "led", desc := "(I)I" } : Jvm.MethodName) prog_25_method_97_code (2 : Nat) (Option.some Jvm.ClassFile.FieldType.int)) ∈ lw_all := lw_g (lw_at lw_m8 162 rfl) rfl
theorem q1956 : (Jvm.Cond.instanceMethod ({ cls := "NailedByWordModel", name := "image", desc := "()I" } : Jvm.MethodName)) ∈ lw_all := lw_g (lw_at lw_m8 164 rfl) rfl
theorem q1957 : (Jvm.Cond.selects "NailedByWordModel" ({ cls := "NailedByWordModel", name := "image", desc := "()I" } : Jvm.MethodName) ({ cls := "NailedByWordModel", name := "image", desc := "()I" } : Jvm.MethodName)) ∈ lw_all := lw_g (lw_at lw_m8 165 rfl) rfl
theorem q1958 : (Jvm.Cond.code ({ cls := "NailedByWordModel", name := "image", desc := "()I" } : Jvm.MethodName) prog_25_method_98_code (2 : Nat) (Option.some Jvm.ClassFile.FieldType.int)) ∈ lw_all := lw_g (lw_at lw_m8 166 rfl) rfl
theorem q1960 : (Jvm.Cond.instanceMethod ({ cls := "NailedByWordModel", name := "back", desc := "()I" } : Jvm.MethodName)) ∈ lw_all := lw_g (lw_at lw_m8 168 rfl) rfl
theorem q1961 : (Jvm.Cond.selects "NailedByWordModel" ({ cls := "NailedByWordModel", name := "back", desc := "()I" } : Jvm.MethodName) ({ cls := "NailedByWordModel", name := "back", desc := "()I" } : Jvm.MethodName)) ∈ lw_all := lw_g (lw_at lw_m8 169 rfl) rfl
theorem q1962 : (Jvm.Cond.code ({ cls := "NailedByWordModel", name := "back", desc := "()I" } : Jvm.MethodName) prog_25_method_99_code (2 : Nat) (Option.some Jvm.ClassFile.FieldType.int)) ∈ lw_all := lw_g (lw_at lw_m8 170 rfl) rfl
theorem q1964 : (Jvm.Cond.instanceMethod ({ cls := "NailedByWordModel", name := "trace", desc := "(I)I" } : Jvm.MethodName)) ∈ lw_all := lw_g (lw_at lw_m8 172 rfl) rfl
theorem q1965 : (Jvm.Cond.selects "NailedByWordModel" ({ cls := "NailedByWordModel", name := "trace", desc := "(I)I" } : Jvm.MethodName) ({ cls := "NailedByWordModel", name := "trace", desc := "(I)I" } : Jvm.MethodName)) ∈ lw_all := lw_g (lw_at lw_m8 173 rfl) rfl
theorem q1966 : (Jvm.Cond.code ({ cls := "NailedByWordModel", name := "trace", desc := "(I)I" } : Jvm.MethodName) prog_25_method_102_code (2 : Nat) (Option.some Jvm.ClassFile.FieldType.int)) ∈ lw_all := lw_g (lw_at lw_m8 174 rfl) rfl
theorem q1968 : (Jvm.Cond.instanceMethod ({ cls := "NailedByWordModel", name := "body", desc := "(I)I" } : Jvm.MethodName)) ∈ lw_all := lw_g (lw_at lw_m8 176 rfl) rfl
theorem q1969 : (Jvm.Cond.selects "NailedByWordModel" ({ cls := "NailedByWordModel", name := "body", desc := "(I)I" } : Jvm.MethodName) ({ cls := "NailedByWordModel", name := "body", desc := "(I)I" } : Jvm.MethodName)) ∈ lw_all := lw_g (lw_at lw_m8 177 rfl) rfl
theorem q1970 : (Jvm.Cond.code ({ cls := "NailedByWordModel", name := "body", desc := "(I)I" } : Jvm.MethodName) prog_25_method_103_code (2 : Nat) (Option.some Jvm.ClassFile.FieldType.int)) ∈ lw_all := lw_g (lw_at lw_m8 178 rfl) rfl
theorem q1972 : (Jvm.Cond.instanceMethod ({ cls := "NailedByWordModel", name := "act", desc := "(III)I" } : Jvm.MethodName)) ∈ lw_all := lw_g (lw_at lw_m8 180 rfl) rfl
theorem q1973 : (Jvm.Cond.selects "NailedByWordModel" ({ cls := "NailedByWordModel", name := "act", desc := "(III)I" } : Jvm.MethodName) ({ cls := "NailedByWordModel", name := "act", desc := "(III)I" } : Jvm.MethodName)) ∈ lw_all := lw_g (lw_at lw_m8 181 rfl) rfl
theorem q1974 : (Jvm.Cond.code ({ cls := "NailedByWordModel", name := "act", desc := "(III)I" } : Jvm.MethodName) prog_25_method_116_code (4 : Nat) (Option.some Jvm.ClassFile.FieldType.int)) ∈ lw_all := lw_g (lw_at lw_m8 182 rfl) rfl
theorem q1975 : (Jvm.Cond.methodLink "NailedByWordModel" (464 : Nat) ({ cls := "NailedByWordModel", name := "isBody", desc := "(I)Z" } : Jvm.MethodName)) ∈ lw_all := lw_g (lw_at lw_m8 183 rfl) rfl
theorem q1976 : (Jvm.Cond.privateMethod ({ cls := "NailedByWordModel", name := "isBody", desc := "(I)Z" } : Jvm.MethodName)) ∈ lw_tbl := lw_at lw_m8 184 rfl
theorem q1977 : (Jvm.Cond.instanceMethod ({ cls := "NailedByWordModel", name := "isBody", desc := "(I)Z" } : Jvm.MethodName)) ∈ lw_all := lw_g (lw_at lw_m8 185 rfl) rfl
theorem q1978 : (Jvm.Cond.code ({ cls := "NailedByWordModel", name := "isBody", desc := "(I)Z" } : Jvm.MethodName) prog_25_method_100_code (2 : Nat) (Option.some Jvm.ClassFile.FieldType.boolean)) ∈ lw_all := lw_g (lw_at lw_m8 186 rfl) rfl
theorem q1979 : (Jvm.Cond.methodLink "NailedByWordModel" (440 : Nat) ({ cls := "NailedByWordModel", name := "holding", desc := "(II)I" } : Jvm.MethodName)) ∈ lw_all := lw_g (lw_at lw_m8 187 rfl) rfl
theorem q1980 : (Jvm.Cond.privateMethod ({ cls := "NailedByWordModel", name := "holding", desc := "(II)I" } : Jvm.MethodName)) ∈ lw_tbl := lw_at lw_m8 188 rfl
theorem q1981 : (Jvm.Cond.instanceMethod ({ cls := "NailedByWordModel", name := "holding", desc := "(II)I" } : Jvm.MethodName)) ∈ lw_all := lw_g (lw_at lw_m8 189 rfl) rfl
theorem q1982 : (Jvm.Cond.code ({ cls := "NailedByWordModel", name := "holding", desc := "(II)I" } : Jvm.MethodName) prog_25_method_107_code (3 : Nat) (Option.some Jvm.ClassFile.FieldType.int)) ∈ lw_all := lw_g (lw_at lw_m8 190 rfl) rfl
theorem q1983 : (Jvm.Cond.methodLink "NailedByWordModel" (434 : Nat) ({ cls := "NailedByWordModel", name := "isUnder", desc := "(II)Z" } : Jvm.MethodName)) ∈ lw_all := lw_g (lw_at lw_m8 191 rfl) rfl
theorem q1984 : (Jvm.Cond.static ({ cls := "NailedByWordModel", name := "isUnder", desc := "(II)Z" } : Jvm.MethodName)) ∈ lw_all := lw_g (lw_at lw_m8 192 rfl) rfl
theorem q1985 : (Jvm.Cond.code ({ cls := "NailedByWordModel", name := "isUnder", desc := "(II)Z" } : Jvm.MethodName) prog_25_method_104_code (2 : Nat) (Option.some Jvm.ClassFile.FieldType.boolean)) ∈ lw_all := lw_g (lw_at lw_m8 193 rfl) rfl
theorem q1986 : (Jvm.Cond.methodLink "NailedByWordModel" (427 : Nat) ({ cls := "NailedByWordModel", name := "ran", desc := "(I)V" } : Jvm.MethodName)) ∈ lw_all := lw_g (lw_at lw_m8 194 rfl) rfl
theorem q1987 : (Jvm.Cond.privateMethod ({ cls := "NailedByWordModel", name := "ran", desc := "(I)V" } : Jvm.MethodName)) ∈ lw_tbl := lw_at lw_m8 195 rfl
theorem q1988 : (Jvm.Cond.instanceMethod ({ cls := "NailedByWordModel", name := "ran", desc := "(I)V" } : Jvm.MethodName)) ∈ lw_all := lw_g (lw_at lw_m8 196 rfl) rfl
theorem q1989 : (Jvm.Cond.code ({ cls := "NailedByWordModel", name := "ran", desc := "(I)V" } : Jvm.MethodName) prog_25_method_101_code (2 : Nat) (Option.none : Option Jvm.ClassFile.FieldType)) ∈ lw_all := lw_g (lw_at lw_m8 197 rfl) rfl
theorem q1990 : (Jvm.Cond.methodLink "NailedByWordModel" (431 : Nat) ({ cls := "NailedByWordModel", name := "plainHolds", desc := "(II)I" } : Jvm.MethodName)) ∈ lw_all := lw_g (lw_at lw_m8 198 rfl) rfl
theorem q1991 : (Jvm.Cond.privateMethod ({ cls := "NailedByWordModel", name := "plainHolds", desc := "(II)I" } : Jvm.MethodName)) ∈ lw_tbl := lw_at lw_m8 199 rfl
theorem q1992 : (Jvm.Cond.instanceMethod ({ cls := "NailedByWordModel", name := "plainHolds", desc := "(II)I" } : Jvm.MethodName)) ∈ lw_all := lw_g (lw_at lw_m8 200 rfl) rfl
theorem q1993 : (Jvm.Cond.code ({ cls := "NailedByWordModel", name := "plainHolds", desc := "(II)I" } : Jvm.MethodName) prog_25_method_105_code (3 : Nat) (Option.some Jvm.ClassFile.FieldType.int)) ∈ lw_all := lw_g (lw_at lw_m8 201 rfl) rfl
theorem q1994 : (Jvm.Cond.methodLink "NailedByWordModel" (437 : Nat) ({ cls := "NailedByWordModel", name := "pittHolds", desc := "(II)I" } : Jvm.MethodName)) ∈ lw_all := lw_g (lw_at lw_m8 202 rfl) rfl
theorem q1995 : (Jvm.Cond.privateMethod ({ cls := "NailedByWordModel", name := "pittHolds", desc := "(II)I" } : Jvm.MethodName)) ∈ lw_tbl := lw_at lw_m8 203 rfl
theorem q1996 : (Jvm.Cond.instanceMethod ({ cls := "NailedByWordModel", name := "pittHolds", desc := "(II)I" } : Jvm.MethodName)) ∈ lw_all := lw_g (lw_at lw_m8 204 rfl) rfl
theorem q1997 : (Jvm.Cond.code ({ cls := "NailedByWordModel", name := "pittHolds", desc := "(II)I" } : Jvm.MethodName) prog_25_method_106_code (3 : Nat) (Option.some Jvm.ClassFile.FieldType.int)) ∈ lw_all := lw_g (lw_at lw_m8 205 rfl) rfl
theorem q1998 : (Jvm.Cond.methodLink "NailedByWordModel" (458 : Nat) ({ cls := "NailedByWordModel", name := "pulling", desc := "(II)I" } : Jvm.MethodName)) ∈ lw_all := lw_g (lw_at lw_m8 206 rfl) rfl
theorem q1999 : (Jvm.Cond.privateMethod ({ cls := "NailedByWordModel", name := "pulling", desc := "(II)I" } : Jvm.MethodName)) ∈ lw_tbl := lw_at lw_m8 207 rfl
theorem q2000 : (Jvm.Cond.instanceMethod ({ cls := "NailedByWordModel", name := "pulling", desc := "(II)I" } : Jvm.MethodName)) ∈ lw_all := lw_g (lw_at lw_m8 208 rfl) rfl
theorem q2001 : (Jvm.Cond.code ({ cls := "NailedByWordModel", name := "pulling", desc := "(II)I" } : Jvm.MethodName) prog_25_method_110_code (4 : Nat) (Option.some Jvm.ClassFile.FieldType.int)) ∈ lw_all := lw_g (lw_at lw_m8 209 rfl) rfl
theorem q2002 : (Jvm.Cond.methodLink "NailedByWordModel" (446 : Nat) ({ cls := "NailedByWordModel", name := "lacePulls", desc := "(II)I" } : Jvm.MethodName)) ∈ lw_all := lw_g (lw_at lw_m8 210 rfl) rfl
theorem q2003 : (Jvm.Cond.privateMethod ({ cls := "NailedByWordModel", name := "lacePulls", desc := "(II)I" } : Jvm.MethodName)) ∈ lw_tbl := lw_at lw_m8 211 rfl
theorem q2004 : (Jvm.Cond.instanceMethod ({ cls := "NailedByWordModel", name := "lacePulls", desc := "(II)I" } : Jvm.MethodName)) ∈ lw_all := lw_g (lw_at lw_m8 212 rfl) rfl
theorem q2005 : (Jvm.Cond.code ({ cls := "NailedByWordModel", name := "lacePulls", desc := "(II)I" } : Jvm.MethodName) prog_25_method_109_code (3 : Nat) (Option.some Jvm.ClassFile.FieldType.int)) ∈ lw_all := lw_g (lw_at lw_m8 213 rfl) rfl
theorem q2006 : (Jvm.Cond.methodLink "NailedByWordModel" (443 : Nat) ({ cls := "NailedByWordModel", name := "plainPulls", desc := "(II)I" } : Jvm.MethodName)) ∈ lw_all := lw_g (lw_at lw_m8 214 rfl) rfl
theorem q2007 : (Jvm.Cond.privateMethod ({ cls := "NailedByWordModel", name := "plainPulls", desc := "(II)I" } : Jvm.MethodName)) ∈ lw_tbl := lw_at lw_m8 215 rfl
theorem q2008 : (Jvm.Cond.instanceMethod ({ cls := "NailedByWordModel", name := "plainPulls", desc := "(II)I" } : Jvm.MethodName)) ∈ lw_all := lw_g (lw_at lw_m8 216 rfl) rfl
theorem q2009 : (Jvm.Cond.code ({ cls := "NailedByWordModel", name := "plainPulls", desc := "(II)I" } : Jvm.MethodName) prog_25_method_108_code (3 : Nat) (Option.some Jvm.ClassFile.FieldType.int)) ∈ lw_all := lw_g (lw_at lw_m8 217 rfl) rfl
theorem q2010 : (Jvm.Cond.methodLink "NailedByWordModel" (449 : Nat) ({ cls := "NailedByWordModel", name := "freeing", desc := "(II)I" } : Jvm.MethodName)) ∈ lw_all := lw_g (lw_at lw_m8 218 rfl) rfl
theorem q2011 : (Jvm.Cond.privateMethod ({ cls := "NailedByWordModel", name := "freeing", desc := "(II)I" } : Jvm.MethodName)) ∈ lw_tbl := lw_at lw_m8 219 rfl
theorem q2012 : (Jvm.Cond.instanceMethod ({ cls := "NailedByWordModel", name := "freeing", desc := "(II)I" } : Jvm.MethodName)) ∈ lw_all := lw_g (lw_at lw_m8 220 rfl) rfl
theorem q2013 : (Jvm.Cond.code ({ cls := "NailedByWordModel", name := "freeing", desc := "(II)I" } : Jvm.MethodName) prog_25_method_113_code (4 : Nat) (Option.some Jvm.ClassFile.FieldType.int)) ∈ lw_all := lw_g (lw_at lw_m8 221 rfl) rfl
theorem q2014 : (Jvm.Cond.methodLink "NailedByWordModel" (455 : Nat) ({ cls := "NailedByWordModel", name := "heelFrees", desc := "(II)I" } : Jvm.MethodName)) ∈ lw_all := lw_g (lw_at lw_m8 222 rfl) rfl
theorem q2015 : (Jvm.Cond.privateMethod ({ cls := "NailedByWordModel", name := "heelFrees", desc := "(II)I" } : Jvm.MethodName)) ∈ lw_tbl := lw_at lw_m8 223 rfl
theorem q2016 : (Jvm.Cond.instanceMethod ({ cls := "NailedByWordModel", name := "heelFrees", desc := "(II)I" } : Jvm.MethodName)) ∈ lw_all := lw_g (lw_at lw_m8 224 rfl) rfl
theorem q2017 : (Jvm.Cond.code ({ cls := "NailedByWordModel", name := "heelFrees", desc := "(II)I" } : Jvm.MethodName) prog_25_method_112_code (3 : Nat) (Option.some Jvm.ClassFile.FieldType.int)) ∈ lw_all := lw_g (lw_at lw_m8 225 rfl) rfl
theorem q2018 : (Jvm.Cond.methodLink "NailedByWordModel" (452 : Nat) ({ cls := "NailedByWordModel", name := "plainFrees", desc := "(II)I" } : Jvm.MethodName)) ∈ lw_all := lw_g (lw_at lw_m8 226 rfl) rfl
theorem q2019 : (Jvm.Cond.privateMethod ({ cls := "NailedByWordModel", name := "plainFrees", desc := "(II)I" } : Jvm.MethodName)) ∈ lw_tbl := lw_at lw_m8 227 rfl
theorem q2020 : (Jvm.Cond.instanceMethod ({ cls := "NailedByWordModel", name := "plainFrees", desc := "(II)I" } : Jvm.MethodName)) ∈ lw_all := lw_g (lw_at lw_m8 228 rfl) rfl
theorem q2021 : (Jvm.Cond.code ({ cls := "NailedByWordModel", name := "plainFrees", desc := "(II)I" } : Jvm.MethodName) prog_25_method_111_code (3 : Nat) (Option.some Jvm.ClassFile.FieldType.int)) ∈ lw_all := lw_g (lw_at lw_m8 229 rfl) rfl
theorem q2022 : (Jvm.Cond.methodLink "NailedByWordModel" (467 : Nat) ({ cls := "NailedByWordModel", name := "telling", desc := "(II)I" } : Jvm.MethodName)) ∈ lw_all := lw_g (lw_at lw_m8 230 rfl) rfl
theorem q2023 : (Jvm.Cond.privateMethod ({ cls := "NailedByWordModel", name := "telling", desc := "(II)I" } : Jvm.MethodName)) ∈ lw_tbl := lw_at lw_m8 231 rfl
theorem q2024 : (Jvm.Cond.instanceMethod ({ cls := "NailedByWordModel", name := "telling", desc := "(II)I" } : Jvm.MethodName)) ∈ lw_all := lw_g (lw_at lw_m8 232 rfl) rfl
theorem q2025 : (Jvm.Cond.code ({ cls := "NailedByWordModel", name := "telling", desc := "(II)I" } : Jvm.MethodName) prog_25_method_115_code (3 : Nat) (Option.some Jvm.ClassFile.FieldType.int)) ∈ lw_all := lw_g (lw_at lw_m8 233 rfl) rfl
theorem q2026 : (Jvm.Cond.methodLink "NailedByWordModel" (461 : Nat) ({ cls := "NailedByWordModel", name := "plainTells", desc := "(II)I" } : Jvm.MethodName)) ∈ lw_all := lw_g (lw_at lw_m8 234 rfl) rfl
theorem q2027 : (Jvm.Cond.privateMethod ({ cls := "NailedByWordModel", name := "plainTells", desc := "(II)I" } : Jvm.MethodName)) ∈ lw_tbl := lw_at lw_m8 235 rfl
theorem q2028 : (Jvm.Cond.instanceMethod ({ cls := "NailedByWordModel", name := "plainTells", desc := "(II)I" } : Jvm.MethodName)) ∈ lw_all := lw_g (lw_at lw_m8 236 rfl) rfl
theorem q2029 : (Jvm.Cond.code ({ cls := "NailedByWordModel", name := "plainTells", desc := "(II)I" } : Jvm.MethodName) prog_25_method_114_code (4 : Nat) (Option.some Jvm.ClassFile.FieldType.int)) ∈ lw_all := lw_g (lw_at lw_m8 237 rfl) rfl
theorem q2031 : (Jvm.Cond.instanceMethod ({ cls := "NailedByWordModel", name := "count", desc := "(I)I" } : Jvm.MethodName)) ∈ lw_all := lw_g (lw_at lw_m8 239 rfl) rfl
theorem q2032 : (Jvm.Cond.selects "NailedByWordModel" ({ cls := "NailedByWordModel", name := "count", desc := "(I)I" } : Jvm.MethodName) ({ cls := "NailedByWordModel", name := "count", desc := "(I)I" } : Jvm.MethodName)) ∈ lw_all := lw_g (lw_at lw_m9 0 rfl) rfl
theorem q2033 : (Jvm.Cond.code ({ cls := "NailedByWordModel", name := "count", desc := "(I)I" } : Jvm.MethodName) prog_25_method_117_code (2 : Nat) (Option.some Jvm.ClassFile.FieldType.int)) ∈ lw_all := lw_g (lw_at lw_m9 1 rfl) rfl
theorem q2035 : (Jvm.Cond.instanceMethod ({ cls := "NailedByWordModel", name := "keep", desc := "(II)I" } : Jvm.MethodName)) ∈ lw_all := lw_g (lw_at lw_m9 3 rfl) rfl
theorem q2036 : (Jvm.Cond.selects "NailedByWordModel" ({ cls := "NailedByWordModel", name := "keep", desc := "(II)I" } : Jvm.MethodName) ({ cls := "NailedByWordModel", name := "keep", desc := "(II)I" } : Jvm.MethodName)) ∈ lw_all := lw_g (lw_at lw_m9 4 rfl) rfl
theorem q2037 : (Jvm.Cond.code ({ cls := "NailedByWordModel", name := "keep", desc := "(II)I" } : Jvm.MethodName) prog_25_method_119_code (3 : Nat) (Option.some Jvm.ClassFile.FieldType.int)) ∈ lw_all := lw_g (lw_at lw_m9 5 rfl) rfl
theorem q2039 : (Jvm.Cond.instanceMethod ({ cls := "NailedByWordModel", name := "row", desc := "(III)I" } : Jvm.MethodName)) ∈ lw_all := lw_g (lw_at lw_m9 7 rfl) rfl
theorem q2040 : (Jvm.Cond.selects "NailedByWordModel" ({ cls := "NailedByWordModel", name := "row", desc := "(III)I" } : Jvm.MethodName) ({ cls := "NailedByWordModel", name := "row", desc := "(III)I" } : Jvm.MethodName)) ∈ lw_all := lw_g (lw_at lw_m9 8 rfl) rfl
theorem q2041 : (Jvm.Cond.code ({ cls := "NailedByWordModel", name := "row", desc := "(III)I" } : Jvm.MethodName) prog_25_method_120_code (5 : Nat) (Option.some Jvm.ClassFile.FieldType.int)) ∈ lw_all := lw_g (lw_at lw_m9 9 rfl) rfl
theorem q2043 : (Jvm.Cond.instanceMethod ({ cls := "NailedByWordModel", name := "put", desc := "(IIJ)I" } : Jvm.MethodName)) ∈ lw_all := lw_g (lw_at lw_m9 11 rfl) rfl
theorem q2044 : (Jvm.Cond.selects "NailedByWordModel" ({ cls := "NailedByWordModel", name := "put", desc := "(IIJ)I" } : Jvm.MethodName) ({ cls := "NailedByWordModel", name := "put", desc := "(IIJ)I" } : Jvm.MethodName)) ∈ lw_all := lw_g (lw_at lw_m9 12 rfl) rfl
theorem q2045 : (Jvm.Cond.code ({ cls := "NailedByWordModel", name := "put", desc := "(IIJ)I" } : Jvm.MethodName) prog_25_method_122_code (7 : Nat) (Option.some Jvm.ClassFile.FieldType.int)) ∈ lw_all := lw_g (lw_at lw_m9 13 rfl) rfl
theorem q2046 : (Jvm.Cond.methodLink "NailedByWordModel" (470 : Nat) ({ cls := "NailedByWordModel", name := "whyNoPlace", desc := "(II)I" } : Jvm.MethodName)) ∈ lw_all := lw_g (lw_at lw_m9 14 rfl) rfl
theorem q2047 : (Jvm.Cond.privateMethod ({ cls := "NailedByWordModel", name := "whyNoPlace", desc := "(II)I" } : Jvm.MethodName)) ∈ lw_tbl := lw_at lw_m9 15 rfl
theorem q2048 : (Jvm.Cond.instanceMethod ({ cls := "NailedByWordModel", name := "whyNoPlace", desc := "(II)I" } : Jvm.MethodName)) ∈ lw_all := lw_g (lw_at lw_m9 16 rfl) rfl
theorem q2049 : (Jvm.Cond.code ({ cls := "NailedByWordModel", name := "whyNoPlace", desc := "(II)I" } : Jvm.MethodName) prog_25_method_121_code (3 : Nat) (Option.some Jvm.ClassFile.FieldType.int)) ∈ lw_all := lw_g (lw_at lw_m9 17 rfl) rfl
theorem q2051 : (Jvm.Cond.instanceMethod ({ cls := "NailedByWordModel", name := "element", desc := "(II)J" } : Jvm.MethodName)) ∈ lw_all := lw_g (lw_at lw_m9 19 rfl) rfl
theorem q2052 : (Jvm.Cond.selects "NailedByWordModel" ({ cls := "NailedByWordModel", name := "element", desc := "(II)J" } : Jvm.MethodName) ({ cls := "NailedByWordModel", name := "element", desc := "(II)J" } : Jvm.MethodName)) ∈ lw_all := lw_g (lw_at lw_m9 20 rfl) rfl
theorem q2053 : (Jvm.Cond.code ({ cls := "NailedByWordModel", name := "element", desc := "(II)J" } : Jvm.MethodName) prog_25_method_123_code (3 : Nat) (Option.some Jvm.ClassFile.FieldType.long)) ∈ lw_all := lw_g (lw_at lw_m9 21 rfl) rfl
theorem q2055 : (Jvm.Cond.instanceMethod ({ cls := "NailedByWordModel", name := "shift", desc := "(IIIII)I" } : Jvm.MethodName)) ∈ lw_all := lw_g (lw_at lw_m9 23 rfl) rfl
theorem q2056 : (Jvm.Cond.selects "NailedByWordModel" ({ cls := "NailedByWordModel", name := "shift", desc := "(IIIII)I" } : Jvm.MethodName) ({ cls := "NailedByWordModel", name := "shift", desc := "(IIIII)I" } : Jvm.MethodName)) ∈ lw_all := lw_g (lw_at lw_m9 24 rfl) rfl
theorem q2057 : (Jvm.Cond.code ({ cls := "NailedByWordModel", name := "shift", desc := "(IIIII)I" } : Jvm.MethodName) prog_25_method_124_code (7 : Nat) (Option.some Jvm.ClassFile.FieldType.int)) ∈ lw_all := lw_g (lw_at lw_m9 25 rfl) rfl
theorem q2059 : (Jvm.Cond.instanceMethod ({ cls := "NailedByWordModel", name := "taken", desc := "(II)I" } : Jvm.MethodName)) ∈ lw_all := lw_g (lw_at lw_m9 27 rfl) rfl
theorem q2060 : (Jvm.Cond.selects "NailedByWordModel" ({ cls := "NailedByWordModel", name := "taken", desc := "(II)I" } : Jvm.MethodName) ({ cls := "NailedByWordModel", name := "taken", desc := "(II)I" } : Jvm.MethodName)) ∈ lw_all := lw_g (lw_at lw_m9 28 rfl) rfl
theorem q2061 : (Jvm.Cond.code ({ cls := "NailedByWordModel", name := "taken", desc := "(II)I" } : Jvm.MethodName) prog_25_method_125_code (3 : Nat) (Option.some Jvm.ClassFile.FieldType.int)) ∈ lw_all := lw_g (lw_at lw_m9 29 rfl) rfl
theorem q2103 : (Jvm.Cond.castable "NailedByWordModel" "java/lang/Object") ∈ lw_tbl := lw_at lw_m9 71 rfl
theorem in_X5 : ∀ w ∈ wsX50, w ∈ lw_all := lw_in wsX50 [1445, 1447, 1449, 1451, 1453, 1455, 1457, 1459, 1461, 1463, 1465, 1467, 1469, 1471, 1473, 1475, 1477, 1479, 1481, 1483, 1485, 1487, 1489, 1491, 1493, 1495, 1497, 1499, 1501, 1503, 1505, 1507, 1509, 1511, 1513, 1515, 1517, 1519, 1521, 1523, 1525, 1527, 1529, 1531, 1533, 1535, 1537, 1539, 1541, 1543, 1545, 1547, 1549, 1551, 1553, 1555, 1557, 1559, 1561, 1563, 1565, 1567, 1569, 1571, 1573, 1575, 1577] (by decide +kernel) (by decide +kernel)
